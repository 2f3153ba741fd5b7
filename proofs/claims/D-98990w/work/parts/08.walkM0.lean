/-! WolfsHeadModel: walks, printed by gen/genm.py -/
set_option maxHeartbeats 4000000 in
theorem met_M_isIn {l : Launch} {g : gG} {x0 : Int32} {x1 : Int32} {x2 : Int32} {r : Int32} (hf : M_isIn x0 x1 x2 = some r) : CC l yX2_isIn (ws_ yX2_isIn cX2_isIn 3 (some .boolean)) ({ frames := 0, cells := 0, slots := 0, locals := 0 } : Room) g [.int x0, .int x1, .int x2] ([] : va_W) (some (.int r)) ([] : va_W) 0 0 := by
  refine CC.of RX2 rfl plain_X2 (Nat.le_of_ble_eq_true rfl) (fun p e s m below meth c A ls X hP hD hS hl => ?_)
  have hx := X.1
  have hb := X.2.1
  have hown := X.2.2.2.2.2.1
  have hts := X.2.2.2.2.2.2.1
  have hl : lv_has ls 3 [(0, .int x0), (1, .int x1), (2, .int x2)] := hl
  unfold M_isIn at hf
  refine lv_iload_n hx hb dX2_isIn_0 rfl (lv_at hl 0 rfl) ?_
  refine lv_iload_n hx hb dX2_isIn_1 rfl (lv_at hl 1 rfl) ?_
  refine bc_lt (tgt := 14) hx hb hf dX2_isIn_2 (by decide) (fun hf => ?_) (fun hf => ?_)
  · refine lv_iconst (v := 0) hx hb dX2_isIn_14 (by decide) ?_
    cases hf
    exact rZ X rfl hP hD hS dX2_isIn_15
  · refine lv_iload_n hx hb dX2_isIn_5 rfl (lv_at hl 0 rfl) ?_
    refine lv_iload_n hx hb dX2_isIn_6 rfl (lv_at hl 2 rfl) ?_
    refine bc_gt (tgt := 14) hx hb hf dX2_isIn_7 (by decide) (fun hf => ?_) (fun hf => ?_)
    · refine lv_iconst (v := 0) hx hb dX2_isIn_14 (by decide) ?_
      cases hf
      exact rZ X rfl hP hD hS dX2_isIn_15
    · refine lv_iconst (v := 1) hx hb dX2_isIn_10 (by decide) ?_
      refine lv_goto (tgt := 15) hx hb dX2_isIn_11 (by decide) ?_
      cases hf
      exact rZ X rfl hP hD hS dX2_isIn_15
theorem gs_X2_X2_isIn : GoodIn lw_all (va_wsS RX2 63 yX2_isIn (ws_ yX2_isIn cX2_isIn 3 (some .boolean))) := lw_S q1495 q1496 q148 q1497
theorem dy_X2_isIn : Dy yX2_isIn RX2 3 := by decide +kernel
set_option maxHeartbeats 4000000 in
theorem met_M_isLand {l : Launch} {g : gG} {h : Nat} {ad : Nat → Nat} {sTaped : Int32} {sFault : Int32} {sFaultP : Int32} {sAt : Int32} {sPlace : Int32} {sToken : Int32} {sNumber : Int32} {sWord : Int64} {sText0 : Int32} {sWritten : Int32} {sSort0 : Int32} {sPiled : Int32} {sOpens : Int32} {sWhole : Int32} {sOnce : Int32} {sIsW : Int32} {sDied : Int32} {cA : Nat → Int32} {cIm : Nat → Int32} {cTx : Nat → Int32} {cTp : Nat → Int32} {cPl : Nat → Int32} {cNm : Nat → Int32} {cVa : Nat → Int64} {cTr : Nat → Int32} {cAs : Nat → Int32} {cLi : Nat → Int32} {cSa : Nat → Int32} {cHd : Nat → Int32} {x1 : Int32} {r : Int32} (hf : M_isLand cA x1 = some r) : CC l yX2_isLand (ws_ yX2_isLand cX2_isLand 2 (some .boolean)) ({ frames := 1, cells := 0, slots := 0, locals := 22 } : Room) g [.ref h, .int x1] (mW g h ad sTaped sFault sFaultP sAt sPlace sToken sNumber sWord sText0 sWritten sSort0 sPiled sOpens sWhole sOnce sIsW sDied cA cIm cTx cTp cPl cNm cVa cTr cAs cLi cSa cHd) (some (.int r)) (mW g h ad sTaped sFault sFaultP sAt sPlace sToken sNumber sWord sText0 sWritten sSort0 sPiled sOpens sWhole sOnce sIsW sDied cA cIm cTx cTp cPl cNm cVa cTr cAs cLi cSa cHd) 0 0 := by
  refine CC.of RX2 rfl plain_X2 (Nat.le_of_ble_eq_true rfl) (fun p e s m below meth c A ls X hP hD hS hl => ?_)
  have hx := X.1
  have hb := X.2.1
  have hown := X.2.2.2.2.2.1
  have hts := X.2.2.2.2.2.2.1
  have hl : lv_has ls 2 [(0, .ref h), (1, .int x1)] := hl
  unfold M_isLand at hf
  refine lv_iload_n hx hb dX2_isLand_0 rfl (lv_at hl 1 rfl) ?_
  refine lv_iconst (v := 0) hx hb dX2_isLand_1 (by decide) ?_
  refine lv_aload_n hx hb dX2_isLand_2 rfl (lv_at hl 0 rfl) ?_
  refine gM0 X hP dX2_isLand_3 ?_
  refine lv_iconst (v := 0) hx hb dX2_isLand_6 (by decide) ?_
  obtain ⟨v1, ev1, bv1, hf⟩ := rds hf
  refine lM_cA X hP ev1 bv1 dX2_isLand_7 ?_
  refine lv_iconst (v := 1) hx hb dX2_isLand_8 (by decide) ?_
  refine lv_isub hx hb dX2_isLand_9 ?_
  obtain ⟨r2, k3, hf⟩ := bd1s hf
  refine cSi (rest := []) X (met_M_isIn (g := g) k3) gs_X2_X2_isIn dy_X2_isIn ⟨⟨rfl, rfl⟩, Nat.le_of_ble_eq_true rfl, Nat.le_of_ble_eq_true rfl⟩ hP hD hS hl.1 rfl rfl ⟨Nat.zero_le _, Nat.zero_le _⟩ (Nat.le_of_ble_eq_true rfl) dX2_isLand_10 (fun H locs hP hD hS => ?_)
  obtain ⟨hz, hf⟩ := zks hf
  cases hf
  exact rZ X hz hP hD hS dX2_isLand_13
set_option maxHeartbeats 4000000 in
theorem met_M_isWith {l : Launch} {g : gG} {x0 : Int32} {x1 : Int32} {r : Int32} (hf : M_isWith x0 x1 = some r) : CC l yX2_isWith (ws_ yX2_isWith cX2_isWith 2 (some .boolean)) ({ frames := 0, cells := 0, slots := 0, locals := 0 } : Room) g [.int x0, .int x1] ([] : va_W) (some (.int r)) ([] : va_W) 0 0 := by
  refine CC.of RX2 rfl plain_X2 (Nat.le_of_ble_eq_true rfl) (fun p e s m below meth c A ls X hP hD hS hl => ?_)
  have hx := X.1
  have hb := X.2.1
  have hown := X.2.2.2.2.2.1
  have hts := X.2.2.2.2.2.2.1
  have hl : lv_has ls 2 [(0, .int x0), (1, .int x1)] := hl
  unfold M_isWith at hf
  refine lv_iload_n hx hb dX2_isWith_0 rfl (lv_at hl 0 rfl) ?_
  refine lv_iload_n hx hb dX2_isWith_1 rfl (lv_at hl 1 rfl) ?_
  refine lv_ishr hx hb dX2_isWith_2 ?_
  refine lv_iconst (v := 1) hx hb dX2_isWith_3 (by decide) ?_
  refine lv_iand hx hb dX2_isWith_4 ?_
  refine lv_iconst (v := 1) hx hb dX2_isWith_5 (by decide) ?_
  refine bc_ne (tgt := 13) hx hb hf dX2_isWith_6 (by decide) (fun hf => ?_) (fun hf => ?_)
  · refine lv_iconst (v := 0) hx hb dX2_isWith_13 (by decide) ?_
    cases hf
    exact rZ X rfl hP hD hS dX2_isWith_14
  · refine lv_iconst (v := 1) hx hb dX2_isWith_9 (by decide) ?_
    refine lv_goto (tgt := 14) hx hb dX2_isWith_10 (by decide) ?_
    cases hf
    exact rZ X rfl hP hD hS dX2_isWith_14
set_option maxHeartbeats 4000000 in
theorem met_M_put {l : Launch} {g : gG} {h : Nat} {ad : Nat → Nat} {sTaped : Int32} {sFault : Int32} {sFaultP : Int32} {sAt : Int32} {sPlace : Int32} {sToken : Int32} {sNumber : Int32} {sWord : Int64} {sText0 : Int32} {sWritten : Int32} {sSort0 : Int32} {sPiled : Int32} {sOpens : Int32} {sWhole : Int32} {sOnce : Int32} {sIsW : Int32} {sDied : Int32} {cA : Nat → Int32} {cIm : Nat → Int32} {cTx : Nat → Int32} {cTp : Nat → Int32} {cPl : Nat → Int32} {cNm : Nat → Int32} {cVa : Nat → Int64} {cTr : Nat → Int32} {cAs : Nat → Int32} {cLi : Nat → Int32} {cSa : Nat → Int32} {cHd : Nat → Int32} {x1 : Int32} {x2 : Int32} {x3 : Int32} {ncA : Nat → Int32} (hf : M_put cA x1 x2 x3 = some ncA) : CC l yX2_put (ws_ yX2_put cX2_put 4 none) ({ frames := 0, cells := 0, slots := 0, locals := 0 } : Room) g [.ref h, .int x1, .int x2, .int x3] (mW g h ad sTaped sFault sFaultP sAt sPlace sToken sNumber sWord sText0 sWritten sSort0 sPiled sOpens sWhole sOnce sIsW sDied cA cIm cTx cTp cPl cNm cVa cTr cAs cLi cSa cHd) none (mW g h ad sTaped sFault sFaultP sAt sPlace sToken sNumber sWord sText0 sWritten sSort0 sPiled sOpens sWhole sOnce sIsW sDied ncA cIm cTx cTp cPl cNm cVa cTr cAs cLi cSa cHd) 0 0 := by
  refine CC.of RX2 rfl plain_X2 (Nat.le_of_ble_eq_true rfl) (fun p e s m below meth c A ls X hP hD hS hl => ?_)
  have hx := X.1
  have hb := X.2.1
  have hown := X.2.2.2.2.2.1
  have hts := X.2.2.2.2.2.2.1
  have hl : lv_has ls 4 [(0, .ref h), (1, .int x1), (2, .int x2), (3, .int x3)] := hl
  unfold M_put at hf
  refine lv_aload_n hx hb dX2_put_0 rfl (lv_at hl 0 rfl) ?_
  refine gM0 X hP dX2_put_1 ?_
  refine lv_bipush (v := 14) hx hb dX2_put_4 (by decide) ?_
  refine lv_bipush (v := 11) hx hb dX2_put_6 (by decide) ?_
  refine lv_iload_n hx hb dX2_put_8 rfl (lv_at hl 1 rfl) ?_
  refine lv_imul hx hb dX2_put_9 ?_
  refine lv_iadd hx hb dX2_put_10 ?_
  refine lv_iload_n hx hb dX2_put_11 rfl (lv_at hl 2 rfl) ?_
  refine lv_iadd hx hb dX2_put_12 ?_
  refine lv_iload_n hx hb dX2_put_13 rfl (lv_at hl 3 rfl) ?_
  obtain ⟨c1, ec1, bc1, hf⟩ := wrs hf
  refine sM_cA X hP hD hS ec1 bc1 dX2_put_14 (fun H locs hP hD hS => ?_)
  cases hf
  exact rV X hP hD hS dX2_put_15
set_option maxHeartbeats 4000000 in
theorem met_M_get {l : Launch} {g : gG} {h : Nat} {ad : Nat → Nat} {sTaped : Int32} {sFault : Int32} {sFaultP : Int32} {sAt : Int32} {sPlace : Int32} {sToken : Int32} {sNumber : Int32} {sWord : Int64} {sText0 : Int32} {sWritten : Int32} {sSort0 : Int32} {sPiled : Int32} {sOpens : Int32} {sWhole : Int32} {sOnce : Int32} {sIsW : Int32} {sDied : Int32} {cA : Nat → Int32} {cIm : Nat → Int32} {cTx : Nat → Int32} {cTp : Nat → Int32} {cPl : Nat → Int32} {cNm : Nat → Int32} {cVa : Nat → Int64} {cTr : Nat → Int32} {cAs : Nat → Int32} {cLi : Nat → Int32} {cSa : Nat → Int32} {cHd : Nat → Int32} {x1 : Int32} {x2 : Int32} {r : Int32} (hf : M_get cA x1 x2 = some r) : CC l yX2_get (ws_ yX2_get cX2_get 3 (some .int)) ({ frames := 0, cells := 0, slots := 0, locals := 0 } : Room) g [.ref h, .int x1, .int x2] (mW g h ad sTaped sFault sFaultP sAt sPlace sToken sNumber sWord sText0 sWritten sSort0 sPiled sOpens sWhole sOnce sIsW sDied cA cIm cTx cTp cPl cNm cVa cTr cAs cLi cSa cHd) (some (.int r)) (mW g h ad sTaped sFault sFaultP sAt sPlace sToken sNumber sWord sText0 sWritten sSort0 sPiled sOpens sWhole sOnce sIsW sDied cA cIm cTx cTp cPl cNm cVa cTr cAs cLi cSa cHd) 0 0 := by
  refine CC.of RX2 rfl plain_X2 (Nat.le_of_ble_eq_true rfl) (fun p e s m below meth c A ls X hP hD hS hl => ?_)
  have hx := X.1
  have hb := X.2.1
  have hown := X.2.2.2.2.2.1
  have hts := X.2.2.2.2.2.2.1
  have hl : lv_has ls 3 [(0, .ref h), (1, .int x1), (2, .int x2)] := hl
  unfold M_get at hf
  refine lv_aload_n hx hb dX2_get_0 rfl (lv_at hl 0 rfl) ?_
  refine gM0 X hP dX2_get_1 ?_
  refine lv_bipush (v := 14) hx hb dX2_get_4 (by decide) ?_
  refine lv_bipush (v := 11) hx hb dX2_get_6 (by decide) ?_
  refine lv_iload_n hx hb dX2_get_8 rfl (lv_at hl 1 rfl) ?_
  refine lv_imul hx hb dX2_get_9 ?_
  refine lv_iadd hx hb dX2_get_10 ?_
  refine lv_iload_n hx hb dX2_get_11 rfl (lv_at hl 2 rfl) ?_
  refine lv_iadd hx hb dX2_get_12 ?_
  obtain ⟨v1, ev1, bv1, hf⟩ := rds hf
  refine lM_cA X hP ev1 bv1 dX2_get_13 ?_
  cases hf
  exact rI X hP hD hS dX2_get_14
set_option maxHeartbeats 4000000 in
theorem met_M_four {l : Launch} {g : gG} {h : Nat} {ad : Nat → Nat} {sTaped : Int32} {sFault : Int32} {sFaultP : Int32} {sAt : Int32} {sPlace : Int32} {sToken : Int32} {sNumber : Int32} {sWord : Int64} {sText0 : Int32} {sWritten : Int32} {sSort0 : Int32} {sPiled : Int32} {sOpens : Int32} {sWhole : Int32} {sOnce : Int32} {sIsW : Int32} {sDied : Int32} {cA : Nat → Int32} {cIm : Nat → Int32} {cTx : Nat → Int32} {cTp : Nat → Int32} {cPl : Nat → Int32} {cNm : Nat → Int32} {cVa : Nat → Int64} {cTr : Nat → Int32} {cAs : Nat → Int32} {cLi : Nat → Int32} {cSa : Nat → Int32} {cHd : Nat → Int32} {x1 : Int32} {nsTaped : Int32} {ncTp : Nat → Int32} {φ : Nat} (hf : M_four φ sTaped cTp x1 = some (nsTaped, ncTp)) : CC l yX2_four (ws_ yX2_four cX2_four 3 none) ({ frames := 0, cells := 0, slots := 0, locals := 0 } : Room) g [.ref h, .int x1] (mW g h ad sTaped sFault sFaultP sAt sPlace sToken sNumber sWord sText0 sWritten sSort0 sPiled sOpens sWhole sOnce sIsW sDied cA cIm cTx cTp cPl cNm cVa cTr cAs cLi cSa cHd) none (mW g h ad nsTaped sFault sFaultP sAt sPlace sToken sNumber sWord sText0 sWritten sSort0 sPiled sOpens sWhole sOnce sIsW sDied cA cIm cTx ncTp cPl cNm cVa cTr cAs cLi cSa cHd) 0 0 := by
  refine CC.of RX2 rfl plain_X2 (Nat.le_of_ble_eq_true rfl) (fun p e s m below meth c A ls X hP hD hS hl => ?_)
  have hx := X.1
  have hb := X.2.1
  have hown := X.2.2.2.2.2.1
  have hts := X.2.2.2.2.2.2.1
  have hl : lv_has ls 3 [(0, .ref h), (1, .int x1)] := hl
  unfold M_four at hf
  refine lv_bipush (v := 24) hx hb dX2_four_0 (by decide) ?_
  refine lv_istore_n (lv' := [(2, .int 24), (0, .ref h), (1, .int x1)]) hx hb dX2_four_2 rfl hl (by decide) rfl (fun ls hl => ?_)
  obtain ⟨c4, c5, k10, hf⟩ := bd2s hf
  have hE7 : ∀ (H : Heap) (locs : List Loc) (ls : Array Slot), va_P g.1 vwCl (mW g h ad c4 sFault sFaultP sAt sPlace sToken sNumber sWord sText0 sWritten sSort0 sPiled sOpens sWhole sOnce sIsW sDied cA cIm cTx c5 cPl cNm cVa cTr cAs cLi cSa cHd) H → va_D A (mW g h ad c4 sFault sFaultP sAt sPlace sToken sNumber sWord sText0 sWritten sSort0 sPiled sOpens sWhole sOnce sIsW sDied cA cIm cTx c5 cPl cNm cVa cTr cAs cLi cSa cHd) → va_S A s.heap H locs → lv_has ls 3 [] → W p l e ({ frames := 0, cells := 0, slots := 0, locals := 0 } : Room) s m ([.ref h, .int x1] : List Value).toArray below meth c H locs 0 0 (MQ below (QQ g none (mW g h ad nsTaped sFault sFaultP sAt sPlace sToken sNumber sWord sText0 sWritten sSort0 sPiled sOpens sWhole sOnce sIsW sDied cA cIm cTx ncTp cPl cNm cVa cTr cAs cLi cSa cHd) A) ([.ref h, .int x1] : List Value).toArray s 0 0 A) (F0 m 39 ls []) := by
    intro H locs ls hP hD hS hl
    cases hf
    exact rV X hP hD hS dX2_four_39
  have hL8 : ∀ (n6 : Nat) (v1 : Int32) (c2 : Int32) (c3 : Nat → Int32), M_four_L3 φ x1 n6 v1 c2 c3 = some (c4, c5) → ∀ (H : Heap) (locs : List Loc) (ls : Array Slot), va_P g.1 vwCl (mW g h ad c2 sFault sFaultP sAt sPlace sToken sNumber sWord sText0 sWritten sSort0 sPiled sOpens sWhole sOnce sIsW sDied cA cIm cTx c3 cPl cNm cVa cTr cAs cLi cSa cHd) H → va_D A (mW g h ad c2 sFault sFaultP sAt sPlace sToken sNumber sWord sText0 sWritten sSort0 sPiled sOpens sWhole sOnce sIsW sDied cA cIm cTx c3 cPl cNm cVa cTr cAs cLi cSa cHd) → va_S A s.heap H locs → lv_has ls 3 [(0, .ref h), (1, .int x1), (2, .int v1)] → W p l e ({ frames := 0, cells := 0, slots := 0, locals := 0 } : Room) s m ([.ref h, .int x1] : List Value).toArray below meth c H locs 0 0 (MQ below (QQ g none (mW g h ad nsTaped sFault sFaultP sAt sPlace sToken sNumber sWord sText0 sWritten sSort0 sPiled sOpens sWhole sOnce sIsW sDied cA cIm cTx ncTp cPl cNm cVa cTr cAs cLi cSa cHd) A) ([.ref h, .int x1] : List Value).toArray s 0 0 A) (F0 m 3 ls []) := by
    intro n6
    induction n6 with
    | zero =>
      intro v1 c2 c3 hf
      exact nn hf
    | succ n6 ih9 =>
      intro v1 c2 c3 hf H locs ls hP hD hS hl
      rw [M_four_L3] at hf
      refine lv_iload_n hx hb dX2_four_3 rfl (lv_at hl 2 rfl) ?_
      refine bq_lt (tgt := 39) hx hb hf dX2_four_4 (by decide) (fun hf => ?_) (fun hf => ?_)
      · cases hf
        exact hE7 _ _ _ hP hD hS (lv_sub hl [] rfl)
      · refine lv_aload_n hx hb dX2_four_7 rfl (lv_at hl 0 rfl) ?_
        refine gM3 X hP dX2_four_8 ?_
        refine lv_aload_n hx hb dX2_four_11 rfl (lv_at hl 0 rfl) ?_
        refine gM4 X hP dX2_four_12 ?_
        refine lv_iload_n hx hb dX2_four_15 rfl (lv_at hl 1 rfl) ?_
        refine lv_iload_n hx hb dX2_four_16 rfl (lv_at hl 2 rfl) ?_
        refine lv_ishr hx hb dX2_four_17 ?_
        refine lv_sipush (v := 255) hx hb dX2_four_18 (by decide) ?_
        refine lv_iand hx hb dX2_four_21 ?_
        obtain ⟨v11, ev11, hf⟩ := lts hf
        refine tpi ev11 ?_
        obtain ⟨c12, ec12, bc12, hf⟩ := wrs hf
        refine sM_cTp X hP hD hS ec12 bc12 dX2_four_22 (fun H locs hP hD hS => ?_)
        refine lv_aload_n hx hb dX2_four_23 rfl (lv_at hl 0 rfl) ?_
        refine lv_dup hx hb dX2_four_24 rfl ?_
        refine gM4 X hP dX2_four_25 ?_
        refine lv_iconst (v := 1) hx hb dX2_four_28 (by decide) ?_
        refine lv_iadd hx hb dX2_four_29 ?_
        obtain ⟨v13, ev13, hf⟩ := lts hf
        refine tpi ev13 ?_
        refine pM4 X hP hD hS dX2_four_30 (fun H locs hP hD hS => ?_)
        obtain ⟨v14, ev14, hf⟩ := lts hf
        refine lv_iinc (v := v14) (lv' := [(2, .int v14), (0, .ref h), (1, .int x1)]) hx hb dX2_four_33 hl (k := 2) rfl (by rw [ev14]; rfl) (by decide) rfl (fun ls hl => ?_)
        refine lv_goto (tgt := 3) hx hb dX2_four_36 (by decide) ?_
        exact ih9 _ _ _ hf _ _ _ hP hD hS (lv_sub hl [1, 2, 0] rfl)
  exact hL8 _ _ _ _ k10 _ _ _ hP hD hS (lv_sub hl [1, 2, 0] rfl)
set_option maxHeartbeats 4000000 in
theorem met_M_end {l : Launch} {g : gG} {h : Nat} {ad : Nat → Nat} {sTaped : Int32} {sFault : Int32} {sFaultP : Int32} {sAt : Int32} {sPlace : Int32} {sToken : Int32} {sNumber : Int32} {sWord : Int64} {sText0 : Int32} {sWritten : Int32} {sSort0 : Int32} {sPiled : Int32} {sOpens : Int32} {sWhole : Int32} {sOnce : Int32} {sIsW : Int32} {sDied : Int32} {cA : Nat → Int32} {cIm : Nat → Int32} {cTx : Nat → Int32} {cTp : Nat → Int32} {cPl : Nat → Int32} {cNm : Nat → Int32} {cVa : Nat → Int64} {cTr : Nat → Int32} {cAs : Nat → Int32} {cLi : Nat → Int32} {cSa : Nat → Int32} {cHd : Nat → Int32} {x1 : Int32} {r : Int32} {nsTaped : Int32} (hf : M_end sTaped x1 = some (r, nsTaped)) : CC l yX2_end (ws_ yX2_end cX2_end 2 (some .int)) ({ frames := 1, cells := 0, slots := 0, locals := 22 } : Room) g [.ref h, .int x1] (mW g h ad sTaped sFault sFaultP sAt sPlace sToken sNumber sWord sText0 sWritten sSort0 sPiled sOpens sWhole sOnce sIsW sDied cA cIm cTx cTp cPl cNm cVa cTr cAs cLi cSa cHd) (some (.int r)) (mW g h ad nsTaped sFault sFaultP sAt sPlace sToken sNumber sWord sText0 sWritten sSort0 sPiled sOpens sWhole sOnce sIsW sDied cA cIm cTx cTp cPl cNm cVa cTr cAs cLi cSa cHd) 0 0 := by
  refine CC.of RX2 rfl plain_X2 (Nat.le_of_ble_eq_true rfl) (fun p e s m below meth c A ls X hP hD hS hl => ?_)
  have hx := X.1
  have hb := X.2.1
  have hown := X.2.2.2.2.2.1
  have hts := X.2.2.2.2.2.2.1
  have hl : lv_has ls 2 [(0, .ref h), (1, .int x1)] := hl
  unfold M_end at hf
  refine lv_iload_n hx hb dX2_end_0 rfl (lv_at hl 1 rfl) ?_
  refine lv_iconst (v := 0) hx hb dX2_end_1 (by decide) ?_
  refine lv_aload_n hx hb dX2_end_2 rfl (lv_at hl 0 rfl) ?_
  refine gM4 X hP dX2_end_3 ?_
  obtain ⟨r1, k2, hf⟩ := bd1s hf
  refine cSi (rest := []) X (met_M_isIn (g := g) k2) gs_X2_X2_isIn dy_X2_isIn ⟨⟨rfl, rfl⟩, Nat.le_of_ble_eq_true rfl, Nat.le_of_ble_eq_true rfl⟩ hP hD hS hl.1 rfl rfl ⟨Nat.zero_le _, Nat.zero_le _⟩ (Nat.le_of_ble_eq_true rfl) dX2_end_6 (fun H locs hP hD hS => ?_)
  refine bq_ne (tgt := 14) hx hb hf dX2_end_9 (by decide) (fun hf => ?_) (fun hf => ?_)
  · refine lv_aload_n hx hb dX2_end_14 rfl (lv_at hl 0 rfl) ?_
    refine lv_iload_n hx hb dX2_end_15 rfl (lv_at hl 1 rfl) ?_
    refine pM4 X hP hD hS dX2_end_16 (fun H locs hP hD hS => ?_)
    refine lv_iload_n hx hb dX2_end_19 rfl (lv_at hl 1 rfl) ?_
    cases hf
    exact rI X hP hD hS dX2_end_20
  · refine lv_iconst (v := (-1)) hx hb dX2_end_12 (by decide) ?_
    cases hf
    exact rI X hP hD hS dX2_end_13
set_option maxHeartbeats 4000000 in
theorem met_M_byteAt {l : Launch} {g : gG} {h : Nat} {ad : Nat → Nat} {sTaped : Int32} {sFault : Int32} {sFaultP : Int32} {sAt : Int32} {sPlace : Int32} {sToken : Int32} {sNumber : Int32} {sWord : Int64} {sText0 : Int32} {sWritten : Int32} {sSort0 : Int32} {sPiled : Int32} {sOpens : Int32} {sWhole : Int32} {sOnce : Int32} {sIsW : Int32} {sDied : Int32} {cA : Nat → Int32} {cIm : Nat → Int32} {cTx : Nat → Int32} {cTp : Nat → Int32} {cPl : Nat → Int32} {cNm : Nat → Int32} {cVa : Nat → Int64} {cTr : Nat → Int32} {cAs : Nat → Int32} {cLi : Nat → Int32} {cSa : Nat → Int32} {cHd : Nat → Int32} {x1 : Int32} {r : Int32} (hf : M_byteAt sTaped cTp x1 = some r) : CC l yX2_byteAt (ws_ yX2_byteAt cX2_byteAt 2 (some .int)) ({ frames := 0, cells := 0, slots := 0, locals := 0 } : Room) g [.ref h, .int x1] (mW g h ad sTaped sFault sFaultP sAt sPlace sToken sNumber sWord sText0 sWritten sSort0 sPiled sOpens sWhole sOnce sIsW sDied cA cIm cTx cTp cPl cNm cVa cTr cAs cLi cSa cHd) (some (.int r)) (mW g h ad sTaped sFault sFaultP sAt sPlace sToken sNumber sWord sText0 sWritten sSort0 sPiled sOpens sWhole sOnce sIsW sDied cA cIm cTx cTp cPl cNm cVa cTr cAs cLi cSa cHd) 0 0 := by
  refine CC.of RX2 rfl plain_X2 (Nat.le_of_ble_eq_true rfl) (fun p e s m below meth c A ls X hP hD hS hl => ?_)
  have hx := X.1
  have hb := X.2.1
  have hown := X.2.2.2.2.2.1
  have hts := X.2.2.2.2.2.2.1
  have hl : lv_has ls 2 [(0, .ref h), (1, .int x1)] := hl
  unfold M_byteAt at hf
  refine lv_iload_n hx hb dX2_byteAt_0 rfl (lv_at hl 1 rfl) ?_
  refine lv_aload_n hx hb dX2_byteAt_1 rfl (lv_at hl 0 rfl) ?_
  refine gM4 X hP dX2_byteAt_2 ?_
  refine bc_ge (tgt := 17) hx hb hf dX2_byteAt_5 (by decide) (fun hf => ?_) (fun hf => ?_)
  · refine lv_iconst (v := (-1)) hx hb dX2_byteAt_17 (by decide) ?_
    cases hf
    exact rI X hP hD hS dX2_byteAt_18
  · refine lv_aload_n hx hb dX2_byteAt_8 rfl (lv_at hl 0 rfl) ?_
    refine gM3 X hP dX2_byteAt_9 ?_
    refine lv_iload_n hx hb dX2_byteAt_12 rfl (lv_at hl 1 rfl) ?_
    obtain ⟨v1, ev1, bv1, hf⟩ := rds hf
    refine lM_cTp X hP ev1 bv1 dX2_byteAt_13 ?_
    refine lv_goto (tgt := 18) hx hb dX2_byteAt_14 (by decide) ?_
    cases hf
    exact rI X hP hD hS dX2_byteAt_18
set_option maxHeartbeats 4000000 in
theorem met_M_isFigure {l : Launch} {g : gG} {x0 : Int32} {r : Int32} (hf : M_isFigure x0 = some r) : CC l yX2_isFigure (ws_ yX2_isFigure cX2_isFigure 1 (some .boolean)) ({ frames := 0, cells := 0, slots := 0, locals := 0 } : Room) g [.int x0] ([] : va_W) (some (.int r)) ([] : va_W) 0 0 := by
  refine CC.of RX2 rfl plain_X2 (Nat.le_of_ble_eq_true rfl) (fun p e s m below meth c A ls X hP hD hS hl => ?_)
  have hx := X.1
  have hb := X.2.1
  have hown := X.2.2.2.2.2.1
  have hts := X.2.2.2.2.2.2.1
  have hl : lv_has ls 1 [(0, .int x0)] := hl
  unfold M_isFigure at hf
  refine lv_iload_n hx hb dX2_isFigure_0 rfl (lv_at hl 0 rfl) ?_
  refine lv_bipush (v := 48) hx hb dX2_isFigure_1 (by decide) ?_
  refine bc_lt (tgt := 16) hx hb hf dX2_isFigure_3 (by decide) (fun hf => ?_) (fun hf => ?_)
  · refine lv_iconst (v := 0) hx hb dX2_isFigure_16 (by decide) ?_
    cases hf
    exact rZ X rfl hP hD hS dX2_isFigure_17
  · refine lv_iload_n hx hb dX2_isFigure_6 rfl (lv_at hl 0 rfl) ?_
    refine lv_bipush (v := 57) hx hb dX2_isFigure_7 (by decide) ?_
    refine bc_gt (tgt := 16) hx hb hf dX2_isFigure_9 (by decide) (fun hf => ?_) (fun hf => ?_)
    · refine lv_iconst (v := 0) hx hb dX2_isFigure_16 (by decide) ?_
      cases hf
      exact rZ X rfl hP hD hS dX2_isFigure_17
    · refine lv_iconst (v := 1) hx hb dX2_isFigure_12 (by decide) ?_
      refine lv_goto (tgt := 17) hx hb dX2_isFigure_13 (by decide) ?_
      cases hf
      exact rZ X rfl hP hD hS dX2_isFigure_17
set_option maxHeartbeats 4000000 in
theorem met_M_isLetterByte {l : Launch} {g : gG} {x0 : Int32} {r : Int32} (hf : M_isLetterByte x0 = some r) : CC l yX2_isLetterByte (ws_ yX2_isLetterByte cX2_isLetterByte 1 (some .boolean)) ({ frames := 0, cells := 0, slots := 0, locals := 0 } : Room) g [.int x0] ([] : va_W) (some (.int r)) ([] : va_W) 0 0 := by
  refine CC.of RX2 rfl plain_X2 (Nat.le_of_ble_eq_true rfl) (fun p e s m below meth c A ls X hP hD hS hl => ?_)
  have hx := X.1
  have hb := X.2.1
  have hown := X.2.2.2.2.2.1
  have hts := X.2.2.2.2.2.2.1
  have hl : lv_has ls 1 [(0, .int x0)] := hl
  unfold M_isLetterByte at hf
  refine lv_iload_n hx hb dX2_isLetterByte_0 rfl (lv_at hl 0 rfl) ?_
  refine lv_bipush (v := 97) hx hb dX2_isLetterByte_1 (by decide) ?_
  obtain ⟨k1, ek1, hf⟩ := jns hf
  have hj2 : k1 = some r → ∀ (H : Heap) (locs : List Loc) (ls : Array Slot), va_P g.1 vwCl ([] : va_W) H → va_D A ([] : va_W) → va_S A s.heap H locs → lv_has ls 1 [(0, .int x0)] → W p l e ({ frames := 0, cells := 0, slots := 0, locals := 0 } : Room) s m ([.int x0] : List Value).toArray below meth c H locs 0 0 (MQ below (QQ g (some (.int r)) ([] : va_W) A) ([.int x0] : List Value).toArray s 0 0 A) (F0 m 12 ls []) := by
    intro hf H locs ls hP hD hS hl
    rw [ek1] at hf
    refine lv_iload_n hx hb dX2_isLetterByte_12 rfl (lv_at hl 0 rfl) ?_
    refine lv_bipush (v := 65) hx hb dX2_isLetterByte_13 (by decide) ?_
    refine bc_lt (tgt := 28) hx hb hf dX2_isLetterByte_15 (by decide) (fun hf => ?_) (fun hf => ?_)
    · refine lv_iconst (v := 0) hx hb dX2_isLetterByte_28 (by decide) ?_
      cases hf
      exact rZ X rfl hP hD hS dX2_isLetterByte_29
    · refine lv_iload_n hx hb dX2_isLetterByte_18 rfl (lv_at hl 0 rfl) ?_
      refine lv_bipush (v := 90) hx hb dX2_isLetterByte_19 (by decide) ?_
      refine bc_gt (tgt := 28) hx hb hf dX2_isLetterByte_21 (by decide) (fun hf => ?_) (fun hf => ?_)
      · refine lv_iconst (v := 0) hx hb dX2_isLetterByte_28 (by decide) ?_
        cases hf
        exact rZ X rfl hP hD hS dX2_isLetterByte_29
      · refine lv_iconst (v := 1) hx hb dX2_isLetterByte_24 (by decide) ?_
        refine lv_goto (tgt := 29) hx hb dX2_isLetterByte_25 (by decide) ?_
        cases hf
        exact rZ X rfl hP hD hS dX2_isLetterByte_29
  clear ek1
  refine bc_lt (tgt := 12) hx hb hf dX2_isLetterByte_3 (by decide) (fun hf => ?_) (fun hf => ?_)
  · exact hj2 hf _ _ _ hP hD hS (lv_sub hl [0] rfl)
  · refine lv_iload_n hx hb dX2_isLetterByte_6 rfl (lv_at hl 0 rfl) ?_
    refine lv_bipush (v := 122) hx hb dX2_isLetterByte_7 (by decide) ?_
    refine bc_le (tgt := 24) hx hb hf dX2_isLetterByte_9 (by decide) (fun hf => ?_) (fun hf => ?_)
    · refine lv_iconst (v := 1) hx hb dX2_isLetterByte_24 (by decide) ?_
      refine lv_goto (tgt := 29) hx hb dX2_isLetterByte_25 (by decide) ?_
      cases hf
      exact rZ X rfl hP hD hS dX2_isLetterByte_29
    · exact hj2 hf _ _ _ hP hD hS (lv_sub hl [0] rfl)
set_option maxHeartbeats 4000000 in
theorem met_M_isSign {l : Launch} {g : gG} {x0 : Int32} {r : Int32} (hf : M_isSign x0 = some r) : CC l yX2_isSign (ws_ yX2_isSign cX2_isSign 1 (some .boolean)) ({ frames := 0, cells := 0, slots := 0, locals := 0 } : Room) g [.int x0] ([] : va_W) (some (.int r)) ([] : va_W) 0 0 := by
  refine CC.of RX2 rfl plain_X2 (Nat.le_of_ble_eq_true rfl) (fun p e s m below meth c A ls X hP hD hS hl => ?_)
  have hx := X.1
  have hb := X.2.1
  have hown := X.2.2.2.2.2.1
  have hts := X.2.2.2.2.2.2.1
  have hl : lv_has ls 1 [(0, .int x0)] := hl
  unfold M_isSign at hf
  refine lv_iload_n hx hb dX2_isSign_0 rfl (lv_at hl 0 rfl) ?_
  refine swc hf (fun q hf => ?_) (fun q0 hf => ?_)
  · refine lv_tableOut (tgt := 130) hx hb dX2_isSign_1 (Or.inl q) (by decide) ?_
    refine lv_iconst (v := 0) hx hb dX2_isSign_130 (by decide) ?_
    cases hf
    exact rZ X rfl hP hD hS dX2_isSign_131
  refine swc hf (fun q hf => ?_) (fun q1 hf => ?_)
  · refine lv_tableOut (tgt := 130) hx hb dX2_isSign_1 (Or.inr q) (by decide) ?_
    refine lv_iconst (v := 0) hx hb dX2_isSign_130 (by decide) ?_
    cases hf
    exact rZ X rfl hP hD hS dX2_isSign_131
  refine swc hf (fun q hf => ?_) (fun q2 hf => ?_)
  · refine lv_tableIn (off := 127) (tgt := 128) hx hb dX2_isSign_1 q0 q1 (by rw [q]; rfl) (by decide) ?_
    refine lv_iconst (v := 1) hx hb dX2_isSign_128 (by decide) ?_
    cases hf
    exact rZ X rfl hP hD hS dX2_isSign_129
  refine swc hf (fun q hf => ?_) (fun q2 hf => ?_)
  · refine lv_tableIn (off := 129) (tgt := 130) hx hb dX2_isSign_1 q0 q1 (by rw [q]; rfl) (by decide) ?_
    refine lv_iconst (v := 0) hx hb dX2_isSign_130 (by decide) ?_
    cases hf
    exact rZ X rfl hP hD hS dX2_isSign_131
  refine swc hf (fun q hf => ?_) (fun q2 hf => ?_)
  · refine lv_tableIn (off := 129) (tgt := 130) hx hb dX2_isSign_1 q0 q1 (by rw [q]; rfl) (by decide) ?_
    refine lv_iconst (v := 0) hx hb dX2_isSign_130 (by decide) ?_
    cases hf
    exact rZ X rfl hP hD hS dX2_isSign_131
  refine swc hf (fun q hf => ?_) (fun q2 hf => ?_)
  · refine lv_tableIn (off := 129) (tgt := 130) hx hb dX2_isSign_1 q0 q1 (by rw [q]; rfl) (by decide) ?_
    refine lv_iconst (v := 0) hx hb dX2_isSign_130 (by decide) ?_
    cases hf
    exact rZ X rfl hP hD hS dX2_isSign_131
  refine swc hf (fun q hf => ?_) (fun q2 hf => ?_)
  · refine lv_tableIn (off := 129) (tgt := 130) hx hb dX2_isSign_1 q0 q1 (by rw [q]; rfl) (by decide) ?_
    refine lv_iconst (v := 0) hx hb dX2_isSign_130 (by decide) ?_
    cases hf
    exact rZ X rfl hP hD hS dX2_isSign_131
  refine swc hf (fun q hf => ?_) (fun q2 hf => ?_)
  · refine lv_tableIn (off := 127) (tgt := 128) hx hb dX2_isSign_1 q0 q1 (by rw [q]; rfl) (by decide) ?_
    refine lv_iconst (v := 1) hx hb dX2_isSign_128 (by decide) ?_
    cases hf
    exact rZ X rfl hP hD hS dX2_isSign_129
  refine swc hf (fun q hf => ?_) (fun q2 hf => ?_)
  · refine lv_tableIn (off := 127) (tgt := 128) hx hb dX2_isSign_1 q0 q1 (by rw [q]; rfl) (by decide) ?_
    refine lv_iconst (v := 1) hx hb dX2_isSign_128 (by decide) ?_
    cases hf
    exact rZ X rfl hP hD hS dX2_isSign_129
  refine swc hf (fun q hf => ?_) (fun q2 hf => ?_)
  · refine lv_tableIn (off := 127) (tgt := 128) hx hb dX2_isSign_1 q0 q1 (by rw [q]; rfl) (by decide) ?_
    refine lv_iconst (v := 1) hx hb dX2_isSign_128 (by decide) ?_
    cases hf
    exact rZ X rfl hP hD hS dX2_isSign_129
  refine swc hf (fun q hf => ?_) (fun q2 hf => ?_)
  · refine lv_tableIn (off := 127) (tgt := 128) hx hb dX2_isSign_1 q0 q1 (by rw [q]; rfl) (by decide) ?_
    refine lv_iconst (v := 1) hx hb dX2_isSign_128 (by decide) ?_
    cases hf
    exact rZ X rfl hP hD hS dX2_isSign_129
  refine swc hf (fun q hf => ?_) (fun q2 hf => ?_)
  · refine lv_tableIn (off := 129) (tgt := 130) hx hb dX2_isSign_1 q0 q1 (by rw [q]; rfl) (by decide) ?_
    refine lv_iconst (v := 0) hx hb dX2_isSign_130 (by decide) ?_
    cases hf
    exact rZ X rfl hP hD hS dX2_isSign_131
  refine swc hf (fun q hf => ?_) (fun q2 hf => ?_)
  · refine lv_tableIn (off := 127) (tgt := 128) hx hb dX2_isSign_1 q0 q1 (by rw [q]; rfl) (by decide) ?_
    refine lv_iconst (v := 1) hx hb dX2_isSign_128 (by decide) ?_
    cases hf
    exact rZ X rfl hP hD hS dX2_isSign_129
  refine swc hf (fun q hf => ?_) (fun q2 hf => ?_)
  · refine lv_tableIn (off := 129) (tgt := 130) hx hb dX2_isSign_1 q0 q1 (by rw [q]; rfl) (by decide) ?_
    refine lv_iconst (v := 0) hx hb dX2_isSign_130 (by decide) ?_
    cases hf
    exact rZ X rfl hP hD hS dX2_isSign_131
  refine swc hf (fun q hf => ?_) (fun q2 hf => ?_)
  · refine lv_tableIn (off := 127) (tgt := 128) hx hb dX2_isSign_1 q0 q1 (by rw [q]; rfl) (by decide) ?_
    refine lv_iconst (v := 1) hx hb dX2_isSign_128 (by decide) ?_
    cases hf
    exact rZ X rfl hP hD hS dX2_isSign_129
  refine swc hf (fun q hf => ?_) (fun q2 hf => ?_)
  · refine lv_tableIn (off := 129) (tgt := 130) hx hb dX2_isSign_1 q0 q1 (by rw [q]; rfl) (by decide) ?_
    refine lv_iconst (v := 0) hx hb dX2_isSign_130 (by decide) ?_
    cases hf
    exact rZ X rfl hP hD hS dX2_isSign_131
  refine swc hf (fun q hf => ?_) (fun q2 hf => ?_)
  · refine lv_tableIn (off := 129) (tgt := 130) hx hb dX2_isSign_1 q0 q1 (by rw [q]; rfl) (by decide) ?_
    refine lv_iconst (v := 0) hx hb dX2_isSign_130 (by decide) ?_
    cases hf
    exact rZ X rfl hP hD hS dX2_isSign_131
  refine swc hf (fun q hf => ?_) (fun q2 hf => ?_)
  · refine lv_tableIn (off := 129) (tgt := 130) hx hb dX2_isSign_1 q0 q1 (by rw [q]; rfl) (by decide) ?_
    refine lv_iconst (v := 0) hx hb dX2_isSign_130 (by decide) ?_
    cases hf
    exact rZ X rfl hP hD hS dX2_isSign_131
  refine swc hf (fun q hf => ?_) (fun q2 hf => ?_)
  · refine lv_tableIn (off := 129) (tgt := 130) hx hb dX2_isSign_1 q0 q1 (by rw [q]; rfl) (by decide) ?_
    refine lv_iconst (v := 0) hx hb dX2_isSign_130 (by decide) ?_
    cases hf
    exact rZ X rfl hP hD hS dX2_isSign_131
  refine swc hf (fun q hf => ?_) (fun q2 hf => ?_)
  · refine lv_tableIn (off := 129) (tgt := 130) hx hb dX2_isSign_1 q0 q1 (by rw [q]; rfl) (by decide) ?_
    refine lv_iconst (v := 0) hx hb dX2_isSign_130 (by decide) ?_
    cases hf
    exact rZ X rfl hP hD hS dX2_isSign_131
  refine swc hf (fun q hf => ?_) (fun q2 hf => ?_)
  · refine lv_tableIn (off := 129) (tgt := 130) hx hb dX2_isSign_1 q0 q1 (by rw [q]; rfl) (by decide) ?_
    refine lv_iconst (v := 0) hx hb dX2_isSign_130 (by decide) ?_
    cases hf
    exact rZ X rfl hP hD hS dX2_isSign_131
  refine swc hf (fun q hf => ?_) (fun q2 hf => ?_)
  · refine lv_tableIn (off := 129) (tgt := 130) hx hb dX2_isSign_1 q0 q1 (by rw [q]; rfl) (by decide) ?_
    refine lv_iconst (v := 0) hx hb dX2_isSign_130 (by decide) ?_
    cases hf
    exact rZ X rfl hP hD hS dX2_isSign_131
  refine swc hf (fun q hf => ?_) (fun q2 hf => ?_)
  · refine lv_tableIn (off := 129) (tgt := 130) hx hb dX2_isSign_1 q0 q1 (by rw [q]; rfl) (by decide) ?_
    refine lv_iconst (v := 0) hx hb dX2_isSign_130 (by decide) ?_
    cases hf
    exact rZ X rfl hP hD hS dX2_isSign_131
  refine swc hf (fun q hf => ?_) (fun q2 hf => ?_)
  · refine lv_tableIn (off := 129) (tgt := 130) hx hb dX2_isSign_1 q0 q1 (by rw [q]; rfl) (by decide) ?_
    refine lv_iconst (v := 0) hx hb dX2_isSign_130 (by decide) ?_
    cases hf
    exact rZ X rfl hP hD hS dX2_isSign_131
  refine swc hf (fun q hf => ?_) (fun q2 hf => ?_)
  · refine lv_tableIn (off := 129) (tgt := 130) hx hb dX2_isSign_1 q0 q1 (by rw [q]; rfl) (by decide) ?_
    refine lv_iconst (v := 0) hx hb dX2_isSign_130 (by decide) ?_
    cases hf
    exact rZ X rfl hP hD hS dX2_isSign_131
  refine swc hf (fun q hf => ?_) (fun q2 hf => ?_)
  · refine lv_tableIn (off := 127) (tgt := 128) hx hb dX2_isSign_1 q0 q1 (by rw [q]; rfl) (by decide) ?_
    refine lv_iconst (v := 1) hx hb dX2_isSign_128 (by decide) ?_
    cases hf
    exact rZ X rfl hP hD hS dX2_isSign_129
  refine swc hf (fun q hf => ?_) (fun q2 hf => ?_)
  · refine lv_tableIn (off := 127) (tgt := 128) hx hb dX2_isSign_1 q0 q1 (by rw [q]; rfl) (by decide) ?_
    refine lv_iconst (v := 1) hx hb dX2_isSign_128 (by decide) ?_
    cases hf
    exact rZ X rfl hP hD hS dX2_isSign_129
  refine swc hf (fun q hf => ?_) (fun q2 hf => ?_)
  · refine lv_tableIn (off := 127) (tgt := 128) hx hb dX2_isSign_1 q0 q1 (by rw [q]; rfl) (by decide) ?_
    refine lv_iconst (v := 1) hx hb dX2_isSign_128 (by decide) ?_
    cases hf
    exact rZ X rfl hP hD hS dX2_isSign_129
  refine swc hf (fun q hf => ?_) (fun q2 hf => ?_)
  · refine lv_tableIn (off := 127) (tgt := 128) hx hb dX2_isSign_1 q0 q1 (by rw [q]; rfl) (by decide) ?_
    refine lv_iconst (v := 1) hx hb dX2_isSign_128 (by decide) ?_
    cases hf
    exact rZ X rfl hP hD hS dX2_isSign_129
  refine swc hf (fun q hf => ?_) (fun q2 hf => ?_)
  · refine lv_tableIn (off := 127) (tgt := 128) hx hb dX2_isSign_1 q0 q1 (by rw [q]; rfl) (by decide) ?_
    refine lv_iconst (v := 1) hx hb dX2_isSign_128 (by decide) ?_
    cases hf
    exact rZ X rfl hP hD hS dX2_isSign_129
  exact nn hf
set_option maxHeartbeats 4000000 in
theorem met_M_w2 {l : Launch} {g : gG} {x0 : Int32} {x1 : Int32} {r : Int64} (hf : M_w2 x0 x1 = some r) : CC l yX2_w2 (ws_ yX2_w2 cX2_w2 2 (some .long)) ({ frames := 0, cells := 0, slots := 0, locals := 0 } : Room) g [.int x0, .int x1] ([] : va_W) (some (.long r)) ([] : va_W) 0 0 := by
  refine CC.of RX2 rfl plain_X2 (Nat.le_of_ble_eq_true rfl) (fun p e s m below meth c A ls X hP hD hS hl => ?_)
  have hx := X.1
  have hb := X.2.1
  have hown := X.2.2.2.2.2.1
  have hts := X.2.2.2.2.2.2.1
  have hl : lv_has ls 2 [(0, .int x0), (1, .int x1)] := hl
  unfold M_w2 at hf
  refine lv_iload_n hx hb dX2_w2_0 rfl (lv_at hl 0 rfl) ?_
  refine lv_i2l hx hb dX2_w2_1 rfl ?_
  refine lv_bipush (v := 8) hx hb dX2_w2_2 (by decide) ?_
  refine lv_lshl hx hb dX2_w2_4 rfl ?_
  refine lv_iload_n hx hb dX2_w2_5 rfl (lv_at hl 1 rfl) ?_
  refine lv_i2l hx hb dX2_w2_6 rfl ?_
  refine lv_lor hx hb dX2_w2_7 ?_
  cases hf
  exact rL X hP hD hS dX2_w2_8
set_option maxHeartbeats 4000000 in
theorem met_M_isWord {l : Launch} {g : gG} {h : Nat} {ad : Nat → Nat} {sTaped : Int32} {sFault : Int32} {sFaultP : Int32} {sAt : Int32} {sPlace : Int32} {sToken : Int32} {sNumber : Int32} {sWord : Int64} {sText0 : Int32} {sWritten : Int32} {sSort0 : Int32} {sPiled : Int32} {sOpens : Int32} {sWhole : Int32} {sOnce : Int32} {sIsW : Int32} {sDied : Int32} {cA : Nat → Int32} {cIm : Nat → Int32} {cTx : Nat → Int32} {cTp : Nat → Int32} {cPl : Nat → Int32} {cNm : Nat → Int32} {cVa : Nat → Int64} {cTr : Nat → Int32} {cAs : Nat → Int32} {cLi : Nat → Int32} {cSa : Nat → Int32} {cHd : Nat → Int32} {x1 : Int64} {r : Int32} (hf : M_isWord sToken sWord x1 = some r) : CC l yX2_isWord (ws_ yX2_isWord cX2_isWord 3 (some .boolean)) ({ frames := 0, cells := 0, slots := 0, locals := 0 } : Room) g [.ref h, .long x1] (mW g h ad sTaped sFault sFaultP sAt sPlace sToken sNumber sWord sText0 sWritten sSort0 sPiled sOpens sWhole sOnce sIsW sDied cA cIm cTx cTp cPl cNm cVa cTr cAs cLi cSa cHd) (some (.int r)) (mW g h ad sTaped sFault sFaultP sAt sPlace sToken sNumber sWord sText0 sWritten sSort0 sPiled sOpens sWhole sOnce sIsW sDied cA cIm cTx cTp cPl cNm cVa cTr cAs cLi cSa cHd) 0 0 := by
  refine CC.of RX2 rfl plain_X2 (Nat.le_of_ble_eq_true rfl) (fun p e s m below meth c A ls X hP hD hS hl => ?_)
  have hx := X.1
  have hb := X.2.1
  have hown := X.2.2.2.2.2.1
  have hts := X.2.2.2.2.2.2.1
  have hl : lv_has ls 3 [(0, .ref h), (1, .long x1)] := hl
  unfold M_isWord at hf
  refine lv_aload_n hx hb dX2_isWord_0 rfl (lv_at hl 0 rfl) ?_
  refine gM9 X hP dX2_isWord_1 ?_
  refine lv_iconst (v := 2) hx hb dX2_isWord_4 (by decide) ?_
  refine bc_ne (tgt := 21) hx hb hf dX2_isWord_5 (by decide) (fun hf => ?_) (fun hf => ?_)
  · refine lv_iconst (v := 0) hx hb dX2_isWord_21 (by decide) ?_
    cases hf
    exact rZ X rfl hP hD hS dX2_isWord_22
  · refine lv_aload_n hx hb dX2_isWord_8 rfl (lv_at hl 0 rfl) ?_
    refine gM11 X hP dX2_isWord_9 ?_
    refine lv_lload_n hx hb dX2_isWord_12 rfl (lv_at hl 1 rfl) ?_
    refine W.lcmp hx hb dX2_isWord_13 ?_
    refine bq_ne (tgt := 21) hx hb hf dX2_isWord_14 (by decide) (fun hf => ?_) (fun hf => ?_)
    · refine lv_iconst (v := 0) hx hb dX2_isWord_21 (by decide) ?_
      cases hf
      exact rZ X rfl hP hD hS dX2_isWord_22
    · refine lv_iconst (v := 1) hx hb dX2_isWord_17 (by decide) ?_
      refine lv_goto (tgt := 22) hx hb dX2_isWord_18 (by decide) ?_
      cases hf
      exact rZ X rfl hP hD hS dX2_isWord_22
set_option maxHeartbeats 4000000 in
theorem met_M_openAt {l : Launch} {g : gG} {h : Nat} {ad : Nat → Nat} {sTaped : Int32} {sFault : Int32} {sFaultP : Int32} {sAt : Int32} {sPlace : Int32} {sToken : Int32} {sNumber : Int32} {sWord : Int64} {sText0 : Int32} {sWritten : Int32} {sSort0 : Int32} {sPiled : Int32} {sOpens : Int32} {sWhole : Int32} {sOnce : Int32} {sIsW : Int32} {sDied : Int32} {cA : Nat → Int32} {cIm : Nat → Int32} {cTx : Nat → Int32} {cTp : Nat → Int32} {cPl : Nat → Int32} {cNm : Nat → Int32} {cVa : Nat → Int64} {cTr : Nat → Int32} {cAs : Nat → Int32} {cLi : Nat → Int32} {cSa : Nat → Int32} {cHd : Nat → Int32} {r : Int32} {φ : Nat} (hf : M_openAt φ sPiled cPl = some r) : CC l yX2_openAt (ws_ yX2_openAt cX2_openAt 2 (some .int)) ({ frames := 0, cells := 0, slots := 0, locals := 0 } : Room) g [.ref h] (mW g h ad sTaped sFault sFaultP sAt sPlace sToken sNumber sWord sText0 sWritten sSort0 sPiled sOpens sWhole sOnce sIsW sDied cA cIm cTx cTp cPl cNm cVa cTr cAs cLi cSa cHd) (some (.int r)) (mW g h ad sTaped sFault sFaultP sAt sPlace sToken sNumber sWord sText0 sWritten sSort0 sPiled sOpens sWhole sOnce sIsW sDied cA cIm cTx cTp cPl cNm cVa cTr cAs cLi cSa cHd) 0 0 := by
  refine CC.of RX2 rfl plain_X2 (Nat.le_of_ble_eq_true rfl) (fun p e s m below meth c A ls X hP hD hS hl => ?_)
  have hx := X.1
  have hb := X.2.1
  have hown := X.2.2.2.2.2.1
  have hts := X.2.2.2.2.2.2.1
  have hl : lv_has ls 2 [(0, .ref h)] := hl
  unfold M_openAt at hf
  refine lv_aload_n hx hb dX2_openAt_0 rfl (lv_at hl 0 rfl) ?_
  refine gM16 X hP dX2_openAt_1 ?_
  refine lv_iconst (v := 1) hx hb dX2_openAt_4 (by decide) ?_
  refine lv_isub hx hb dX2_openAt_5 ?_
  obtain ⟨v1, ev1, hf⟩ := lts hf
  refine tpi ev1 ?_
  refine lv_istore_n (lv' := [(1, .int v1), (0, .ref h)]) hx hb dX2_openAt_6 rfl hl (by decide) rfl (fun ls hl => ?_)
  obtain ⟨v3, k8, hf⟩ := bd1s hf
  have hE5 : ∀ (H : Heap) (locs : List Loc) (ls : Array Slot), va_P g.1 vwCl (mW g h ad sTaped sFault sFaultP sAt sPlace sToken sNumber sWord sText0 sWritten sSort0 sPiled sOpens sWhole sOnce sIsW sDied cA cIm cTx cTp cPl cNm cVa cTr cAs cLi cSa cHd) H → va_D A (mW g h ad sTaped sFault sFaultP sAt sPlace sToken sNumber sWord sText0 sWritten sSort0 sPiled sOpens sWhole sOnce sIsW sDied cA cIm cTx cTp cPl cNm cVa cTr cAs cLi cSa cHd) → va_S A s.heap H locs → lv_has ls 2 [(1, .int v3)] → W p l e ({ frames := 0, cells := 0, slots := 0, locals := 0 } : Room) s m ([.ref h] : List Value).toArray below meth c H locs 0 0 (MQ below (QQ g (some (.int r)) (mW g h ad sTaped sFault sFaultP sAt sPlace sToken sNumber sWord sText0 sWritten sSort0 sPiled sOpens sWhole sOnce sIsW sDied cA cIm cTx cTp cPl cNm cVa cTr cAs cLi cSa cHd) A) ([.ref h] : List Value).toArray s 0 0 A) (F0 m 28 ls []) := by
    intro H locs ls hP hD hS hl
    refine lv_iload_n hx hb dX2_openAt_28 rfl (lv_at hl 0 rfl) ?_
    cases hf
    exact rI X hP hD hS dX2_openAt_29
  have hL6 : ∀ (n4 : Nat) (v2 : Int32), M_openAt_L7 φ cPl n4 v2 = some v3 → ∀ (H : Heap) (locs : List Loc) (ls : Array Slot), va_P g.1 vwCl (mW g h ad sTaped sFault sFaultP sAt sPlace sToken sNumber sWord sText0 sWritten sSort0 sPiled sOpens sWhole sOnce sIsW sDied cA cIm cTx cTp cPl cNm cVa cTr cAs cLi cSa cHd) H → va_D A (mW g h ad sTaped sFault sFaultP sAt sPlace sToken sNumber sWord sText0 sWritten sSort0 sPiled sOpens sWhole sOnce sIsW sDied cA cIm cTx cTp cPl cNm cVa cTr cAs cLi cSa cHd) → va_S A s.heap H locs → lv_has ls 2 [(0, .ref h), (1, .int v2)] → W p l e ({ frames := 0, cells := 0, slots := 0, locals := 0 } : Room) s m ([.ref h] : List Value).toArray below meth c H locs 0 0 (MQ below (QQ g (some (.int r)) (mW g h ad sTaped sFault sFaultP sAt sPlace sToken sNumber sWord sText0 sWritten sSort0 sPiled sOpens sWhole sOnce sIsW sDied cA cIm cTx cTp cPl cNm cVa cTr cAs cLi cSa cHd) A) ([.ref h] : List Value).toArray s 0 0 A) (F0 m 7 ls []) := by
    intro n4
    induction n4 with
    | zero =>
      intro v2 hf
      exact nn hf
    | succ n4 ih7 =>
      intro v2 hf H locs ls hP hD hS hl
      rw [M_openAt_L7] at hf
      refine lv_iload_n hx hb dX2_openAt_7 rfl (lv_at hl 1 rfl) ?_
      refine bq_lt (tgt := 28) hx hb hf dX2_openAt_8 (by decide) (fun hf => ?_) (fun hf => ?_)
      · cases hf
        exact hE5 _ _ _ hP hD hS (lv_sub hl [1] rfl)
      · refine lv_aload_n hx hb dX2_openAt_11 rfl (lv_at hl 0 rfl) ?_
        refine gM15 X hP dX2_openAt_12 ?_
        refine lv_iload_n hx hb dX2_openAt_15 rfl (lv_at hl 1 rfl) ?_
        obtain ⟨v9, ev9, bv9, hf⟩ := rds hf
        refine lM_cPl X hP ev9 bv9 dX2_openAt_16 ?_
        refine lv_bipush (v := 40) hx hb dX2_openAt_17 (by decide) ?_
        refine bc_ge (tgt := 28) hx hb hf dX2_openAt_19 (by decide) (fun hf => ?_) (fun hf => ?_)
        · cases hf
          exact hE5 _ _ _ hP hD hS (lv_sub hl [1] rfl)
        · obtain ⟨v10, ev10, hf⟩ := lts hf
          refine lv_iinc (v := v10) (lv' := [(1, .int v10), (0, .ref h)]) hx hb dX2_openAt_22 hl (k := 1) rfl (by rw [ev10]; rfl) (by decide) rfl (fun ls hl => ?_)
          refine lv_goto (tgt := 7) hx hb dX2_openAt_25 (by decide) ?_
          exact ih7 _ hf _ _ _ hP hD hS (lv_sub hl [1, 0] rfl)
  exact hL6 _ _ k8 _ _ _ hP hD hS (lv_sub hl [1, 0] rfl)
set_option maxHeartbeats 4000000 in
theorem met_M_rank {l : Launch} {g : gG} {x0 : Int32} {r : Int32} (hf : M_rank x0 = some r) : CC l yX2_rank (ws_ yX2_rank cX2_rank 1 (some .int)) ({ frames := 0, cells := 0, slots := 0, locals := 0 } : Room) g [.int x0] ([] : va_W) (some (.int r)) ([] : va_W) 0 0 := by
  refine CC.of RX2 rfl plain_X2 (Nat.le_of_ble_eq_true rfl) (fun p e s m below meth c A ls X hP hD hS hl => ?_)
  have hx := X.1
  have hb := X.2.1
  have hown := X.2.2.2.2.2.1
  have hts := X.2.2.2.2.2.2.1
  have hl : lv_has ls 1 [(0, .int x0)] := hl
  unfold M_rank at hf
  refine lv_iload_n hx hb dX2_rank_0 rfl (lv_at hl 0 rfl) ?_
  refine lv_bipush (v := 40) hx hb dX2_rank_1 (by decide) ?_
  refine bc_lt (tgt := 10) hx hb hf dX2_rank_3 (by decide) (fun hf => ?_) (fun hf => ?_)
  · refine lv_iload_n hx hb dX2_rank_10 rfl (lv_at hl 0 rfl) ?_
    refine lv_bipush (v := 22) hx hb dX2_rank_11 (by decide) ?_
    refine bc_ne (tgt := 20) hx hb hf dX2_rank_13 (by decide) (fun hf => ?_) (fun hf => ?_)
    · refine lv_iload_n hx hb dX2_rank_20 rfl (lv_at hl 0 rfl) ?_
      refine lv_bipush (v := 21) hx hb dX2_rank_21 (by decide) ?_
      refine bc_ne (tgt := 30) hx hb hf dX2_rank_23 (by decide) (fun hf => ?_) (fun hf => ?_)
      · refine lv_iload_n hx hb dX2_rank_30 rfl (lv_at hl 0 rfl) ?_
        refine lv_bipush (v := 20) hx hb dX2_rank_31 (by decide) ?_
        refine bc_ne (tgt := 40) hx hb hf dX2_rank_33 (by decide) (fun hf => ?_) (fun hf => ?_)
        · refine lv_iload_n hx hb dX2_rank_40 rfl (lv_at hl 0 rfl) ?_
          refine lv_bipush (v := 10) hx hb dX2_rank_41 (by decide) ?_
          refine bc_lt (tgt := 50) hx hb hf dX2_rank_43 (by decide) (fun hf => ?_) (fun hf => ?_)
          · refine lv_iload_n hx hb dX2_rank_50 rfl (lv_at hl 0 rfl) ?_
            refine lv_iconst (v := 5) hx hb dX2_rank_51 (by decide) ?_
            refine bc_eq (tgt := 65) hx hb hf dX2_rank_52 (by decide) (fun hf => ?_) (fun hf => ?_)
            · refine lv_bipush (v := 7) hx hb dX2_rank_65 (by decide) ?_
              refine lv_goto (tgt := 82) hx hb dX2_rank_67 (by decide) ?_
              cases hf
              exact rI X hP hD hS dX2_rank_82
            · refine lv_iload_n hx hb dX2_rank_55 rfl (lv_at hl 0 rfl) ?_
              refine lv_iconst (v := 2) hx hb dX2_rank_56 (by decide) ?_
              refine bc_eq (tgt := 65) hx hb hf dX2_rank_57 (by decide) (fun hf => ?_) (fun hf => ?_)
              · refine lv_bipush (v := 7) hx hb dX2_rank_65 (by decide) ?_
                refine lv_goto (tgt := 82) hx hb dX2_rank_67 (by decide) ?_
                cases hf
                exact rI X hP hD hS dX2_rank_82
              · refine lv_iload_n hx hb dX2_rank_60 rfl (lv_at hl 0 rfl) ?_
                refine lv_iconst (v := 3) hx hb dX2_rank_61 (by decide) ?_
                refine bc_ne (tgt := 70) hx hb hf dX2_rank_62 (by decide) (fun hf => ?_) (fun hf => ?_)
                · refine lv_iload_n hx hb dX2_rank_70 rfl (lv_at hl 0 rfl) ?_
                  refine lv_bipush (v := 8) hx hb dX2_rank_71 (by decide) ?_
                  refine bc_lt (tgt := 81) hx hb hf dX2_rank_73 (by decide) (fun hf => ?_) (fun hf => ?_)
                  · refine lv_iconst (v := 5) hx hb dX2_rank_81 (by decide) ?_
                    cases hf
                    exact rI X hP hD hS dX2_rank_82
                  · refine lv_bipush (v := 6) hx hb dX2_rank_76 (by decide) ?_
                    refine lv_goto (tgt := 82) hx hb dX2_rank_78 (by decide) ?_
                    cases hf
                    exact rI X hP hD hS dX2_rank_82
                · refine lv_bipush (v := 7) hx hb dX2_rank_65 (by decide) ?_
                  refine lv_goto (tgt := 82) hx hb dX2_rank_67 (by decide) ?_
                  cases hf
                  exact rI X hP hD hS dX2_rank_82
          · refine lv_iconst (v := 4) hx hb dX2_rank_46 (by decide) ?_
            refine lv_goto (tgt := 82) hx hb dX2_rank_47 (by decide) ?_
            cases hf
            exact rI X hP hD hS dX2_rank_82
        · refine lv_iconst (v := 3) hx hb dX2_rank_36 (by decide) ?_
          refine lv_goto (tgt := 82) hx hb dX2_rank_37 (by decide) ?_
          cases hf
          exact rI X hP hD hS dX2_rank_82
      · refine lv_iconst (v := 2) hx hb dX2_rank_26 (by decide) ?_
        refine lv_goto (tgt := 82) hx hb dX2_rank_27 (by decide) ?_
        cases hf
        exact rI X hP hD hS dX2_rank_82
    · refine lv_iconst (v := 1) hx hb dX2_rank_16 (by decide) ?_
      refine lv_goto (tgt := 82) hx hb dX2_rank_17 (by decide) ?_
      cases hf
      exact rI X hP hD hS dX2_rank_82
  · refine lv_iconst (v := 0) hx hb dX2_rank_6 (by decide) ?_
    refine lv_goto (tgt := 82) hx hb dX2_rank_7 (by decide) ?_
    cases hf
    exact rI X hP hD hS dX2_rank_82
set_option maxHeartbeats 4000000 in
theorem met_M_compareOf {l : Launch} {g : gG} {h : Nat} {ad : Nat → Nat} {sTaped : Int32} {sFault : Int32} {sFaultP : Int32} {sAt : Int32} {sPlace : Int32} {sToken : Int32} {sNumber : Int32} {sWord : Int64} {sText0 : Int32} {sWritten : Int32} {sSort0 : Int32} {sPiled : Int32} {sOpens : Int32} {sWhole : Int32} {sOnce : Int32} {sIsW : Int32} {sDied : Int32} {cA : Nat → Int32} {cIm : Nat → Int32} {cTx : Nat → Int32} {cTp : Nat → Int32} {cPl : Nat → Int32} {cNm : Nat → Int32} {cVa : Nat → Int64} {cTr : Nat → Int32} {cAs : Nat → Int32} {cLi : Nat → Int32} {cSa : Nat → Int32} {cHd : Nat → Int32} {r : Int32} (hf : M_compareOf sToken = some r) : CC l yX2_compareOf (ws_ yX2_compareOf cX2_compareOf 1 (some .int)) ({ frames := 0, cells := 0, slots := 0, locals := 0 } : Room) g [.ref h] (mW g h ad sTaped sFault sFaultP sAt sPlace sToken sNumber sWord sText0 sWritten sSort0 sPiled sOpens sWhole sOnce sIsW sDied cA cIm cTx cTp cPl cNm cVa cTr cAs cLi cSa cHd) (some (.int r)) (mW g h ad sTaped sFault sFaultP sAt sPlace sToken sNumber sWord sText0 sWritten sSort0 sPiled sOpens sWhole sOnce sIsW sDied cA cIm cTx cTp cPl cNm cVa cTr cAs cLi cSa cHd) 0 0 := by
  refine CC.of RX2 rfl plain_X2 (Nat.le_of_ble_eq_true rfl) (fun p e s m below meth c A ls X hP hD hS hl => ?_)
  have hx := X.1
  have hb := X.2.1
  have hown := X.2.2.2.2.2.1
  have hts := X.2.2.2.2.2.2.1
  have hl : lv_has ls 1 [(0, .ref h)] := hl
  unfold M_compareOf at hf
  refine lv_aload_n hx hb dX2_compareOf_0 rfl (lv_at hl 0 rfl) ?_
  refine gM9 X hP dX2_compareOf_1 ?_
  refine lv_bipush (v := 60) hx hb dX2_compareOf_4 (by decide) ?_
  refine bc_ne (tgt := 14) hx hb hf dX2_compareOf_6 (by decide) (fun hf => ?_) (fun hf => ?_)
  · refine lv_aload_n hx hb dX2_compareOf_14 rfl (lv_at hl 0 rfl) ?_
    refine gM9 X hP dX2_compareOf_15 ?_
    refine lv_iconst (v := 4) hx hb dX2_compareOf_18 (by decide) ?_
    refine bc_ne (tgt := 27) hx hb hf dX2_compareOf_19 (by decide) (fun hf => ?_) (fun hf => ?_)
    · refine lv_aload_n hx hb dX2_compareOf_27 rfl (lv_at hl 0 rfl) ?_
      refine gM9 X hP dX2_compareOf_28 ?_
      refine lv_bipush (v := 62) hx hb dX2_compareOf_31 (by decide) ?_
      refine bc_ne (tgt := 41) hx hb hf dX2_compareOf_33 (by decide) (fun hf => ?_) (fun hf => ?_)
      · refine lv_aload_n hx hb dX2_compareOf_41 rfl (lv_at hl 0 rfl) ?_
        refine gM9 X hP dX2_compareOf_42 ?_
        refine lv_iconst (v := 5) hx hb dX2_compareOf_45 (by decide) ?_
        refine bc_ne (tgt := 54) hx hb hf dX2_compareOf_46 (by decide) (fun hf => ?_) (fun hf => ?_)
        · refine lv_aload_n hx hb dX2_compareOf_54 rfl (lv_at hl 0 rfl) ?_
          refine gM9 X hP dX2_compareOf_55 ?_
          refine lv_bipush (v := 61) hx hb dX2_compareOf_58 (by decide) ?_
          refine bc_ne (tgt := 68) hx hb hf dX2_compareOf_60 (by decide) (fun hf => ?_) (fun hf => ?_)
          · refine lv_aload_n hx hb dX2_compareOf_68 rfl (lv_at hl 0 rfl) ?_
            refine gM9 X hP dX2_compareOf_69 ?_
            refine lv_bipush (v := 35) hx hb dX2_compareOf_72 (by decide) ?_
            refine bc_ne (tgt := 82) hx hb hf dX2_compareOf_74 (by decide) (fun hf => ?_) (fun hf => ?_)
            · refine lv_iconst (v := (-1)) hx hb dX2_compareOf_82 (by decide) ?_
              cases hf
              exact rI X hP hD hS dX2_compareOf_83
            · refine lv_bipush (v := 15) hx hb dX2_compareOf_77 (by decide) ?_
              refine lv_goto (tgt := 83) hx hb dX2_compareOf_79 (by decide) ?_
              cases hf
              exact rI X hP hD hS dX2_compareOf_83
          · refine lv_bipush (v := 14) hx hb dX2_compareOf_63 (by decide) ?_
            refine lv_goto (tgt := 83) hx hb dX2_compareOf_65 (by decide) ?_
            cases hf
            exact rI X hP hD hS dX2_compareOf_83
        · refine lv_bipush (v := 13) hx hb dX2_compareOf_49 (by decide) ?_
          refine lv_goto (tgt := 83) hx hb dX2_compareOf_51 (by decide) ?_
          cases hf
          exact rI X hP hD hS dX2_compareOf_83
      · refine lv_bipush (v := 12) hx hb dX2_compareOf_36 (by decide) ?_
        refine lv_goto (tgt := 83) hx hb dX2_compareOf_38 (by decide) ?_
        cases hf
        exact rI X hP hD hS dX2_compareOf_83
    · refine lv_bipush (v := 11) hx hb dX2_compareOf_22 (by decide) ?_
      refine lv_goto (tgt := 83) hx hb dX2_compareOf_24 (by decide) ?_
      cases hf
      exact rI X hP hD hS dX2_compareOf_83
  · refine lv_bipush (v := 10) hx hb dX2_compareOf_9 (by decide) ?_
    refine lv_goto (tgt := 83) hx hb dX2_compareOf_11 (by decide) ?_
    cases hf
    exact rI X hP hD hS dX2_compareOf_83
set_option maxHeartbeats 4000000 in
theorem met_M_emit {l : Launch} {g : gG} {h : Nat} {ad : Nat → Nat} {sTaped : Int32} {sFault : Int32} {sFaultP : Int32} {sAt : Int32} {sPlace : Int32} {sToken : Int32} {sNumber : Int32} {sWord : Int64} {sText0 : Int32} {sWritten : Int32} {sSort0 : Int32} {sPiled : Int32} {sOpens : Int32} {sWhole : Int32} {sOnce : Int32} {sIsW : Int32} {sDied : Int32} {cA : Nat → Int32} {cIm : Nat → Int32} {cTx : Nat → Int32} {cTp : Nat → Int32} {cPl : Nat → Int32} {cNm : Nat → Int32} {cVa : Nat → Int64} {cTr : Nat → Int32} {cAs : Nat → Int32} {cLi : Nat → Int32} {cSa : Nat → Int32} {cHd : Nat → Int32} {x1 : Int32} {x2 : Int32} {nsWritten : Int32} {ncTx : Nat → Int32} (hf : M_emit sText0 sWritten cTx x1 x2 = some (nsWritten, ncTx)) : CC l yX2_emit (ws_ yX2_emit cX2_emit 3 none) ({ frames := 0, cells := 0, slots := 0, locals := 0 } : Room) g [.ref h, .int x1, .int x2] (mW g h ad sTaped sFault sFaultP sAt sPlace sToken sNumber sWord sText0 sWritten sSort0 sPiled sOpens sWhole sOnce sIsW sDied cA cIm cTx cTp cPl cNm cVa cTr cAs cLi cSa cHd) none (mW g h ad sTaped sFault sFaultP sAt sPlace sToken sNumber sWord sText0 nsWritten sSort0 sPiled sOpens sWhole sOnce sIsW sDied cA cIm ncTx cTp cPl cNm cVa cTr cAs cLi cSa cHd) 0 0 := by
  refine CC.of RX2 rfl plain_X2 (Nat.le_of_ble_eq_true rfl) (fun p e s m below meth c A ls X hP hD hS hl => ?_)
  have hx := X.1
  have hb := X.2.1
  have hown := X.2.2.2.2.2.1
  have hts := X.2.2.2.2.2.2.1
  have hl : lv_has ls 3 [(0, .ref h), (1, .int x1), (2, .int x2)] := hl
  unfold M_emit at hf
  refine lv_aload_n hx hb dX2_emit_0 rfl (lv_at hl 0 rfl) ?_
  refine gM2 X hP dX2_emit_1 ?_
  refine lv_aload_n hx hb dX2_emit_4 rfl (lv_at hl 0 rfl) ?_
  refine gM12 X hP dX2_emit_5 ?_
  refine lv_bipush (v := 121) hx hb dX2_emit_8 (by decide) ?_
  refine lv_iadd hx hb dX2_emit_10 ?_
  refine lv_iconst (v := 2) hx hb dX2_emit_11 (by decide) ?_
  refine lv_aload_n hx hb dX2_emit_12 rfl (lv_at hl 0 rfl) ?_
  refine gM13 X hP dX2_emit_13 ?_
  refine lv_imul hx hb dX2_emit_16 ?_
  refine lv_iadd hx hb dX2_emit_17 ?_
  refine lv_iload_n hx hb dX2_emit_18 rfl (lv_at hl 1 rfl) ?_
  obtain ⟨c1, ec1, bc1, hf⟩ := wrs hf
  refine sM_cTx X hP hD hS ec1 bc1 dX2_emit_19 (fun H locs hP hD hS => ?_)
  refine lv_aload_n hx hb dX2_emit_20 rfl (lv_at hl 0 rfl) ?_
  refine gM2 X hP dX2_emit_21 ?_
  refine lv_aload_n hx hb dX2_emit_24 rfl (lv_at hl 0 rfl) ?_
  refine gM12 X hP dX2_emit_25 ?_
  refine lv_bipush (v := 121) hx hb dX2_emit_28 (by decide) ?_
  refine lv_iadd hx hb dX2_emit_30 ?_
  refine lv_iconst (v := 2) hx hb dX2_emit_31 (by decide) ?_
  refine lv_aload_n hx hb dX2_emit_32 rfl (lv_at hl 0 rfl) ?_
  refine gM13 X hP dX2_emit_33 ?_
  refine lv_imul hx hb dX2_emit_36 ?_
  refine lv_iadd hx hb dX2_emit_37 ?_
  refine lv_iconst (v := 1) hx hb dX2_emit_38 (by decide) ?_
  refine lv_iadd hx hb dX2_emit_39 ?_
  refine lv_iload_n hx hb dX2_emit_40 rfl (lv_at hl 2 rfl) ?_
  obtain ⟨c2, ec2, bc2, hf⟩ := wrs hf
  refine sM_cTx X hP hD hS ec2 bc2 dX2_emit_41 (fun H locs hP hD hS => ?_)
  refine lv_aload_n hx hb dX2_emit_42 rfl (lv_at hl 0 rfl) ?_
  refine lv_dup hx hb dX2_emit_43 rfl ?_
  refine gM13 X hP dX2_emit_44 ?_
  refine lv_iconst (v := 1) hx hb dX2_emit_47 (by decide) ?_
  refine lv_iadd hx hb dX2_emit_48 ?_
  obtain ⟨v3, ev3, hf⟩ := lts hf
  refine tpi ev3 ?_
  refine pM13 X hP hD hS dX2_emit_49 (fun H locs hP hD hS => ?_)
  cases hf
  exact rV X hP hD hS dX2_emit_52
set_option maxHeartbeats 4000000 in
theorem met_M_isOf {l : Launch} {g : gG} {h : Nat} {ad : Nat → Nat} {sTaped : Int32} {sFault : Int32} {sFaultP : Int32} {sAt : Int32} {sPlace : Int32} {sToken : Int32} {sNumber : Int32} {sWord : Int64} {sText0 : Int32} {sWritten : Int32} {sSort0 : Int32} {sPiled : Int32} {sOpens : Int32} {sWhole : Int32} {sOnce : Int32} {sIsW : Int32} {sDied : Int32} {cA : Nat → Int32} {cIm : Nat → Int32} {cTx : Nat → Int32} {cTp : Nat → Int32} {cPl : Nat → Int32} {cNm : Nat → Int32} {cVa : Nat → Int64} {cTr : Nat → Int32} {cAs : Nat → Int32} {cLi : Nat → Int32} {cSa : Nat → Int32} {cHd : Nat → Int32} {x1 : Int32} {r : Int32} (hf : M_isOf sSort0 x1 = some r) : CC l yX2_isOf (ws_ yX2_isOf cX2_isOf 2 (some .boolean)) ({ frames := 0, cells := 0, slots := 0, locals := 0 } : Room) g [.ref h, .int x1] (mW g h ad sTaped sFault sFaultP sAt sPlace sToken sNumber sWord sText0 sWritten sSort0 sPiled sOpens sWhole sOnce sIsW sDied cA cIm cTx cTp cPl cNm cVa cTr cAs cLi cSa cHd) (some (.int r)) (mW g h ad sTaped sFault sFaultP sAt sPlace sToken sNumber sWord sText0 sWritten sSort0 sPiled sOpens sWhole sOnce sIsW sDied cA cIm cTx cTp cPl cNm cVa cTr cAs cLi cSa cHd) 0 0 := by
  refine CC.of RX2 rfl plain_X2 (Nat.le_of_ble_eq_true rfl) (fun p e s m below meth c A ls X hP hD hS hl => ?_)
  have hx := X.1
  have hb := X.2.1
  have hown := X.2.2.2.2.2.1
  have hts := X.2.2.2.2.2.2.1
  have hl : lv_has ls 2 [(0, .ref h), (1, .int x1)] := hl
  unfold M_isOf at hf
  refine lv_iload_n hx hb dX2_isOf_0 rfl (lv_at hl 1 rfl) ?_
  refine lv_iconst (v := 5) hx hb dX2_isOf_1 (by decide) ?_
  refine bc_ge (tgt := 7) hx hb hf dX2_isOf_2 (by decide) (fun hf => ?_) (fun hf => ?_)
  · refine lv_iload_n hx hb dX2_isOf_7 rfl (lv_at hl 1 rfl) ?_
    refine lv_bipush (v := 7) hx hb dX2_isOf_8 (by decide) ?_
    refine bc_ge (tgt := 27) hx hb hf dX2_isOf_10 (by decide) (fun hf => ?_) (fun hf => ?_)
    · refine lv_iload_n hx hb dX2_isOf_27 rfl (lv_at hl 1 rfl) ?_
      refine lv_bipush (v := 9) hx hb dX2_isOf_28 (by decide) ?_
      refine bc_ge (tgt := 49) hx hb hf dX2_isOf_30 (by decide) (fun hf => ?_) (fun hf => ?_)
      · refine lv_aload_n hx hb dX2_isOf_49 rfl (lv_at hl 0 rfl) ?_
        refine gM14 X hP dX2_isOf_50 ?_
        refine lv_iconst (v := 1) hx hb dX2_isOf_53 (by decide) ?_
        refine bc_eq (tgt := 65) hx hb hf dX2_isOf_54 (by decide) (fun hf => ?_) (fun hf => ?_)
        · refine lv_iconst (v := 1) hx hb dX2_isOf_65 (by decide) ?_
          refine lv_goto (tgt := 70) hx hb dX2_isOf_66 (by decide) ?_
          cases hf
          exact rZ X rfl hP hD hS dX2_isOf_70
        · refine lv_aload_n hx hb dX2_isOf_57 rfl (lv_at hl 0 rfl) ?_
          refine gM14 X hP dX2_isOf_58 ?_
          refine lv_iconst (v := 3) hx hb dX2_isOf_61 (by decide) ?_
          refine bc_ne (tgt := 69) hx hb hf dX2_isOf_62 (by decide) (fun hf => ?_) (fun hf => ?_)
          · refine lv_iconst (v := 0) hx hb dX2_isOf_69 (by decide) ?_
            cases hf
            exact rZ X rfl hP hD hS dX2_isOf_70
          · refine lv_iconst (v := 1) hx hb dX2_isOf_65 (by decide) ?_
            refine lv_goto (tgt := 70) hx hb dX2_isOf_66 (by decide) ?_
            cases hf
            exact rZ X rfl hP hD hS dX2_isOf_70
      · refine lv_aload_n hx hb dX2_isOf_33 rfl (lv_at hl 0 rfl) ?_
        refine gM14 X hP dX2_isOf_34 ?_
        refine lv_iconst (v := 2) hx hb dX2_isOf_37 (by decide) ?_
        refine bc_lt (tgt := 45) hx hb hf dX2_isOf_38 (by decide) (fun hf => ?_) (fun hf => ?_)
        · refine lv_iconst (v := 0) hx hb dX2_isOf_45 (by decide) ?_
          refine lv_goto (tgt := 70) hx hb dX2_isOf_46 (by decide) ?_
          cases hf
          exact rZ X rfl hP hD hS dX2_isOf_70
        · refine lv_iconst (v := 1) hx hb dX2_isOf_41 (by decide) ?_
          refine lv_goto (tgt := 70) hx hb dX2_isOf_42 (by decide) ?_
          cases hf
          exact rZ X rfl hP hD hS dX2_isOf_70
    · refine lv_aload_n hx hb dX2_isOf_13 rfl (lv_at hl 0 rfl) ?_
      refine gM14 X hP dX2_isOf_14 ?_
      refine lv_iconst (v := 3) hx hb dX2_isOf_17 (by decide) ?_
      refine bc_eq (tgt := 25) hx hb hf dX2_isOf_18 (by decide) (fun hf => ?_) (fun hf => ?_)
      · refine lv_iconst (v := 0) hx hb dX2_isOf_25 (by decide) ?_
        cases hf
        exact rZ X rfl hP hD hS dX2_isOf_26
      · refine lv_iconst (v := 1) hx hb dX2_isOf_21 (by decide) ?_
        refine lv_goto (tgt := 26) hx hb dX2_isOf_22 (by decide) ?_
        cases hf
        exact rZ X rfl hP hD hS dX2_isOf_26
  · refine lv_iconst (v := 1) hx hb dX2_isOf_5 (by decide) ?_
    cases hf
    exact rZ X rfl hP hD hS dX2_isOf_6
set_option maxHeartbeats 4000000 in
theorem met_M_fault {l : Launch} {g : gG} {h : Nat} {ad : Nat → Nat} {sTaped : Int32} {sFault : Int32} {sFaultP : Int32} {sAt : Int32} {sPlace : Int32} {sToken : Int32} {sNumber : Int32} {sWord : Int64} {sText0 : Int32} {sWritten : Int32} {sSort0 : Int32} {sPiled : Int32} {sOpens : Int32} {sWhole : Int32} {sOnce : Int32} {sIsW : Int32} {sDied : Int32} {cA : Nat → Int32} {cIm : Nat → Int32} {cTx : Nat → Int32} {cTp : Nat → Int32} {cPl : Nat → Int32} {cNm : Nat → Int32} {cVa : Nat → Int64} {cTr : Nat → Int32} {cAs : Nat → Int32} {cLi : Nat → Int32} {cSa : Nat → Int32} {cHd : Nat → Int32} {x1 : Int32} {r : Int32} (hf : M_fault sFault sFaultP x1 = some r) : CC l yX2_fault (ws_ yX2_fault cX2_fault 2 (some .int)) ({ frames := 0, cells := 0, slots := 0, locals := 0 } : Room) g [.ref h, .int x1] (mW g h ad sTaped sFault sFaultP sAt sPlace sToken sNumber sWord sText0 sWritten sSort0 sPiled sOpens sWhole sOnce sIsW sDied cA cIm cTx cTp cPl cNm cVa cTr cAs cLi cSa cHd) (some (.int r)) (mW g h ad sTaped sFault sFaultP sAt sPlace sToken sNumber sWord sText0 sWritten sSort0 sPiled sOpens sWhole sOnce sIsW sDied cA cIm cTx cTp cPl cNm cVa cTr cAs cLi cSa cHd) 0 0 := by
  refine CC.of RX2 rfl plain_X2 (Nat.le_of_ble_eq_true rfl) (fun p e s m below meth c A ls X hP hD hS hl => ?_)
  have hx := X.1
  have hb := X.2.1
  have hown := X.2.2.2.2.2.1
  have hts := X.2.2.2.2.2.2.1
  have hl : lv_has ls 2 [(0, .ref h), (1, .int x1)] := hl
  unfold M_fault at hf
  refine lv_iload_n hx hb dX2_fault_0 rfl (lv_at hl 1 rfl) ?_
  refine bq_ne (tgt := 11) hx hb hf dX2_fault_1 (by decide) (fun hf => ?_) (fun hf => ?_)
  · refine lv_iload_n hx hb dX2_fault_11 rfl (lv_at hl 1 rfl) ?_
    refine lv_iconst (v := 1) hx hb dX2_fault_12 (by decide) ?_
    refine bc_ne (tgt := 23) hx hb hf dX2_fault_13 (by decide) (fun hf => ?_) (fun hf => ?_)
    · refine lv_iconst (v := (-1)) hx hb dX2_fault_23 (by decide) ?_
      cases hf
      exact rI X hP hD hS dX2_fault_24
    · refine lv_aload_n hx hb dX2_fault_16 rfl (lv_at hl 0 rfl) ?_
      refine gM6 X hP dX2_fault_17 ?_
      refine lv_goto (tgt := 24) hx hb dX2_fault_20 (by decide) ?_
      cases hf
      exact rI X hP hD hS dX2_fault_24
  · refine lv_aload_n hx hb dX2_fault_4 rfl (lv_at hl 0 rfl) ?_
    refine gM5 X hP dX2_fault_5 ?_
    refine lv_goto (tgt := 24) hx hb dX2_fault_8 (by decide) ?_
    cases hf
    exact rI X hP hD hS dX2_fault_24
set_option maxHeartbeats 4000000 in
theorem met_M_by {l : Launch} {g : gG} {h : Nat} {ad : Nat → Nat} {sTaped : Int32} {sFault : Int32} {sFaultP : Int32} {sAt : Int32} {sPlace : Int32} {sToken : Int32} {sNumber : Int32} {sWord : Int64} {sText0 : Int32} {sWritten : Int32} {sSort0 : Int32} {sPiled : Int32} {sOpens : Int32} {sWhole : Int32} {sOnce : Int32} {sIsW : Int32} {sDied : Int32} {cA : Nat → Int32} {cIm : Nat → Int32} {cTx : Nat → Int32} {cTp : Nat → Int32} {cPl : Nat → Int32} {cNm : Nat → Int32} {cVa : Nat → Int64} {cTr : Nat → Int32} {cAs : Nat → Int32} {cLi : Nat → Int32} {cSa : Nat → Int32} {cHd : Nat → Int32} {x1 : Int32} {r : Int32} {ncA : Nat → Int32} (hf : M_by cA x1 = some (r, ncA)) : CC l yX2_by (ws_ yX2_by cX2_by 2 (some .boolean)) ({ frames := 1, cells := 0, slots := 0, locals := 22 } : Room) g [.ref h, .int x1] (mW g h ad sTaped sFault sFaultP sAt sPlace sToken sNumber sWord sText0 sWritten sSort0 sPiled sOpens sWhole sOnce sIsW sDied cA cIm cTx cTp cPl cNm cVa cTr cAs cLi cSa cHd) (some (.int r)) (mW g h ad sTaped sFault sFaultP sAt sPlace sToken sNumber sWord sText0 sWritten sSort0 sPiled sOpens sWhole sOnce sIsW sDied ncA cIm cTx cTp cPl cNm cVa cTr cAs cLi cSa cHd) 0 0 := by
  refine CC.of RX2 rfl plain_X2 (Nat.le_of_ble_eq_true rfl) (fun p e s m below meth c A ls X hP hD hS hl => ?_)
  have hx := X.1
  have hb := X.2.1
  have hown := X.2.2.2.2.2.1
  have hts := X.2.2.2.2.2.2.1
  have hl : lv_has ls 2 [(0, .ref h), (1, .int x1)] := hl
  unfold M_by at hf
  refine lv_iload_n hx hb dX2_by_0 rfl (lv_at hl 1 rfl) ?_
  refine lv_iconst (v := (-1)) hx hb dX2_by_1 (by decide) ?_
  refine lv_aload_n hx hb dX2_by_2 rfl (lv_at hl 0 rfl) ?_
  refine gM0 X hP dX2_by_3 ?_
  refine lv_iconst (v := 2) hx hb dX2_by_6 (by decide) ?_
  obtain ⟨v1, ev1, bv1, hf⟩ := rds hf
  refine lM_cA X hP ev1 bv1 dX2_by_7 ?_
  refine lv_iconst (v := 1) hx hb dX2_by_8 (by decide) ?_
  refine lv_isub hx hb dX2_by_9 ?_
  obtain ⟨r2, k3, hf⟩ := bd1s hf
  refine cSi (rest := []) X (met_M_isIn (g := g) k3) gs_X2_X2_isIn dy_X2_isIn ⟨⟨rfl, rfl⟩, Nat.le_of_ble_eq_true rfl, Nat.le_of_ble_eq_true rfl⟩ hP hD hS hl.1 rfl rfl ⟨Nat.zero_le _, Nat.zero_le _⟩ (Nat.le_of_ble_eq_true rfl) dX2_by_10 (fun H locs hP hD hS => ?_)
  refine bq_ne (tgt := 18) hx hb hf dX2_by_13 (by decide) (fun hf => ?_) (fun hf => ?_)
  · refine lv_aload_n hx hb dX2_by_18 rfl (lv_at hl 0 rfl) ?_
    refine gM0 X hP dX2_by_19 ?_
    refine lv_iconst (v := 3) hx hb dX2_by_22 (by decide) ?_
    refine lv_iload_n hx hb dX2_by_23 rfl (lv_at hl 1 rfl) ?_
    obtain ⟨c4, ec4, bc4, hf⟩ := wrs hf
    refine sM_cA X hP hD hS ec4 bc4 dX2_by_24 (fun H locs hP hD hS => ?_)
    refine lv_iconst (v := 1) hx hb dX2_by_25 (by decide) ?_
    cases hf
    exact rZ X rfl hP hD hS dX2_by_26
  · refine lv_iconst (v := 0) hx hb dX2_by_16 (by decide) ?_
    cases hf
    exact rZ X rfl hP hD hS dX2_by_17
set_option maxHeartbeats 4000000 in
theorem met_M_isPerson {l : Launch} {g : gG} {h : Nat} {ad : Nat → Nat} {sTaped : Int32} {sFault : Int32} {sFaultP : Int32} {sAt : Int32} {sPlace : Int32} {sToken : Int32} {sNumber : Int32} {sWord : Int64} {sText0 : Int32} {sWritten : Int32} {sSort0 : Int32} {sPiled : Int32} {sOpens : Int32} {sWhole : Int32} {sOnce : Int32} {sIsW : Int32} {sDied : Int32} {cA : Nat → Int32} {cIm : Nat → Int32} {cTx : Nat → Int32} {cTp : Nat → Int32} {cPl : Nat → Int32} {cNm : Nat → Int32} {cVa : Nat → Int64} {cTr : Nat → Int32} {cAs : Nat → Int32} {cLi : Nat → Int32} {cSa : Nat → Int32} {cHd : Nat → Int32} {x1 : Int32} {r : Int32} (hf : M_isPerson cA x1 = some r) : CC l yX2_isPerson (ws_ yX2_isPerson cX2_isPerson 2 (some .boolean)) ({ frames := 1, cells := 0, slots := 0, locals := 22 } : Room) g [.ref h, .int x1] (mW g h ad sTaped sFault sFaultP sAt sPlace sToken sNumber sWord sText0 sWritten sSort0 sPiled sOpens sWhole sOnce sIsW sDied cA cIm cTx cTp cPl cNm cVa cTr cAs cLi cSa cHd) (some (.int r)) (mW g h ad sTaped sFault sFaultP sAt sPlace sToken sNumber sWord sText0 sWritten sSort0 sPiled sOpens sWhole sOnce sIsW sDied cA cIm cTx cTp cPl cNm cVa cTr cAs cLi cSa cHd) 0 0 := by
  refine CC.of RX2 rfl plain_X2 (Nat.le_of_ble_eq_true rfl) (fun p e s m below meth c A ls X hP hD hS hl => ?_)
  have hx := X.1
  have hb := X.2.1
  have hown := X.2.2.2.2.2.1
  have hts := X.2.2.2.2.2.2.1
  have hl : lv_has ls 2 [(0, .ref h), (1, .int x1)] := hl
  unfold M_isPerson at hf
  refine lv_iload_n hx hb dX2_isPerson_0 rfl (lv_at hl 1 rfl) ?_
  refine lv_iconst (v := 0) hx hb dX2_isPerson_1 (by decide) ?_
  refine lv_aload_n hx hb dX2_isPerson_2 rfl (lv_at hl 0 rfl) ?_
  refine gM0 X hP dX2_isPerson_3 ?_
  refine lv_iconst (v := 1) hx hb dX2_isPerson_6 (by decide) ?_
  obtain ⟨v1, ev1, bv1, hf⟩ := rds hf
  refine lM_cA X hP ev1 bv1 dX2_isPerson_7 ?_
  refine lv_iconst (v := 1) hx hb dX2_isPerson_8 (by decide) ?_
  refine lv_isub hx hb dX2_isPerson_9 ?_
  obtain ⟨r2, k3, hf⟩ := bd1s hf
  refine cSi (rest := []) X (met_M_isIn (g := g) k3) gs_X2_X2_isIn dy_X2_isIn ⟨⟨rfl, rfl⟩, Nat.le_of_ble_eq_true rfl, Nat.le_of_ble_eq_true rfl⟩ hP hD hS hl.1 rfl rfl ⟨Nat.zero_le _, Nat.zero_le _⟩ (Nat.le_of_ble_eq_true rfl) dX2_isPerson_10 (fun H locs hP hD hS => ?_)
  obtain ⟨hz, hf⟩ := zks hf
  cases hf
  exact rZ X hz hP hD hS dX2_isPerson_13
theorem gw_X2_X2_get : GoodIn lw_all (wsV RX2 71 RX2 yX2_get (ws_ yX2_get cX2_get 3 (some .int))) := lw_V q1521 q1523 qs67 q148 q1524
theorem dy_X2_get : Dy yX2_get RX2 2 := by decide +kernel
set_option maxHeartbeats 4000000 in
theorem met_M_keep {l : Launch} {g : gG} {h : Nat} {ad : Nat → Nat} {sTaped : Int32} {sFault : Int32} {sFaultP : Int32} {sAt : Int32} {sPlace : Int32} {sToken : Int32} {sNumber : Int32} {sWord : Int64} {sText0 : Int32} {sWritten : Int32} {sSort0 : Int32} {sPiled : Int32} {sOpens : Int32} {sWhole : Int32} {sOnce : Int32} {sIsW : Int32} {sDied : Int32} {cA : Nat → Int32} {cIm : Nat → Int32} {cTx : Nat → Int32} {cTp : Nat → Int32} {cPl : Nat → Int32} {cNm : Nat → Int32} {cVa : Nat → Int64} {cTr : Nat → Int32} {cAs : Nat → Int32} {cLi : Nat → Int32} {cSa : Nat → Int32} {cHd : Nat → Int32} {ncA : Nat → Int32} {φ : Nat} (hf : M_keep φ cA = some ncA) : CC l yX2_keep (ws_ yX2_keep cX2_keep 4 none) ({ frames := 1, cells := 0, slots := 0, locals := 22 } : Room) g [.ref h] (mW g h ad sTaped sFault sFaultP sAt sPlace sToken sNumber sWord sText0 sWritten sSort0 sPiled sOpens sWhole sOnce sIsW sDied cA cIm cTx cTp cPl cNm cVa cTr cAs cLi cSa cHd) none (mW g h ad sTaped sFault sFaultP sAt sPlace sToken sNumber sWord sText0 sWritten sSort0 sPiled sOpens sWhole sOnce sIsW sDied ncA cIm cTx cTp cPl cNm cVa cTr cAs cLi cSa cHd) 0 0 := by
  refine CC.of RX2 rfl plain_X2 (Nat.le_of_ble_eq_true rfl) (fun p e s m below meth c A ls X hP hD hS hl => ?_)
  have hx := X.1
  have hb := X.2.1
  have hown := X.2.2.2.2.2.1
  have hts := X.2.2.2.2.2.2.1
  have hl : lv_has ls 4 [(0, .ref h)] := hl
  unfold M_keep at hf
  refine lv_aload_n hx hb dX2_keep_0 rfl (lv_at hl 0 rfl) ?_
  refine gM0 X hP dX2_keep_1 ?_
  refine lv_iconst (v := 4) hx hb dX2_keep_4 (by decide) ?_
  obtain ⟨v1, ev1, bv1, hf⟩ := rds hf
  refine lM_cA X hP ev1 bv1 dX2_keep_5 ?_
  refine lv_bipush (v := 30) hx hb dX2_keep_6 (by decide) ?_
  obtain ⟨c2, k3, hf⟩ := bd1s hf
  have hj4 : ∀ (H : Heap) (locs : List Loc) (ls : Array Slot), va_P g.1 vwCl (mW g h ad sTaped sFault sFaultP sAt sPlace sToken sNumber sWord sText0 sWritten sSort0 sPiled sOpens sWhole sOnce sIsW sDied c2 cIm cTx cTp cPl cNm cVa cTr cAs cLi cSa cHd) H → va_D A (mW g h ad sTaped sFault sFaultP sAt sPlace sToken sNumber sWord sText0 sWritten sSort0 sPiled sOpens sWhole sOnce sIsW sDied c2 cIm cTx cTp cPl cNm cVa cTr cAs cLi cSa cHd) → va_S A s.heap H locs → lv_has ls 4 [(0, .ref h)] → W p l e ({ frames := 1, cells := 0, slots := 0, locals := 22 } : Room) s m ([.ref h] : List Value).toArray below meth c H locs 0 0 (MQ below (QQ g none (mW g h ad sTaped sFault sFaultP sAt sPlace sToken sNumber sWord sText0 sWritten sSort0 sPiled sOpens sWhole sOnce sIsW sDied ncA cIm cTx cTp cPl cNm cVa cTr cAs cLi cSa cHd) A) ([.ref h] : List Value).toArray s 0 0 A) (F0 m 56 ls []) := by
    intro H locs ls hP hD hS hl
    refine lv_sipush (v := 142) hx hb dX2_keep_56 (by decide) ?_
    refine lv_bipush (v := 46) hx hb dX2_keep_59 (by decide) ?_
    refine lv_aload_n hx hb dX2_keep_61 rfl (lv_at hl 0 rfl) ?_
    refine gM0 X hP dX2_keep_62 ?_
    refine lv_iconst (v := 4) hx hb dX2_keep_65 (by decide) ?_
    obtain ⟨v5, ev5, bv5, hf⟩ := rds hf
    refine lM_cA X hP ev5 bv5 dX2_keep_66 ?_
    refine lv_imul hx hb dX2_keep_67 ?_
    refine lv_iadd hx hb dX2_keep_68 ?_
    obtain ⟨v6, ev6, hf⟩ := lts hf
    refine tpi ev6 ?_
    refine lv_istore_n (lv' := [(1, .int v6), (0, .ref h)]) hx hb dX2_keep_69 rfl hl (by decide) rfl (fun ls hl => ?_)
    refine lv_aload_n hx hb dX2_keep_70 rfl (lv_at hl 1 rfl) ?_
    refine gM0 X hP dX2_keep_71 ?_
    refine lv_iload_n hx hb dX2_keep_74 rfl (lv_at hl 0 rfl) ?_
    refine lv_aload_n hx hb dX2_keep_75 rfl (lv_at hl 1 rfl) ?_
    refine gM0 X hP dX2_keep_76 ?_
    refine lv_iconst (v := 1) hx hb dX2_keep_79 (by decide) ?_
    obtain ⟨v7, ev7, bv7, hf⟩ := rds hf
    refine lM_cA X hP ev7 bv7 dX2_keep_80 ?_
    obtain ⟨c8, ec8, bc8, hf⟩ := wrs hf
    refine sM_cA X hP hD hS ec8 bc8 dX2_keep_81 (fun H locs hP hD hS => ?_)
    refine lv_iconst (v := 0) hx hb dX2_keep_82 (by decide) ?_
    refine lv_istore_n (lv' := [(2, .int 0), (1, .int v6), (0, .ref h)]) hx hb dX2_keep_83 rfl hl (by decide) rfl (fun ls hl => ?_)
    obtain ⟨c11, k16, hf⟩ := bd1s hf
    have hE13 : ∀ (H : Heap) (locs : List Loc) (ls : Array Slot), va_P g.1 vwCl (mW g h ad sTaped sFault sFaultP sAt sPlace sToken sNumber sWord sText0 sWritten sSort0 sPiled sOpens sWhole sOnce sIsW sDied c11 cIm cTx cTp cPl cNm cVa cTr cAs cLi cSa cHd) H → va_D A (mW g h ad sTaped sFault sFaultP sAt sPlace sToken sNumber sWord sText0 sWritten sSort0 sPiled sOpens sWhole sOnce sIsW sDied c11 cIm cTx cTp cPl cNm cVa cTr cAs cLi cSa cHd) → va_S A s.heap H locs → lv_has ls 4 [(0, .ref h), (1, .int v6)] → W p l e ({ frames := 1, cells := 0, slots := 0, locals := 22 } : Room) s m ([.ref h] : List Value).toArray below meth c H locs 0 0 (MQ below (QQ g none (mW g h ad sTaped sFault sFaultP sAt sPlace sToken sNumber sWord sText0 sWritten sSort0 sPiled sOpens sWhole sOnce sIsW sDied ncA cIm cTx cTp cPl cNm cVa cTr cAs cLi cSa cHd) A) ([.ref h] : List Value).toArray s 0 0 A) (F0 m 114 ls []) := by
      intro H locs ls hP hD hS hl
      refine lv_iconst (v := 0) hx hb dX2_keep_114 (by decide) ?_
      refine lv_istore_n (lv' := [(2, .int 0), (0, .ref h), (1, .int v6)]) hx hb dX2_keep_115 rfl hl (by decide) rfl (fun ls hl => ?_)
      obtain ⟨c19, k24, hf⟩ := bd1s hf
      have hE21 : ∀ (H : Heap) (locs : List Loc) (ls : Array Slot), va_P g.1 vwCl (mW g h ad sTaped sFault sFaultP sAt sPlace sToken sNumber sWord sText0 sWritten sSort0 sPiled sOpens sWhole sOnce sIsW sDied c19 cIm cTx cTp cPl cNm cVa cTr cAs cLi cSa cHd) H → va_D A (mW g h ad sTaped sFault sFaultP sAt sPlace sToken sNumber sWord sText0 sWritten sSort0 sPiled sOpens sWhole sOnce sIsW sDied c19 cIm cTx cTp cPl cNm cVa cTr cAs cLi cSa cHd) → va_S A s.heap H locs → lv_has ls 4 [(0, .ref h)] → W p l e ({ frames := 1, cells := 0, slots := 0, locals := 22 } : Room) s m ([.ref h] : List Value).toArray below meth c H locs 0 0 (MQ below (QQ g none (mW g h ad sTaped sFault sFaultP sAt sPlace sToken sNumber sWord sText0 sWritten sSort0 sPiled sOpens sWhole sOnce sIsW sDied ncA cIm cTx cTp cPl cNm cVa cTr cAs cLi cSa cHd) A) ([.ref h] : List Value).toArray s 0 0 A) (F0 m 163 ls []) := by
        intro H locs ls hP hD hS hl
        refine lv_aload_n hx hb dX2_keep_163 rfl (lv_at hl 0 rfl) ?_
        refine gM0 X hP dX2_keep_164 ?_
        refine lv_iconst (v := 4) hx hb dX2_keep_167 (by decide) ?_
        refine lv_dup2_11 hx hb dX2_keep_168 rfl rfl ?_
        obtain ⟨v25, ev25, bv25, hf⟩ := rds hf
        refine lM_cA X hP ev25 bv25 dX2_keep_169 ?_
        refine lv_iconst (v := 1) hx hb dX2_keep_170 (by decide) ?_
        refine lv_iadd hx hb dX2_keep_171 ?_
        obtain ⟨v26, ev26, hf⟩ := lts hf
        refine tpi ev26 ?_
        obtain ⟨c27, ec27, bc27, hf⟩ := wrs hf
        refine sM_cA X hP hD hS ec27 bc27 dX2_keep_172 (fun H locs hP hD hS => ?_)
        cases hf
        exact rV X hP hD hS dX2_keep_173
      have hL22 : ∀ (n20 : Nat) (v17 : Int32) (c18 : Nat → Int32), M_keep_L116 φ v6 n20 v17 c18 = some c19 → ∀ (H : Heap) (locs : List Loc) (ls : Array Slot), va_P g.1 vwCl (mW g h ad sTaped sFault sFaultP sAt sPlace sToken sNumber sWord sText0 sWritten sSort0 sPiled sOpens sWhole sOnce sIsW sDied c18 cIm cTx cTp cPl cNm cVa cTr cAs cLi cSa cHd) H → va_D A (mW g h ad sTaped sFault sFaultP sAt sPlace sToken sNumber sWord sText0 sWritten sSort0 sPiled sOpens sWhole sOnce sIsW sDied c18 cIm cTx cTp cPl cNm cVa cTr cAs cLi cSa cHd) → va_S A s.heap H locs → lv_has ls 4 [(0, .ref h), (1, .int v6), (2, .int v17)] → W p l e ({ frames := 1, cells := 0, slots := 0, locals := 22 } : Room) s m ([.ref h] : List Value).toArray below meth c H locs 0 0 (MQ below (QQ g none (mW g h ad sTaped sFault sFaultP sAt sPlace sToken sNumber sWord sText0 sWritten sSort0 sPiled sOpens sWhole sOnce sIsW sDied ncA cIm cTx cTp cPl cNm cVa cTr cAs cLi cSa cHd) A) ([.ref h] : List Value).toArray s 0 0 A) (F0 m 116 ls []) := by
        intro n20
        induction n20 with
        | zero =>
          intro v17 c18 hf
          exact nn hf
        | succ n20 ih23 =>
          intro v17 c18 hf H locs ls hP hD hS hl
          rw [M_keep_L116] at hf
          refine lv_iload_n hx hb dX2_keep_116 rfl (lv_at hl 2 rfl) ?_
          refine lv_bipush (v := 6) hx hb dX2_keep_117 (by decide) ?_
          refine bc_ge (tgt := 163) hx hb hf dX2_keep_119 (by decide) (fun hf => ?_) (fun hf => ?_)
          · cases hf
            exact hE21 _ _ _ hP hD hS (lv_sub hl [0] rfl)
          · refine lv_iconst (v := 0) hx hb dX2_keep_122 (by decide) ?_
            refine lv_istore_n (lv' := [(3, .int 0), (0, .ref h), (1, .int v6), (2, .int v17)]) hx hb dX2_keep_123 rfl hl (by decide) rfl (fun ls hl => ?_)
            obtain ⟨c30, k35, hf⟩ := bd1s hf
            have hE32 : ∀ (H : Heap) (locs : List Loc) (ls : Array Slot), va_P g.1 vwCl (mW g h ad sTaped sFault sFaultP sAt sPlace sToken sNumber sWord sText0 sWritten sSort0 sPiled sOpens sWhole sOnce sIsW sDied c30 cIm cTx cTp cPl cNm cVa cTr cAs cLi cSa cHd) H → va_D A (mW g h ad sTaped sFault sFaultP sAt sPlace sToken sNumber sWord sText0 sWritten sSort0 sPiled sOpens sWhole sOnce sIsW sDied c30 cIm cTx cTp cPl cNm cVa cTr cAs cLi cSa cHd) → va_S A s.heap H locs → lv_has ls 4 [(0, .ref h), (1, .int v6), (2, .int v17)] → W p l e ({ frames := 1, cells := 0, slots := 0, locals := 22 } : Room) s m ([.ref h] : List Value).toArray below meth c H locs 0 0 (MQ below (QQ g none (mW g h ad sTaped sFault sFaultP sAt sPlace sToken sNumber sWord sText0 sWritten sSort0 sPiled sOpens sWhole sOnce sIsW sDied ncA cIm cTx cTp cPl cNm cVa cTr cAs cLi cSa cHd) A) ([.ref h] : List Value).toArray s 0 0 A) (F0 m 157 ls []) := by
              intro H locs ls hP hD hS hl
              obtain ⟨v36, ev36, hf⟩ := lts hf
              refine lv_iinc (v := v36) (lv' := [(2, .int v36), (0, .ref h), (1, .int v6)]) hx hb dX2_keep_157 hl (k := 2) rfl (by rw [ev36]; rfl) (by decide) rfl (fun ls hl => ?_)
              refine lv_goto (tgt := 116) hx hb dX2_keep_160 (by decide) ?_
              exact ih23 _ _ hf _ _ _ hP hD hS (lv_sub hl [1, 2, 0] rfl)
            have hL33 : ∀ (n31 : Nat) (v28 : Int32) (c29 : Nat → Int32), M_keep_L124 φ v6 v17 n31 v28 c29 = some c30 → ∀ (H : Heap) (locs : List Loc) (ls : Array Slot), va_P g.1 vwCl (mW g h ad sTaped sFault sFaultP sAt sPlace sToken sNumber sWord sText0 sWritten sSort0 sPiled sOpens sWhole sOnce sIsW sDied c29 cIm cTx cTp cPl cNm cVa cTr cAs cLi cSa cHd) H → va_D A (mW g h ad sTaped sFault sFaultP sAt sPlace sToken sNumber sWord sText0 sWritten sSort0 sPiled sOpens sWhole sOnce sIsW sDied c29 cIm cTx cTp cPl cNm cVa cTr cAs cLi cSa cHd) → va_S A s.heap H locs → lv_has ls 4 [(0, .ref h), (1, .int v6), (2, .int v17), (3, .int v28)] → W p l e ({ frames := 1, cells := 0, slots := 0, locals := 22 } : Room) s m ([.ref h] : List Value).toArray below meth c H locs 0 0 (MQ below (QQ g none (mW g h ad sTaped sFault sFaultP sAt sPlace sToken sNumber sWord sText0 sWritten sSort0 sPiled sOpens sWhole sOnce sIsW sDied ncA cIm cTx cTp cPl cNm cVa cTr cAs cLi cSa cHd) A) ([.ref h] : List Value).toArray s 0 0 A) (F0 m 124 ls []) := by
              intro n31
              induction n31 with
              | zero =>
                intro v28 c29 hf
                exact nn hf
              | succ n31 ih34 =>
                intro v28 c29 hf H locs ls hP hD hS hl
                rw [M_keep_L124] at hf
                refine lv_iload_n hx hb dX2_keep_124 rfl (lv_at hl 3 rfl) ?_
                refine lv_bipush (v := 7) hx hb dX2_keep_125 (by decide) ?_
                refine bc_ge (tgt := 157) hx hb hf dX2_keep_127 (by decide) (fun hf => ?_) (fun hf => ?_)
                · cases hf
                  exact hE32 _ _ _ hP hD hS (lv_sub hl [0, 1, 2] rfl)
                · refine lv_aload_n hx hb dX2_keep_130 rfl (lv_at hl 0 rfl) ?_
                  refine gM0 X hP dX2_keep_131 ?_
                  refine lv_iload_n hx hb dX2_keep_134 rfl (lv_at hl 1 rfl) ?_
                  refine lv_iconst (v := 4) hx hb dX2_keep_135 (by decide) ?_
                  refine lv_iadd hx hb dX2_keep_136 ?_
                  refine lv_bipush (v := 7) hx hb dX2_keep_137 (by decide) ?_
                  refine lv_iload_n hx hb dX2_keep_139 rfl (lv_at hl 2 rfl) ?_
                  refine lv_imul hx hb dX2_keep_140 ?_
                  refine lv_iadd hx hb dX2_keep_141 ?_
                  refine lv_iload_n hx hb dX2_keep_142 rfl (lv_at hl 3 rfl) ?_
                  refine lv_iadd hx hb dX2_keep_143 ?_
                  refine lv_aload_n hx hb dX2_keep_144 rfl (lv_at hl 0 rfl) ?_
                  refine lv_iload_n hx hb dX2_keep_145 rfl (lv_at hl 2 rfl) ?_
                  refine lv_iload_n hx hb dX2_keep_146 rfl (lv_at hl 3 rfl) ?_
                  obtain ⟨r37, k38, hf⟩ := bd1s hf
                  refine cVi (rest := [.int (((v6 + 4) + (7 * v17)) + v28), .ref (ad 0)]) X (met_M_get k38) gw_X2_X2_get dy_X2_get ⟨⟨rfl, rfl⟩, Nat.le_of_ble_eq_true rfl, Nat.le_of_ble_eq_true rfl⟩ hP hD hS hl.1 rcM rfl rfl ⟨Nat.zero_le _, Nat.zero_le _⟩ (Nat.le_of_ble_eq_true rfl) dX2_keep_147 (fun H locs hP hD hS => ?_)
                  obtain ⟨c39, ec39, bc39, hf⟩ := wrs hf
                  refine sM_cA X hP hD hS ec39 bc39 dX2_keep_150 (fun H locs hP hD hS => ?_)
                  obtain ⟨v40, ev40, hf⟩ := lts hf
                  refine lv_iinc (v := v40) (lv' := [(3, .int v40), (0, .ref h), (1, .int v6), (2, .int v17)]) hx hb dX2_keep_151 hl (k := 3) rfl (by rw [ev40]; rfl) (by decide) rfl (fun ls hl => ?_)
                  refine lv_goto (tgt := 124) hx hb dX2_keep_154 (by decide) ?_
                  exact ih34 _ _ hf _ _ _ hP hD hS (lv_sub hl [1, 2, 3, 0] rfl)
            exact hL33 _ _ _ k35 _ _ _ hP hD hS (lv_sub hl [1, 2, 3, 0] rfl)
      exact hL22 _ _ _ k24 _ _ _ hP hD hS (lv_sub hl [1, 2, 0] rfl)
    have hL14 : ∀ (n12 : Nat) (v9 : Int32) (c10 : Nat → Int32), M_keep_L84 φ v6 n12 v9 c10 = some c11 → ∀ (H : Heap) (locs : List Loc) (ls : Array Slot), va_P g.1 vwCl (mW g h ad sTaped sFault sFaultP sAt sPlace sToken sNumber sWord sText0 sWritten sSort0 sPiled sOpens sWhole sOnce sIsW sDied c10 cIm cTx cTp cPl cNm cVa cTr cAs cLi cSa cHd) H → va_D A (mW g h ad sTaped sFault sFaultP sAt sPlace sToken sNumber sWord sText0 sWritten sSort0 sPiled sOpens sWhole sOnce sIsW sDied c10 cIm cTx cTp cPl cNm cVa cTr cAs cLi cSa cHd) → va_S A s.heap H locs → lv_has ls 4 [(0, .ref h), (1, .int v6), (2, .int v9)] → W p l e ({ frames := 1, cells := 0, slots := 0, locals := 22 } : Room) s m ([.ref h] : List Value).toArray below meth c H locs 0 0 (MQ below (QQ g none (mW g h ad sTaped sFault sFaultP sAt sPlace sToken sNumber sWord sText0 sWritten sSort0 sPiled sOpens sWhole sOnce sIsW sDied ncA cIm cTx cTp cPl cNm cVa cTr cAs cLi cSa cHd) A) ([.ref h] : List Value).toArray s 0 0 A) (F0 m 84 ls []) := by
      intro n12
      induction n12 with
      | zero =>
        intro v9 c10 hf
        exact nn hf
      | succ n12 ih15 =>
        intro v9 c10 hf H locs ls hP hD hS hl
        rw [M_keep_L84] at hf
        refine lv_iload_n hx hb dX2_keep_84 rfl (lv_at hl 2 rfl) ?_
        refine lv_iconst (v := 3) hx hb dX2_keep_85 (by decide) ?_
        refine bc_ge (tgt := 114) hx hb hf dX2_keep_86 (by decide) (fun hf => ?_) (fun hf => ?_)
        · cases hf
          exact hE13 _ _ _ hP hD hS (lv_sub hl [0, 1] rfl)
        · refine lv_aload_n hx hb dX2_keep_89 rfl (lv_at hl 0 rfl) ?_
          refine gM0 X hP dX2_keep_90 ?_
          refine lv_iload_n hx hb dX2_keep_93 rfl (lv_at hl 1 rfl) ?_
          refine lv_iconst (v := 1) hx hb dX2_keep_94 (by decide) ?_
          refine lv_iadd hx hb dX2_keep_95 ?_
          refine lv_iload_n hx hb dX2_keep_96 rfl (lv_at hl 2 rfl) ?_
          refine lv_iadd hx hb dX2_keep_97 ?_
          refine lv_aload_n hx hb dX2_keep_98 rfl (lv_at hl 0 rfl) ?_
          refine gM0 X hP dX2_keep_99 ?_
          refine lv_bipush (v := 10) hx hb dX2_keep_102 (by decide) ?_
          refine lv_iload_n hx hb dX2_keep_104 rfl (lv_at hl 2 rfl) ?_
          refine lv_iadd hx hb dX2_keep_105 ?_
          obtain ⟨v41, ev41, bv41, hf⟩ := rds hf
          refine lM_cA X hP ev41 bv41 dX2_keep_106 ?_
          obtain ⟨c42, ec42, bc42, hf⟩ := wrs hf
          refine sM_cA X hP hD hS ec42 bc42 dX2_keep_107 (fun H locs hP hD hS => ?_)
          obtain ⟨v43, ev43, hf⟩ := lts hf
          refine lv_iinc (v := v43) (lv' := [(2, .int v43), (0, .ref h), (1, .int v6)]) hx hb dX2_keep_108 hl (k := 2) rfl (by rw [ev43]; rfl) (by decide) rfl (fun ls hl => ?_)
          refine lv_goto (tgt := 84) hx hb dX2_keep_111 (by decide) ?_
          exact ih15 _ _ hf _ _ _ hP hD hS (lv_sub hl [1, 2, 0] rfl)
    exact hL14 _ _ _ k16 _ _ _ hP hD hS (lv_sub hl [2, 1, 0] rfl)
  replace hf := k3
  clear k3
  refine bc_ne (tgt := 56) hx hb hf dX2_keep_8 (by decide) (fun hf => ?_) (fun hf => ?_)
  · cases hf
    exact hj4 _ _ _ hP hD hS (lv_sub hl [0] rfl)
  · refine lv_iconst (v := 0) hx hb dX2_keep_11 (by decide) ?_
    refine lv_istore_n (lv' := [(1, .int 0), (0, .ref h)]) hx hb dX2_keep_12 rfl hl (by decide) rfl (fun ls hl => ?_)
    obtain ⟨c46, k51, hf⟩ := bd1s hf
    have hE48 : ∀ (H : Heap) (locs : List Loc) (ls : Array Slot), va_P g.1 vwCl (mW g h ad sTaped sFault sFaultP sAt sPlace sToken sNumber sWord sText0 sWritten sSort0 sPiled sOpens sWhole sOnce sIsW sDied c46 cIm cTx cTp cPl cNm cVa cTr cAs cLi cSa cHd) H → va_D A (mW g h ad sTaped sFault sFaultP sAt sPlace sToken sNumber sWord sText0 sWritten sSort0 sPiled sOpens sWhole sOnce sIsW sDied c46 cIm cTx cTp cPl cNm cVa cTr cAs cLi cSa cHd) → va_S A s.heap H locs → lv_has ls 4 [(0, .ref h)] → W p l e ({ frames := 1, cells := 0, slots := 0, locals := 22 } : Room) s m ([.ref h] : List Value).toArray below meth c H locs 0 0 (MQ below (QQ g none (mW g h ad sTaped sFault sFaultP sAt sPlace sToken sNumber sWord sText0 sWritten sSort0 sPiled sOpens sWhole sOnce sIsW sDied ncA cIm cTx cTp cPl cNm cVa cTr cAs cLi cSa cHd) A) ([.ref h] : List Value).toArray s 0 0 A) (F0 m 46 ls []) := by
      intro H locs ls hP hD hS hl
      refine lv_aload_n hx hb dX2_keep_46 rfl (lv_at hl 0 rfl) ?_
      refine gM0 X hP dX2_keep_47 ?_
      refine lv_iconst (v := 4) hx hb dX2_keep_50 (by decide) ?_
      refine lv_dup2_11 hx hb dX2_keep_51 rfl rfl ?_
      obtain ⟨v52, ev52, bv52, hf⟩ := rds hf
      refine lM_cA X hP ev52 bv52 dX2_keep_52 ?_
      refine lv_iconst (v := 1) hx hb dX2_keep_53 (by decide) ?_
      refine lv_isub hx hb dX2_keep_54 ?_
      obtain ⟨v53, ev53, hf⟩ := lts hf
      refine tpi ev53 ?_
      obtain ⟨c54, ec54, bc54, hf⟩ := wrs hf
      refine sM_cA X hP hD hS ec54 bc54 dX2_keep_55 (fun H locs hP hD hS => ?_)
      cases hf
      exact hj4 _ _ _ hP hD hS (lv_sub hl [0] rfl)
    have hL49 : ∀ (n47 : Nat) (v44 : Int32) (c45 : Nat → Int32), M_keep_L13 φ n47 v44 c45 = some c46 → ∀ (H : Heap) (locs : List Loc) (ls : Array Slot), va_P g.1 vwCl (mW g h ad sTaped sFault sFaultP sAt sPlace sToken sNumber sWord sText0 sWritten sSort0 sPiled sOpens sWhole sOnce sIsW sDied c45 cIm cTx cTp cPl cNm cVa cTr cAs cLi cSa cHd) H → va_D A (mW g h ad sTaped sFault sFaultP sAt sPlace sToken sNumber sWord sText0 sWritten sSort0 sPiled sOpens sWhole sOnce sIsW sDied c45 cIm cTx cTp cPl cNm cVa cTr cAs cLi cSa cHd) → va_S A s.heap H locs → lv_has ls 4 [(0, .ref h), (1, .int v44)] → W p l e ({ frames := 1, cells := 0, slots := 0, locals := 22 } : Room) s m ([.ref h] : List Value).toArray below meth c H locs 0 0 (MQ below (QQ g none (mW g h ad sTaped sFault sFaultP sAt sPlace sToken sNumber sWord sText0 sWritten sSort0 sPiled sOpens sWhole sOnce sIsW sDied ncA cIm cTx cTp cPl cNm cVa cTr cAs cLi cSa cHd) A) ([.ref h] : List Value).toArray s 0 0 A) (F0 m 13 ls []) := by
      intro n47
      induction n47 with
      | zero =>
        intro v44 c45 hf
        exact nn hf
      | succ n47 ih50 =>
        intro v44 c45 hf H locs ls hP hD hS hl
        rw [M_keep_L13] at hf
        refine lv_iload_n hx hb dX2_keep_13 rfl (lv_at hl 1 rfl) ?_
        refine lv_sipush (v := 1334) hx hb dX2_keep_14 (by decide) ?_
        refine bc_ge (tgt := 46) hx hb hf dX2_keep_17 (by decide) (fun hf => ?_) (fun hf => ?_)
        · cases hf
          exact hE48 _ _ _ hP hD hS (lv_sub hl [0] rfl)
        · refine lv_aload_n hx hb dX2_keep_20 rfl (lv_at hl 0 rfl) ?_
          refine gM0 X hP dX2_keep_21 ?_
          refine lv_sipush (v := 142) hx hb dX2_keep_24 (by decide) ?_
          refine lv_iload_n hx hb dX2_keep_27 rfl (lv_at hl 1 rfl) ?_
          refine lv_iadd hx hb dX2_keep_28 ?_
          refine lv_aload_n hx hb dX2_keep_29 rfl (lv_at hl 0 rfl) ?_
          refine gM0 X hP dX2_keep_30 ?_
          refine lv_sipush (v := 188) hx hb dX2_keep_33 (by decide) ?_
          refine lv_iload_n hx hb dX2_keep_36 rfl (lv_at hl 1 rfl) ?_
          refine lv_iadd hx hb dX2_keep_37 ?_
          obtain ⟨v55, ev55, bv55, hf⟩ := rds hf
          refine lM_cA X hP ev55 bv55 dX2_keep_38 ?_
          obtain ⟨c56, ec56, bc56, hf⟩ := wrs hf
          refine sM_cA X hP hD hS ec56 bc56 dX2_keep_39 (fun H locs hP hD hS => ?_)
          obtain ⟨v57, ev57, hf⟩ := lts hf
          refine lv_iinc (v := v57) (lv' := [(1, .int v57), (0, .ref h)]) hx hb dX2_keep_40 hl (k := 1) rfl (by rw [ev57]; rfl) (by decide) rfl (fun ls hl => ?_)
          refine lv_goto (tgt := 13) hx hb dX2_keep_43 (by decide) ?_
          exact ih50 _ _ hf _ _ _ hP hD hS (lv_sub hl [1, 0] rfl)
    exact hL49 _ _ _ k51 _ _ _ hP hD hS (lv_sub hl [1, 0] rfl)
set_option maxHeartbeats 4000000 in
theorem met_M_write {l : Launch} {g : gG} {h : Nat} {ad : Nat → Nat} {sTaped : Int32} {sFault : Int32} {sFaultP : Int32} {sAt : Int32} {sPlace : Int32} {sToken : Int32} {sNumber : Int32} {sWord : Int64} {sText0 : Int32} {sWritten : Int32} {sSort0 : Int32} {sPiled : Int32} {sOpens : Int32} {sWhole : Int32} {sOnce : Int32} {sIsW : Int32} {sDied : Int32} {cA : Nat → Int32} {cIm : Nat → Int32} {cTx : Nat → Int32} {cTp : Nat → Int32} {cPl : Nat → Int32} {cNm : Nat → Int32} {cVa : Nat → Int64} {cTr : Nat → Int32} {cAs : Nat → Int32} {cLi : Nat → Int32} {cSa : Nat → Int32} {cHd : Nat → Int32} {x1 : Int32} {x2 : Int32} {ncA : Nat → Int32} (hf : M_write sIsW cA x1 x2 = some ncA) : CC l yX2_write (ws_ yX2_write cX2_write 3 none) ({ frames := 0, cells := 0, slots := 0, locals := 0 } : Room) g [.ref h, .int x1, .int x2] (mW g h ad sTaped sFault sFaultP sAt sPlace sToken sNumber sWord sText0 sWritten sSort0 sPiled sOpens sWhole sOnce sIsW sDied cA cIm cTx cTp cPl cNm cVa cTr cAs cLi cSa cHd) none (mW g h ad sTaped sFault sFaultP sAt sPlace sToken sNumber sWord sText0 sWritten sSort0 sPiled sOpens sWhole sOnce sIsW sDied ncA cIm cTx cTp cPl cNm cVa cTr cAs cLi cSa cHd) 0 0 := by
  refine CC.of RX2 rfl plain_X2 (Nat.le_of_ble_eq_true rfl) (fun p e s m below meth c A ls X hP hD hS hl => ?_)
  have hx := X.1
  have hb := X.2.1
  have hown := X.2.2.2.2.2.1
  have hts := X.2.2.2.2.2.2.1
  have hl : lv_has ls 3 [(0, .ref h), (1, .int x1), (2, .int x2)] := hl
  unfold M_write at hf
  refine lv_aload_n hx hb dX2_write_0 rfl (lv_at hl 0 rfl) ?_
  refine gM23 X hP dX2_write_1 ?_
  refine bq_ne (tgt := 8) hx hb hf dX2_write_4 (by decide) (fun hf => ?_) (fun hf => ?_)
  · refine lv_aload_n hx hb dX2_write_8 rfl (lv_at hl 0 rfl) ?_
    refine gM0 X hP dX2_write_9 ?_
    refine lv_sipush (v := 1522) hx hb dX2_write_12 (by decide) ?_
    refine lv_aload_n hx hb dX2_write_15 rfl (lv_at hl 0 rfl) ?_
    refine gM0 X hP dX2_write_16 ?_
    refine lv_bipush (v := 12) hx hb dX2_write_19 (by decide) ?_
    obtain ⟨v1, ev1, bv1, hf⟩ := rds hf
    refine lM_cA X hP ev1 bv1 dX2_write_21 ?_
    refine lv_sipush (v := 7240) hx hb dX2_write_22 (by decide) ?_
    refine lv_irem hx hb dX2_write_25 (by decide) ?_
    refine lv_iadd hx hb dX2_write_26 ?_
    refine lv_aload_n hx hb dX2_write_27 rfl (lv_at hl 0 rfl) ?_
    refine gM0 X hP dX2_write_28 ?_
    refine lv_bipush (v := 10) hx hb dX2_write_31 (by decide) ?_
    obtain ⟨v2, ev2, bv2, hf⟩ := rds hf
    refine lM_cA X hP ev2 bv2 dX2_write_33 ?_
    refine lv_bipush (v := 8) hx hb dX2_write_34 (by decide) ?_
    refine lv_imul hx hb dX2_write_36 ?_
    refine lv_iload_n hx hb dX2_write_37 rfl (lv_at hl 1 rfl) ?_
    refine lv_iadd hx hb dX2_write_38 ?_
    refine lv_bipush (v := 8) hx hb dX2_write_39 (by decide) ?_
    refine lv_imul hx hb dX2_write_41 ?_
    refine lv_iload_n hx hb dX2_write_42 rfl (lv_at hl 2 rfl) ?_
    refine lv_iadd hx hb dX2_write_43 ?_
    obtain ⟨v3, ev3, hf⟩ := lts hf
    refine tpi ev3 ?_
    obtain ⟨c4, ec4, bc4, hf⟩ := wrs hf
    refine sM_cA X hP hD hS ec4 bc4 dX2_write_44 (fun H locs hP hD hS => ?_)
    refine lv_aload_n hx hb dX2_write_45 rfl (lv_at hl 0 rfl) ?_
    refine gM0 X hP dX2_write_46 ?_
    refine lv_bipush (v := 12) hx hb dX2_write_49 (by decide) ?_
    refine lv_dup2_11 hx hb dX2_write_51 rfl rfl ?_
    obtain ⟨v5, ev5, bv5, hf⟩ := rds hf
    refine lM_cA X hP ev5 bv5 dX2_write_52 ?_
    refine lv_iconst (v := 1) hx hb dX2_write_53 (by decide) ?_
    refine lv_iadd hx hb dX2_write_54 ?_
    obtain ⟨v6, ev6, hf⟩ := lts hf
    refine tpi ev6 ?_
    obtain ⟨c7, ec7, bc7, hf⟩ := wrs hf
    refine sM_cA X hP hD hS ec7 bc7 dX2_write_55 (fun H locs hP hD hS => ?_)
    cases hf
    exact rV X hP hD hS dX2_write_56
  · cases hf
    exact rV X hP hD hS dX2_write_7
theorem gw_X2_X2_isPerson : GoodIn lw_all (wsV RX2 67 RX2 yX2_isPerson (ws_ yX2_isPerson cX2_isPerson 2 (some .boolean))) := lw_V q1706 q1708 qs99 q148 q1709
theorem dy_X2_isPerson : Dy yX2_isPerson RX2 1 := by decide +kernel
set_option maxHeartbeats 4000000 in
theorem met_M_isOutlaw {l : Launch} {g : gG} {h : Nat} {ad : Nat → Nat} {sTaped : Int32} {sFault : Int32} {sFaultP : Int32} {sAt : Int32} {sPlace : Int32} {sToken : Int32} {sNumber : Int32} {sWord : Int64} {sText0 : Int32} {sWritten : Int32} {sSort0 : Int32} {sPiled : Int32} {sOpens : Int32} {sWhole : Int32} {sOnce : Int32} {sIsW : Int32} {sDied : Int32} {cA : Nat → Int32} {cIm : Nat → Int32} {cTx : Nat → Int32} {cTp : Nat → Int32} {cPl : Nat → Int32} {cNm : Nat → Int32} {cVa : Nat → Int64} {cTr : Nat → Int32} {cAs : Nat → Int32} {cLi : Nat → Int32} {cSa : Nat → Int32} {cHd : Nat → Int32} {x1 : Int32} {r : Int32} (hf : M_isOutlaw cA x1 = some r) : CC l yX2_isOutlaw (ws_ yX2_isOutlaw cX2_isOutlaw 2 (some .boolean)) ({ frames := 2, cells := 0, slots := 0, locals := 43 } : Room) g [.ref h, .int x1] (mW g h ad sTaped sFault sFaultP sAt sPlace sToken sNumber sWord sText0 sWritten sSort0 sPiled sOpens sWhole sOnce sIsW sDied cA cIm cTx cTp cPl cNm cVa cTr cAs cLi cSa cHd) (some (.int r)) (mW g h ad sTaped sFault sFaultP sAt sPlace sToken sNumber sWord sText0 sWritten sSort0 sPiled sOpens sWhole sOnce sIsW sDied cA cIm cTx cTp cPl cNm cVa cTr cAs cLi cSa cHd) 0 0 := by
  refine CC.of RX2 rfl plain_X2 (Nat.le_of_ble_eq_true rfl) (fun p e s m below meth c A ls X hP hD hS hl => ?_)
  have hx := X.1
  have hb := X.2.1
  have hown := X.2.2.2.2.2.1
  have hts := X.2.2.2.2.2.2.1
  have hl : lv_has ls 2 [(0, .ref h), (1, .int x1)] := hl
  unfold M_isOutlaw at hf
  refine lv_aload_n hx hb dX2_isOutlaw_0 rfl (lv_at hl 0 rfl) ?_
  refine lv_iload_n hx hb dX2_isOutlaw_1 rfl (lv_at hl 1 rfl) ?_
  obtain ⟨r1, k2, hf⟩ := bd1s hf
  refine cVi (rest := []) X (met_M_isPerson k2) gw_X2_X2_isPerson dy_X2_isPerson ⟨⟨rfl, rfl⟩, Nat.le_of_ble_eq_true rfl, Nat.le_of_ble_eq_true rfl⟩ hP hD hS hl.1 rcM rfl rfl ⟨Nat.zero_le _, Nat.zero_le _⟩ (Nat.le_of_ble_eq_true rfl) dX2_isOutlaw_2 (fun H locs hP hD hS => ?_)
  refine bq_eq (tgt := 23) hx hb hf dX2_isOutlaw_5 (by decide) (fun hf => ?_) (fun hf => ?_)
  · refine lv_iconst (v := 0) hx hb dX2_isOutlaw_23 (by decide) ?_
    cases hf
    exact rZ X rfl hP hD hS dX2_isOutlaw_24
  · refine lv_aload_n hx hb dX2_isOutlaw_8 rfl (lv_at hl 0 rfl) ?_
    refine lv_iload_n hx hb dX2_isOutlaw_9 rfl (lv_at hl 1 rfl) ?_
    refine lv_bipush (v := 6) hx hb dX2_isOutlaw_10 (by decide) ?_
    obtain ⟨r3, k4, hf⟩ := bd1s hf
    refine cVi (rest := []) X (met_M_get k4) gw_X2_X2_get dy_X2_get ⟨⟨rfl, rfl⟩, Nat.le_of_ble_eq_true rfl, Nat.le_of_ble_eq_true rfl⟩ hP hD hS hl.1 rcM rfl rfl ⟨Nat.zero_le _, Nat.zero_le _⟩ (Nat.le_of_ble_eq_true rfl) dX2_isOutlaw_12 (fun H locs hP hD hS => ?_)
    refine lv_iconst (v := 1) hx hb dX2_isOutlaw_15 (by decide) ?_
    refine bc_ne (tgt := 23) hx hb hf dX2_isOutlaw_16 (by decide) (fun hf => ?_) (fun hf => ?_)
    · refine lv_iconst (v := 0) hx hb dX2_isOutlaw_23 (by decide) ?_
      cases hf
      exact rZ X rfl hP hD hS dX2_isOutlaw_24
    · refine lv_iconst (v := 1) hx hb dX2_isOutlaw_19 (by decide) ?_
      refine lv_goto (tgt := 24) hx hb dX2_isOutlaw_20 (by decide) ?_
      cases hf
      exact rZ X rfl hP hD hS dX2_isOutlaw_24
set_option maxHeartbeats 4000000 in
theorem met_M_crowdOf {l : Launch} {g : gG} {h : Nat} {ad : Nat → Nat} {sTaped : Int32} {sFault : Int32} {sFaultP : Int32} {sAt : Int32} {sPlace : Int32} {sToken : Int32} {sNumber : Int32} {sWord : Int64} {sText0 : Int32} {sWritten : Int32} {sSort0 : Int32} {sPiled : Int32} {sOpens : Int32} {sWhole : Int32} {sOnce : Int32} {sIsW : Int32} {sDied : Int32} {cA : Nat → Int32} {cIm : Nat → Int32} {cTx : Nat → Int32} {cTp : Nat → Int32} {cPl : Nat → Int32} {cNm : Nat → Int32} {cVa : Nat → Int64} {cTr : Nat → Int32} {cAs : Nat → Int32} {cLi : Nat → Int32} {cSa : Nat → Int32} {cHd : Nat → Int32} {x1 : Int32} {x2 : Int32} {r : Int32} {φ : Nat} (hf : M_crowdOf φ cA x1 x2 = some r) : CC l yX2_crowdOf (ws_ yX2_crowdOf cX2_crowdOf 5 (some .int)) ({ frames := 1, cells := 0, slots := 0, locals := 22 } : Room) g [.ref h, .int x1, .int x2] (mW g h ad sTaped sFault sFaultP sAt sPlace sToken sNumber sWord sText0 sWritten sSort0 sPiled sOpens sWhole sOnce sIsW sDied cA cIm cTx cTp cPl cNm cVa cTr cAs cLi cSa cHd) (some (.int r)) (mW g h ad sTaped sFault sFaultP sAt sPlace sToken sNumber sWord sText0 sWritten sSort0 sPiled sOpens sWhole sOnce sIsW sDied cA cIm cTx cTp cPl cNm cVa cTr cAs cLi cSa cHd) 0 0 := by
  refine CC.of RX2 rfl plain_X2 (Nat.le_of_ble_eq_true rfl) (fun p e s m below meth c A ls X hP hD hS hl => ?_)
  have hx := X.1
  have hb := X.2.1
  have hown := X.2.2.2.2.2.1
  have hts := X.2.2.2.2.2.2.1
  have hl : lv_has ls 5 [(0, .ref h), (1, .int x1), (2, .int x2)] := hl
  unfold M_crowdOf at hf
  refine lv_iconst (v := 0) hx hb dX2_crowdOf_0 (by decide) ?_
  refine lv_istore_n (lv' := [(3, .int 0), (0, .ref h), (1, .int x1), (2, .int x2)]) hx hb dX2_crowdOf_1 rfl hl (by decide) rfl (fun ls hl => ?_)
  refine lv_iconst (v := 0) hx hb dX2_crowdOf_2 (by decide) ?_
  refine lv_istore (lv' := [(4, .int 0), (3, .int 0), (0, .ref h), (1, .int x1), (2, .int x2)]) hx hb dX2_crowdOf_3 hl (by decide) rfl (fun ls hl => ?_)
  obtain ⟨v3, k8, hf⟩ := bd1s hf
  have hE5 : ∀ (H : Heap) (locs : List Loc) (ls : Array Slot), va_P g.1 vwCl (mW g h ad sTaped sFault sFaultP sAt sPlace sToken sNumber sWord sText0 sWritten sSort0 sPiled sOpens sWhole sOnce sIsW sDied cA cIm cTx cTp cPl cNm cVa cTr cAs cLi cSa cHd) H → va_D A (mW g h ad sTaped sFault sFaultP sAt sPlace sToken sNumber sWord sText0 sWritten sSort0 sPiled sOpens sWhole sOnce sIsW sDied cA cIm cTx cTp cPl cNm cVa cTr cAs cLi cSa cHd) → va_S A s.heap H locs → lv_has ls 5 [(3, .int v3)] → W p l e ({ frames := 1, cells := 0, slots := 0, locals := 22 } : Room) s m ([.ref h, .int x1, .int x2] : List Value).toArray below meth c H locs 0 0 (MQ below (QQ g (some (.int r)) (mW g h ad sTaped sFault sFaultP sAt sPlace sToken sNumber sWord sText0 sWritten sSort0 sPiled sOpens sWhole sOnce sIsW sDied cA cIm cTx cTp cPl cNm cVa cTr cAs cLi cSa cHd) A) ([.ref h, .int x1, .int x2] : List Value).toArray s 0 0 A) (F0 m 59 ls []) := by
    intro H locs ls hP hD hS hl
    refine lv_iload_n hx hb dX2_crowdOf_59 rfl (lv_at hl 0 rfl) ?_
    cases hf
    exact rI X hP hD hS dX2_crowdOf_60
  have hL6 : ∀ (n4 : Nat) (v1 : Int32) (v2 : Int32), M_crowdOf_L5 φ x1 x2 cA n4 v1 v2 = some v3 → ∀ (H : Heap) (locs : List Loc) (ls : Array Slot), va_P g.1 vwCl (mW g h ad sTaped sFault sFaultP sAt sPlace sToken sNumber sWord sText0 sWritten sSort0 sPiled sOpens sWhole sOnce sIsW sDied cA cIm cTx cTp cPl cNm cVa cTr cAs cLi cSa cHd) H → va_D A (mW g h ad sTaped sFault sFaultP sAt sPlace sToken sNumber sWord sText0 sWritten sSort0 sPiled sOpens sWhole sOnce sIsW sDied cA cIm cTx cTp cPl cNm cVa cTr cAs cLi cSa cHd) → va_S A s.heap H locs → lv_has ls 5 [(0, .ref h), (1, .int x1), (2, .int x2), (3, .int v1), (4, .int v2)] → W p l e ({ frames := 1, cells := 0, slots := 0, locals := 22 } : Room) s m ([.ref h, .int x1, .int x2] : List Value).toArray below meth c H locs 0 0 (MQ below (QQ g (some (.int r)) (mW g h ad sTaped sFault sFaultP sAt sPlace sToken sNumber sWord sText0 sWritten sSort0 sPiled sOpens sWhole sOnce sIsW sDied cA cIm cTx cTp cPl cNm cVa cTr cAs cLi cSa cHd) A) ([.ref h, .int x1, .int x2] : List Value).toArray s 0 0 A) (F0 m 5 ls []) := by
    intro n4
    induction n4 with
    | zero =>
      intro v1 v2 hf
      exact nn hf
    | succ n4 ih7 =>
      intro v1 v2 hf H locs ls hP hD hS hl
      rw [M_crowdOf_L5] at hf
      refine lv_iload hx hb dX2_crowdOf_5 (lv_at hl 4 rfl) ?_
      refine lv_aload_n hx hb dX2_crowdOf_7 rfl (lv_at hl 0 rfl) ?_
      refine gM0 X hP dX2_crowdOf_8 ?_
      refine lv_iconst (v := 1) hx hb dX2_crowdOf_11 (by decide) ?_
      obtain ⟨v9, ev9, bv9, hf⟩ := rds hf
      refine lM_cA X hP ev9 bv9 dX2_crowdOf_12 ?_
      refine bc_ge (tgt := 59) hx hb hf dX2_crowdOf_13 (by decide) (fun hf => ?_) (fun hf => ?_)
      · cases hf
        exact hE5 _ _ _ hP hD hS (lv_sub hl [3] rfl)
      · refine lv_iload_n hx hb dX2_crowdOf_16 rfl (lv_at hl 3 rfl) ?_
        refine lv_iload hx hb dX2_crowdOf_17 (lv_at hl 4 rfl) ?_
        refine lv_iload_n hx hb dX2_crowdOf_19 rfl (lv_at hl 1 rfl) ?_
        refine bc_eq (tgt := 50) hx hb hf dX2_crowdOf_20 (by decide) (fun hf => ?_) (fun hf => ?_)
        · refine lv_iconst (v := 0) hx hb dX2_crowdOf_50 (by decide) ?_
          refine lv_iadd hx hb dX2_crowdOf_51 ?_
          obtain ⟨v10, ev10, hf⟩ := lts hf
          refine tpi ev10 ?_
          refine lv_istore_n (lv' := [(3, .int v10), (0, .ref h), (1, .int x1), (2, .int x2), (4, .int v2)]) hx hb dX2_crowdOf_52 rfl hl (by decide) rfl (fun ls hl => ?_)
          obtain ⟨v11, ev11, hf⟩ := lts hf
          refine lv_iinc (v := v11) (lv' := [(4, .int v11), (3, .int v10), (0, .ref h), (1, .int x1), (2, .int x2)]) hx hb dX2_crowdOf_53 hl (k := 4) rfl (by rw [ev11]; rfl) (by decide) rfl (fun ls hl => ?_)
          refine lv_goto (tgt := 5) hx hb dX2_crowdOf_56 (by decide) ?_
          exact ih7 _ _ hf _ _ _ hP hD hS (lv_sub hl [2, 3, 4, 1, 0] rfl)
        · refine lv_aload_n hx hb dX2_crowdOf_23 rfl (lv_at hl 0 rfl) ?_
          refine lv_iload hx hb dX2_crowdOf_24 (lv_at hl 4 rfl) ?_
          refine lv_bipush (v := 6) hx hb dX2_crowdOf_26 (by decide) ?_
          obtain ⟨r12, k13, hf⟩ := bd1s hf
          refine cVi (rest := [.int v1]) X (met_M_get k13) gw_X2_X2_get dy_X2_get ⟨⟨rfl, rfl⟩, Nat.le_of_ble_eq_true rfl, Nat.le_of_ble_eq_true rfl⟩ hP hD hS hl.1 rcM rfl rfl ⟨Nat.zero_le _, Nat.zero_le _⟩ (Nat.le_of_ble_eq_true rfl) dX2_crowdOf_28 (fun H locs hP hD hS => ?_)
          refine lv_iconst (v := 3) hx hb dX2_crowdOf_31 (by decide) ?_
          refine bc_eq (tgt := 50) hx hb hf dX2_crowdOf_32 (by decide) (fun hf => ?_) (fun hf => ?_)
          · refine lv_iconst (v := 0) hx hb dX2_crowdOf_50 (by decide) ?_
            refine lv_iadd hx hb dX2_crowdOf_51 ?_
            obtain ⟨v14, ev14, hf⟩ := lts hf
            refine tpi ev14 ?_
            refine lv_istore_n (lv' := [(3, .int v14), (0, .ref h), (1, .int x1), (2, .int x2), (4, .int v2)]) hx hb dX2_crowdOf_52 rfl hl (by decide) rfl (fun ls hl => ?_)
            obtain ⟨v15, ev15, hf⟩ := lts hf
            refine lv_iinc (v := v15) (lv' := [(4, .int v15), (3, .int v14), (0, .ref h), (1, .int x1), (2, .int x2)]) hx hb dX2_crowdOf_53 hl (k := 4) rfl (by rw [ev15]; rfl) (by decide) rfl (fun ls hl => ?_)
            refine lv_goto (tgt := 5) hx hb dX2_crowdOf_56 (by decide) ?_
            exact ih7 _ _ hf _ _ _ hP hD hS (lv_sub hl [2, 3, 4, 1, 0] rfl)
          · refine lv_aload_n hx hb dX2_crowdOf_35 rfl (lv_at hl 0 rfl) ?_
            refine lv_iload hx hb dX2_crowdOf_36 (lv_at hl 4 rfl) ?_
            refine lv_iconst (v := 0) hx hb dX2_crowdOf_38 (by decide) ?_
            obtain ⟨r16, k17, hf⟩ := bd1s hf
            refine cVi (rest := [.int v1]) X (met_M_get k17) gw_X2_X2_get dy_X2_get ⟨⟨rfl, rfl⟩, Nat.le_of_ble_eq_true rfl, Nat.le_of_ble_eq_true rfl⟩ hP hD hS hl.1 rcM rfl rfl ⟨Nat.zero_le _, Nat.zero_le _⟩ (Nat.le_of_ble_eq_true rfl) dX2_crowdOf_39 (fun H locs hP hD hS => ?_)
            refine lv_iload_n hx hb dX2_crowdOf_42 rfl (lv_at hl 2 rfl) ?_
            refine bc_ne (tgt := 50) hx hb hf dX2_crowdOf_43 (by decide) (fun hf => ?_) (fun hf => ?_)
            · refine lv_iconst (v := 0) hx hb dX2_crowdOf_50 (by decide) ?_
              refine lv_iadd hx hb dX2_crowdOf_51 ?_
              obtain ⟨v18, ev18, hf⟩ := lts hf
              refine tpi ev18 ?_
              refine lv_istore_n (lv' := [(3, .int v18), (0, .ref h), (1, .int x1), (2, .int x2), (4, .int v2)]) hx hb dX2_crowdOf_52 rfl hl (by decide) rfl (fun ls hl => ?_)
              obtain ⟨v19, ev19, hf⟩ := lts hf
              refine lv_iinc (v := v19) (lv' := [(4, .int v19), (3, .int v18), (0, .ref h), (1, .int x1), (2, .int x2)]) hx hb dX2_crowdOf_53 hl (k := 4) rfl (by rw [ev19]; rfl) (by decide) rfl (fun ls hl => ?_)
              refine lv_goto (tgt := 5) hx hb dX2_crowdOf_56 (by decide) ?_
              exact ih7 _ _ hf _ _ _ hP hD hS (lv_sub hl [2, 3, 4, 1, 0] rfl)
            · refine lv_iconst (v := 1) hx hb dX2_crowdOf_46 (by decide) ?_
              refine lv_goto (tgt := 51) hx hb dX2_crowdOf_47 (by decide) ?_
              refine lv_iadd hx hb dX2_crowdOf_51 ?_
              obtain ⟨v20, ev20, hf⟩ := lts hf
              refine tpi ev20 ?_
              refine lv_istore_n (lv' := [(3, .int v20), (0, .ref h), (1, .int x1), (2, .int x2), (4, .int v2)]) hx hb dX2_crowdOf_52 rfl hl (by decide) rfl (fun ls hl => ?_)
              obtain ⟨v21, ev21, hf⟩ := lts hf
              refine lv_iinc (v := v21) (lv' := [(4, .int v21), (3, .int v20), (0, .ref h), (1, .int x1), (2, .int x2)]) hx hb dX2_crowdOf_53 hl (k := 4) rfl (by rw [ev21]; rfl) (by decide) rfl (fun ls hl => ?_)
              refine lv_goto (tgt := 5) hx hb dX2_crowdOf_56 (by decide) ?_
              exact ih7 _ _ hf _ _ _ hP hD hS (lv_sub hl [2, 3, 4, 1, 0] rfl)
  exact hL6 _ _ _ k8 _ _ _ hP hD hS (lv_sub hl [2, 3, 4, 1, 0] rfl)
set_option maxHeartbeats 4000000 in
theorem met_M_bits {l : Launch} {g : gG} {x0 : Int64} {r : Int32} {φ : Nat} (hf : M_bits φ x0 = some r) : CC l yX2_bits (ws_ yX2_bits cX2_bits 5 (some .int)) ({ frames := 0, cells := 0, slots := 0, locals := 0 } : Room) g [.long x0] ([] : va_W) (some (.int r)) ([] : va_W) 0 0 := by
  refine CC.of RX2 rfl plain_X2 (Nat.le_of_ble_eq_true rfl) (fun p e s m below meth c A ls X hP hD hS hl => ?_)
  have hx := X.1
  have hb := X.2.1
  have hown := X.2.2.2.2.2.1
  have hts := X.2.2.2.2.2.2.1
  have hl : lv_has ls 5 [(0, .long x0)] := hl
  unfold M_bits at hf
  refine lv_iconst (v := 0) hx hb dX2_bits_0 (by decide) ?_
  refine lv_istore_n (lv' := [(2, .int 0), (0, .long x0)]) hx hb dX2_bits_1 rfl hl (by decide) rfl (fun ls hl => ?_)
  refine lv_lload_n hx hb dX2_bits_2 rfl (lv_at hl 1 rfl) ?_
  refine lv_lstore_n (lv' := [(3, .long x0), (2, .int 0), (0, .long x0)]) hx hb dX2_bits_3 rfl hl (by decide) rfl (fun ls hl => ?_)
  obtain ⟨v3, k8, hf⟩ := bd1s hf
  have hE5 : ∀ (H : Heap) (locs : List Loc) (ls : Array Slot), va_P g.1 vwCl ([] : va_W) H → va_D A ([] : va_W) → va_S A s.heap H locs → lv_has ls 5 [(2, .int v3)] → W p l e ({ frames := 0, cells := 0, slots := 0, locals := 0 } : Room) s m ([.long x0] : List Value).toArray below meth c H locs 0 0 (MQ below (QQ g (some (.int r)) ([] : va_W) A) ([.long x0] : List Value).toArray s 0 0 A) (F0 m 22 ls []) := by
    intro H locs ls hP hD hS hl
    refine lv_iload_n hx hb dX2_bits_22 rfl (lv_at hl 0 rfl) ?_
    cases hf
    exact rI X hP hD hS dX2_bits_23
  have hL6 : ∀ (n4 : Nat) (v1 : Int32) (v2 : Int64), M_bits_L4 φ n4 v1 v2 = some v3 → ∀ (H : Heap) (locs : List Loc) (ls : Array Slot), va_P g.1 vwCl ([] : va_W) H → va_D A ([] : va_W) → va_S A s.heap H locs → lv_has ls 5 [(2, .int v1), (3, .long v2)] → W p l e ({ frames := 0, cells := 0, slots := 0, locals := 0 } : Room) s m ([.long x0] : List Value).toArray below meth c H locs 0 0 (MQ below (QQ g (some (.int r)) ([] : va_W) A) ([.long x0] : List Value).toArray s 0 0 A) (F0 m 4 ls []) := by
    intro n4
    induction n4 with
    | zero =>
      intro v1 v2 hf
      exact nn hf
    | succ n4 ih7 =>
      intro v1 v2 hf H locs ls hP hD hS hl
      rw [M_bits_L4] at hf
      refine lv_lload_n hx hb dX2_bits_4 rfl (lv_at hl 1 rfl) ?_
      refine lv_lconst (v := 0) hx hb dX2_bits_5 (by decide) ?_
      refine W.lcmp hx hb dX2_bits_6 ?_
      refine bq_eq (tgt := 22) hx hb hf dX2_bits_7 (by decide) (fun hf => ?_) (fun hf => ?_)
      · cases hf
        exact hE5 _ _ _ hP hD hS (lv_sub hl [0] rfl)
      · obtain ⟨v9, ev9, hf⟩ := lts hf
        refine lv_iinc (v := v9) (lv' := [(2, .int v9), (3, .long v2)]) hx hb dX2_bits_10 hl (k := 0) rfl (by rw [ev9]; rfl) (by decide) rfl (fun ls hl => ?_)
        refine lv_lload_n hx hb dX2_bits_13 rfl (lv_at hl 1 rfl) ?_
        refine lv_lload_n hx hb dX2_bits_14 rfl (lv_at hl 1 rfl) ?_
        refine lv_lconst (v := 1) hx hb dX2_bits_15 (by decide) ?_
        refine lv_lsub hx hb dX2_bits_16 ?_
        refine lv_land hx hb dX2_bits_17 ?_
        obtain ⟨v10, ev10, hf⟩ := lts hf
        refine tpl ev10 ?_
        refine lv_lstore_n (lv' := [(3, .long v10), (2, .int v9)]) hx hb dX2_bits_18 rfl hl (by decide) rfl (fun ls hl => ?_)
        refine lv_goto (tgt := 4) hx hb dX2_bits_19 (by decide) ?_
        exact ih7 _ _ hf _ _ _ hP hD hS (lv_sub hl [1, 0] rfl)
  exact hL6 _ _ _ k8 _ _ _ hP hD hS (lv_sub hl [1, 0] rfl)
set_option maxHeartbeats 4000000 in
theorem met_M_fearOf {l : Launch} {g : gG} {h : Nat} {ad : Nat → Nat} {sTaped : Int32} {sFault : Int32} {sFaultP : Int32} {sAt : Int32} {sPlace : Int32} {sToken : Int32} {sNumber : Int32} {sWord : Int64} {sText0 : Int32} {sWritten : Int32} {sSort0 : Int32} {sPiled : Int32} {sOpens : Int32} {sWhole : Int32} {sOnce : Int32} {sIsW : Int32} {sDied : Int32} {cA : Nat → Int32} {cIm : Nat → Int32} {cTx : Nat → Int32} {cTp : Nat → Int32} {cPl : Nat → Int32} {cNm : Nat → Int32} {cVa : Nat → Int64} {cTr : Nat → Int32} {cAs : Nat → Int32} {cLi : Nat → Int32} {cSa : Nat → Int32} {cHd : Nat → Int32} {x1 : Int64} {r : Int64} (hf : M_fearOf cA x1 = some r) : CC l yX2_fearOf (ws_ yX2_fearOf cX2_fearOf 3 (some .long)) ({ frames := 1, cells := 0, slots := 0, locals := 22 } : Room) g [.ref h, .long x1] (mW g h ad sTaped sFault sFaultP sAt sPlace sToken sNumber sWord sText0 sWritten sSort0 sPiled sOpens sWhole sOnce sIsW sDied cA cIm cTx cTp cPl cNm cVa cTr cAs cLi cSa cHd) (some (.long r)) (mW g h ad sTaped sFault sFaultP sAt sPlace sToken sNumber sWord sText0 sWritten sSort0 sPiled sOpens sWhole sOnce sIsW sDied cA cIm cTx cTp cPl cNm cVa cTr cAs cLi cSa cHd) 0 0 := by
  refine CC.of RX2 rfl plain_X2 (Nat.le_of_ble_eq_true rfl) (fun p e s m below meth c A ls X hP hD hS hl => ?_)
  have hx := X.1
  have hb := X.2.1
  have hown := X.2.2.2.2.2.1
  have hts := X.2.2.2.2.2.2.1
  have hl : lv_has ls 3 [(0, .ref h), (1, .long x1)] := hl
  unfold M_fearOf at hf
  refine lv_lload_n hx hb dX2_fearOf_0 rfl (lv_at hl 1 rfl) ?_
  refine lv_lconst (v := 0) hx hb dX2_fearOf_1 (by decide) ?_
  refine W.lcmp hx hb dX2_fearOf_2 ?_
  refine bq_lt (tgt := 30) hx hb hf dX2_fearOf_3 (by decide) (fun hf => ?_) (fun hf => ?_)
  · refine lv_lconst (v := 0) hx hb dX2_fearOf_30 (by decide) ?_
    cases hf
    exact rL X hP hD hS dX2_fearOf_31
  · refine lv_lload_n hx hb dX2_fearOf_6 rfl (lv_at hl 1 rfl) ?_
    refine lv_aload_n hx hb dX2_fearOf_7 rfl (lv_at hl 0 rfl) ?_
    refine gM0 X hP dX2_fearOf_8 ?_
    refine lv_iconst (v := 1) hx hb dX2_fearOf_11 (by decide) ?_
    obtain ⟨v1, ev1, bv1, hf⟩ := rds hf
    refine lM_cA X hP ev1 bv1 dX2_fearOf_12 ?_
    refine lv_i2l hx hb dX2_fearOf_13 rfl ?_
    refine W.lcmp hx hb dX2_fearOf_14 ?_
    refine bq_ge (tgt := 30) hx hb hf dX2_fearOf_15 (by decide) (fun hf => ?_) (fun hf => ?_)
    · refine lv_lconst (v := 0) hx hb dX2_fearOf_30 (by decide) ?_
      cases hf
      exact rL X hP hD hS dX2_fearOf_31
    · refine lv_aload_n hx hb dX2_fearOf_18 rfl (lv_at hl 0 rfl) ?_
      refine lv_lload_n hx hb dX2_fearOf_19 rfl (lv_at hl 1 rfl) ?_
      refine lv_l2i hx hb dX2_fearOf_20 rfl ?_
      refine lv_bipush (v := 7) hx hb dX2_fearOf_21 (by decide) ?_
      obtain ⟨r2, k3, hf⟩ := bd1s hf
      refine cVi (rest := []) X (met_M_get k3) gw_X2_X2_get dy_X2_get ⟨⟨rfl, rfl⟩, Nat.le_of_ble_eq_true rfl, Nat.le_of_ble_eq_true rfl⟩ hP hD hS hl.1 rcM rfl rfl ⟨Nat.zero_le _, Nat.zero_le _⟩ (Nat.le_of_ble_eq_true rfl) dX2_fearOf_23 (fun H locs hP hD hS => ?_)
      refine lv_i2l hx hb dX2_fearOf_26 rfl ?_
      refine lv_goto (tgt := 31) hx hb dX2_fearOf_27 (by decide) ?_
      cases hf
      exact rL X hP hD hS dX2_fearOf_31
set_option maxHeartbeats 4000000 in
theorem met_M_clip {l : Launch} {g : gG} {x0 : Int64} {r : Int64} (hf : M_clip x0 = some r) : CC l yX2_clip (ws_ yX2_clip cX2_clip 2 (some .long)) ({ frames := 0, cells := 0, slots := 0, locals := 0 } : Room) g [.long x0] ([] : va_W) (some (.long r)) ([] : va_W) 0 0 := by
  refine CC.of RX2 rfl plain_X2 (Nat.le_of_ble_eq_true rfl) (fun p e s m below meth c A ls X hP hD hS hl => ?_)
  have hx := X.1
  have hb := X.2.1
  have hown := X.2.2.2.2.2.1
  have hts := X.2.2.2.2.2.2.1
  have hl : lv_has ls 2 [(0, .long x0)] := hl
  unfold M_clip at hf
  refine lv_lload_n hx hb dX2_clip_0 rfl (lv_at hl 0 rfl) ?_
  refine lv_ldc2 (v := 1000000) hx hb hown (hts _ q1787) dX2_clip_1 ?_
  refine W.lcmp hx hb dX2_clip_4 ?_
  refine bq_le (tgt := 14) hx hb hf dX2_clip_5 (by decide) (fun hf => ?_) (fun hf => ?_)
  · refine lv_lload_n hx hb dX2_clip_14 rfl (lv_at hl 0 rfl) ?_
    refine lv_ldc2 (v := (-1000000)) hx hb hown (hts _ q1788) dX2_clip_15 ?_
    refine W.lcmp hx hb dX2_clip_18 ?_
    refine bq_ge (tgt := 28) hx hb hf dX2_clip_19 (by decide) (fun hf => ?_) (fun hf => ?_)
    · refine lv_lload_n hx hb dX2_clip_28 rfl (lv_at hl 0 rfl) ?_
      cases hf
      exact rL X hP hD hS dX2_clip_29
    · refine lv_ldc2 (v := (-1000000)) hx hb hown (hts _ q1788) dX2_clip_22 ?_
      refine lv_goto (tgt := 29) hx hb dX2_clip_25 (by decide) ?_
      cases hf
      exact rL X hP hD hS dX2_clip_29
  · refine lv_ldc2 (v := 1000000) hx hb hown (hts _ q1787) dX2_clip_8 ?_
    refine lv_goto (tgt := 29) hx hb dX2_clip_11 (by decide) ?_
    cases hf
    exact rL X hP hD hS dX2_clip_29
set_option maxHeartbeats 4000000 in
theorem met_M_isAsked {l : Launch} {g : gG} {x0 : Int32} {x1 : Int64} {x3 : Int64} {r : Int32} (hf : M_isAsked x0 x1 x3 = some r) : CC l yX2_isAsked (ws_ yX2_isAsked cX2_isAsked 5 (some .boolean)) ({ frames := 0, cells := 0, slots := 0, locals := 0 } : Room) g [.int x0, .long x1, .long x3] ([] : va_W) (some (.int r)) ([] : va_W) 0 0 := by
  refine CC.of RX2 rfl plain_X2 (Nat.le_of_ble_eq_true rfl) (fun p e s m below meth c A ls X hP hD hS hl => ?_)
  have hx := X.1
  have hb := X.2.1
  have hown := X.2.2.2.2.2.1
  have hts := X.2.2.2.2.2.2.1
  have hl : lv_has ls 5 [(0, .int x0), (1, .long x1), (3, .long x3)] := hl
  unfold M_isAsked at hf
  refine lv_iload_n hx hb dX2_isAsked_0 rfl (lv_at hl 0 rfl) ?_
  refine lv_bipush (v := 10) hx hb dX2_isAsked_1 (by decide) ?_
  refine bc_ne (tgt := 20) hx hb hf dX2_isAsked_3 (by decide) (fun hf => ?_) (fun hf => ?_)
  · refine lv_iload_n hx hb dX2_isAsked_20 rfl (lv_at hl 0 rfl) ?_
    refine lv_bipush (v := 11) hx hb dX2_isAsked_21 (by decide) ?_
    refine bc_ne (tgt := 40) hx hb hf dX2_isAsked_23 (by decide) (fun hf => ?_) (fun hf => ?_)
    · refine lv_iload_n hx hb dX2_isAsked_40 rfl (lv_at hl 0 rfl) ?_
      refine lv_bipush (v := 12) hx hb dX2_isAsked_41 (by decide) ?_
      refine bc_ne (tgt := 60) hx hb hf dX2_isAsked_43 (by decide) (fun hf => ?_) (fun hf => ?_)
      · refine lv_iload_n hx hb dX2_isAsked_60 rfl (lv_at hl 0 rfl) ?_
        refine lv_bipush (v := 13) hx hb dX2_isAsked_61 (by decide) ?_
        refine bc_ne (tgt := 80) hx hb hf dX2_isAsked_63 (by decide) (fun hf => ?_) (fun hf => ?_)
        · refine lv_iload_n hx hb dX2_isAsked_80 rfl (lv_at hl 0 rfl) ?_
          refine lv_bipush (v := 14) hx hb dX2_isAsked_81 (by decide) ?_
          refine bc_ne (tgt := 100) hx hb hf dX2_isAsked_83 (by decide) (fun hf => ?_) (fun hf => ?_)
          · refine lv_lload_n hx hb dX2_isAsked_100 rfl (lv_at hl 1 rfl) ?_
            refine lv_lload_n hx hb dX2_isAsked_101 rfl (lv_at hl 2 rfl) ?_
            refine W.lcmp hx hb dX2_isAsked_102 ?_
            refine bq_eq (tgt := 110) hx hb hf dX2_isAsked_103 (by decide) (fun hf => ?_) (fun hf => ?_)
            · refine lv_iconst (v := 0) hx hb dX2_isAsked_110 (by decide) ?_
              cases hf
              exact rZ X rfl hP hD hS dX2_isAsked_111
            · refine lv_iconst (v := 1) hx hb dX2_isAsked_106 (by decide) ?_
              refine lv_goto (tgt := 111) hx hb dX2_isAsked_107 (by decide) ?_
              cases hf
              exact rZ X rfl hP hD hS dX2_isAsked_111
          · refine lv_lload_n hx hb dX2_isAsked_86 rfl (lv_at hl 1 rfl) ?_
            refine lv_lload_n hx hb dX2_isAsked_87 rfl (lv_at hl 2 rfl) ?_
            refine W.lcmp hx hb dX2_isAsked_88 ?_
            refine bq_ne (tgt := 96) hx hb hf dX2_isAsked_89 (by decide) (fun hf => ?_) (fun hf => ?_)
            · refine lv_iconst (v := 0) hx hb dX2_isAsked_96 (by decide) ?_
              refine lv_goto (tgt := 111) hx hb dX2_isAsked_97 (by decide) ?_
              cases hf
              exact rZ X rfl hP hD hS dX2_isAsked_111
            · refine lv_iconst (v := 1) hx hb dX2_isAsked_92 (by decide) ?_
              refine lv_goto (tgt := 111) hx hb dX2_isAsked_93 (by decide) ?_
              cases hf
              exact rZ X rfl hP hD hS dX2_isAsked_111
        · refine lv_lload_n hx hb dX2_isAsked_66 rfl (lv_at hl 1 rfl) ?_
          refine lv_lload_n hx hb dX2_isAsked_67 rfl (lv_at hl 2 rfl) ?_
          refine W.lcmp hx hb dX2_isAsked_68 ?_
          refine bq_lt (tgt := 76) hx hb hf dX2_isAsked_69 (by decide) (fun hf => ?_) (fun hf => ?_)
          · refine lv_iconst (v := 0) hx hb dX2_isAsked_76 (by decide) ?_
            refine lv_goto (tgt := 111) hx hb dX2_isAsked_77 (by decide) ?_
            cases hf
            exact rZ X rfl hP hD hS dX2_isAsked_111
          · refine lv_iconst (v := 1) hx hb dX2_isAsked_72 (by decide) ?_
            refine lv_goto (tgt := 111) hx hb dX2_isAsked_73 (by decide) ?_
            cases hf
            exact rZ X rfl hP hD hS dX2_isAsked_111
      · refine lv_lload_n hx hb dX2_isAsked_46 rfl (lv_at hl 1 rfl) ?_
        refine lv_lload_n hx hb dX2_isAsked_47 rfl (lv_at hl 2 rfl) ?_
        refine W.lcmp hx hb dX2_isAsked_48 ?_
        refine bq_le (tgt := 56) hx hb hf dX2_isAsked_49 (by decide) (fun hf => ?_) (fun hf => ?_)
        · refine lv_iconst (v := 0) hx hb dX2_isAsked_56 (by decide) ?_
          refine lv_goto (tgt := 111) hx hb dX2_isAsked_57 (by decide) ?_
          cases hf
          exact rZ X rfl hP hD hS dX2_isAsked_111
        · refine lv_iconst (v := 1) hx hb dX2_isAsked_52 (by decide) ?_
          refine lv_goto (tgt := 111) hx hb dX2_isAsked_53 (by decide) ?_
          cases hf
          exact rZ X rfl hP hD hS dX2_isAsked_111
    · refine lv_lload_n hx hb dX2_isAsked_26 rfl (lv_at hl 1 rfl) ?_
      refine lv_lload_n hx hb dX2_isAsked_27 rfl (lv_at hl 2 rfl) ?_
      refine W.lcmp hx hb dX2_isAsked_28 ?_
      refine bq_gt (tgt := 36) hx hb hf dX2_isAsked_29 (by decide) (fun hf => ?_) (fun hf => ?_)
      · refine lv_iconst (v := 0) hx hb dX2_isAsked_36 (by decide) ?_
        refine lv_goto (tgt := 111) hx hb dX2_isAsked_37 (by decide) ?_
        cases hf
        exact rZ X rfl hP hD hS dX2_isAsked_111
      · refine lv_iconst (v := 1) hx hb dX2_isAsked_32 (by decide) ?_
        refine lv_goto (tgt := 111) hx hb dX2_isAsked_33 (by decide) ?_
        cases hf
        exact rZ X rfl hP hD hS dX2_isAsked_111
  · refine lv_lload_n hx hb dX2_isAsked_6 rfl (lv_at hl 1 rfl) ?_
    refine lv_lload_n hx hb dX2_isAsked_7 rfl (lv_at hl 2 rfl) ?_
    refine W.lcmp hx hb dX2_isAsked_8 ?_
    refine bq_ge (tgt := 16) hx hb hf dX2_isAsked_9 (by decide) (fun hf => ?_) (fun hf => ?_)
    · refine lv_iconst (v := 0) hx hb dX2_isAsked_16 (by decide) ?_
      refine lv_goto (tgt := 111) hx hb dX2_isAsked_17 (by decide) ?_
      cases hf
      exact rZ X rfl hP hD hS dX2_isAsked_111
    · refine lv_iconst (v := 1) hx hb dX2_isAsked_12 (by decide) ?_
      refine lv_goto (tgt := 111) hx hb dX2_isAsked_13 (by decide) ?_
      cases hf
      exact rZ X rfl hP hD hS dX2_isAsked_111
set_option maxHeartbeats 4000000 in
theorem met_M_joined {l : Launch} {g : gG} {x0 : Int32} {x1 : Int32} {x2 : Int32} {r : Int32} (hf : M_joined x0 x1 x2 = some r) : CC l yX2_joined (ws_ yX2_joined cX2_joined 3 (some .boolean)) ({ frames := 0, cells := 0, slots := 0, locals := 0 } : Room) g [.int x0, .int x1, .int x2] ([] : va_W) (some (.int r)) ([] : va_W) 0 0 := by
  refine CC.of RX2 rfl plain_X2 (Nat.le_of_ble_eq_true rfl) (fun p e s m below meth c A ls X hP hD hS hl => ?_)
  have hx := X.1
  have hb := X.2.1
  have hown := X.2.2.2.2.2.1
  have hts := X.2.2.2.2.2.2.1
  have hl : lv_has ls 3 [(0, .int x0), (1, .int x1), (2, .int x2)] := hl
  unfold M_joined at hf
  refine lv_iload_n hx hb dX2_joined_0 rfl (lv_at hl 0 rfl) ?_
  refine lv_bipush (v := 21) hx hb dX2_joined_1 (by decide) ?_
  refine bc_ne (tgt := 22) hx hb hf dX2_joined_3 (by decide) (fun hf => ?_) (fun hf => ?_)
  · refine lv_iload_n hx hb dX2_joined_22 rfl (lv_at hl 1 rfl) ?_
    refine bq_ne (tgt := 30) hx hb hf dX2_joined_23 (by decide) (fun hf => ?_) (fun hf => ?_)
    · refine lv_iconst (v := 1) hx hb dX2_joined_30 (by decide) ?_
      refine lv_goto (tgt := 35) hx hb dX2_joined_31 (by decide) ?_
      cases hf
      exact rZ X rfl hP hD hS dX2_joined_35
    · refine lv_iload_n hx hb dX2_joined_26 rfl (lv_at hl 2 rfl) ?_
      refine bq_eq (tgt := 34) hx hb hf dX2_joined_27 (by decide) (fun hf => ?_) (fun hf => ?_)
      · refine lv_iconst (v := 0) hx hb dX2_joined_34 (by decide) ?_
        cases hf
        exact rZ X rfl hP hD hS dX2_joined_35
      · refine lv_iconst (v := 1) hx hb dX2_joined_30 (by decide) ?_
        refine lv_goto (tgt := 35) hx hb dX2_joined_31 (by decide) ?_
        cases hf
        exact rZ X rfl hP hD hS dX2_joined_35
  · refine lv_iload_n hx hb dX2_joined_6 rfl (lv_at hl 1 rfl) ?_
    refine bq_eq (tgt := 18) hx hb hf dX2_joined_7 (by decide) (fun hf => ?_) (fun hf => ?_)
    · refine lv_iconst (v := 0) hx hb dX2_joined_18 (by decide) ?_
      refine lv_goto (tgt := 35) hx hb dX2_joined_19 (by decide) ?_
      cases hf
      exact rZ X rfl hP hD hS dX2_joined_35
    · refine lv_iload_n hx hb dX2_joined_10 rfl (lv_at hl 2 rfl) ?_
      refine bq_eq (tgt := 18) hx hb hf dX2_joined_11 (by decide) (fun hf => ?_) (fun hf => ?_)
      · refine lv_iconst (v := 0) hx hb dX2_joined_18 (by decide) ?_
        refine lv_goto (tgt := 35) hx hb dX2_joined_19 (by decide) ?_
        cases hf
        exact rZ X rfl hP hD hS dX2_joined_35
      · refine lv_iconst (v := 1) hx hb dX2_joined_14 (by decide) ?_
        refine lv_goto (tgt := 35) hx hb dX2_joined_15 (by decide) ?_
        cases hf
        exact rZ X rfl hP hD hS dX2_joined_35
set_option maxHeartbeats 4000000 in
theorem met_M_cut {l : Launch} {g : gG} {x0 : Int64} {x2 : Int32} {x3 : Int32} {r : Int32} (hf : M_cut x0 x2 x3 = some r) : CC l yX2_cut (ws_ yX2_cut cX2_cut 4 (some .int)) ({ frames := 0, cells := 0, slots := 0, locals := 0 } : Room) g [.long x0, .int x2, .int x3] ([] : va_W) (some (.int r)) ([] : va_W) 0 0 := by
  refine CC.of RX2 rfl plain_X2 (Nat.le_of_ble_eq_true rfl) (fun p e s m below meth c A ls X hP hD hS hl => ?_)
  have hx := X.1
  have hb := X.2.1
  have hown := X.2.2.2.2.2.1
  have hts := X.2.2.2.2.2.2.1
  have hl : lv_has ls 4 [(0, .long x0), (2, .int x2), (3, .int x3)] := hl
  unfold M_cut at hf
  refine lv_lload_n hx hb dX2_cut_0 rfl (lv_at hl 0 rfl) ?_
  refine lv_iload_n hx hb dX2_cut_1 rfl (lv_at hl 1 rfl) ?_
  refine lv_i2l hx hb dX2_cut_2 rfl ?_
  refine W.lcmp hx hb dX2_cut_3 ?_
  refine bq_ge (tgt := 11) hx hb hf dX2_cut_4 (by decide) (fun hf => ?_) (fun hf => ?_)
  · refine lv_lload_n hx hb dX2_cut_11 rfl (lv_at hl 0 rfl) ?_
    refine lv_iload_n hx hb dX2_cut_12 rfl (lv_at hl 2 rfl) ?_
    refine lv_i2l hx hb dX2_cut_13 rfl ?_
    refine W.lcmp hx hb dX2_cut_14 ?_
    refine bq_le (tgt := 22) hx hb hf dX2_cut_15 (by decide) (fun hf => ?_) (fun hf => ?_)
    · refine lv_lload_n hx hb dX2_cut_22 rfl (lv_at hl 0 rfl) ?_
      refine lv_l2i hx hb dX2_cut_23 rfl ?_
      cases hf
      exact rI X hP hD hS dX2_cut_24
    · refine lv_iload_n hx hb dX2_cut_18 rfl (lv_at hl 2 rfl) ?_
      refine lv_goto (tgt := 24) hx hb dX2_cut_19 (by decide) ?_
      cases hf
      exact rI X hP hD hS dX2_cut_24
  · refine lv_iload_n hx hb dX2_cut_7 rfl (lv_at hl 1 rfl) ?_
    refine lv_goto (tgt := 24) hx hb dX2_cut_8 (by decide) ?_
    cases hf
    exact rI X hP hD hS dX2_cut_24
set_option maxHeartbeats 4000000 in
theorem met_M_anew {l : Launch} {g : gG} {h : Nat} {ad : Nat → Nat} {sTaped : Int32} {sFault : Int32} {sFaultP : Int32} {sAt : Int32} {sPlace : Int32} {sToken : Int32} {sNumber : Int32} {sWord : Int64} {sText0 : Int32} {sWritten : Int32} {sSort0 : Int32} {sPiled : Int32} {sOpens : Int32} {sWhole : Int32} {sOnce : Int32} {sIsW : Int32} {sDied : Int32} {cA : Nat → Int32} {cIm : Nat → Int32} {cTx : Nat → Int32} {cTp : Nat → Int32} {cPl : Nat → Int32} {cNm : Nat → Int32} {cVa : Nat → Int64} {cTr : Nat → Int32} {cAs : Nat → Int32} {cLi : Nat → Int32} {cSa : Nat → Int32} {cHd : Nat → Int32} {ncA : Nat → Int32} (hf : M_anew cA = some ncA) : CC l yX2_anew (ws_ yX2_anew cX2_anew 1 none) ({ frames := 0, cells := 0, slots := 0, locals := 0 } : Room) g [.ref h] (mW g h ad sTaped sFault sFaultP sAt sPlace sToken sNumber sWord sText0 sWritten sSort0 sPiled sOpens sWhole sOnce sIsW sDied cA cIm cTx cTp cPl cNm cVa cTr cAs cLi cSa cHd) none (mW g h ad sTaped sFault sFaultP sAt sPlace sToken sNumber sWord sText0 sWritten sSort0 sPiled sOpens sWhole sOnce sIsW sDied ncA cIm cTx cTp cPl cNm cVa cTr cAs cLi cSa cHd) 0 0 := by
  refine CC.of RX2 rfl plain_X2 (Nat.le_of_ble_eq_true rfl) (fun p e s m below meth c A ls X hP hD hS hl => ?_)
  have hx := X.1
  have hb := X.2.1
  have hown := X.2.2.2.2.2.1
  have hts := X.2.2.2.2.2.2.1
  have hl : lv_has ls 1 [(0, .ref h)] := hl
  unfold M_anew at hf
  refine lv_aload_n hx hb dX2_anew_0 rfl (lv_at hl 0 rfl) ?_
  refine gM0 X hP dX2_anew_1 ?_
  refine lv_bipush (v := 11) hx hb dX2_anew_4 (by decide) ?_
  refine lv_aload_n hx hb dX2_anew_6 rfl (lv_at hl 0 rfl) ?_
  refine gM0 X hP dX2_anew_7 ?_
  refine lv_bipush (v := 11) hx hb dX2_anew_10 (by decide) ?_
  obtain ⟨v1, ev1, bv1, hf⟩ := rds hf
  refine lM_cA X hP ev1 bv1 dX2_anew_12 ?_
  refine lv_i2l hx hb dX2_anew_13 rfl ?_
  refine lv_ldc2 (v := 379) hx hb hown (hts _ q1806) dX2_anew_14 ?_
  refine lv_lmul hx hb dX2_anew_17 ?_
  refine lv_ldc2 (v := 257) hx hb hown (hts _ q1807) dX2_anew_18 ?_
  refine lv_ladd hx hb dX2_anew_21 ?_
  refine lv_ldc2 (v := 30469) hx hb hown (hts _ q1808) dX2_anew_22 ?_
  refine lv_lrem hx hb dX2_anew_25 (by decide) ?_
  obtain ⟨v2, ev2, hf⟩ := lts hf
  refine tpl ev2 ?_
  refine lv_l2i hx hb dX2_anew_26 rfl ?_
  obtain ⟨v3, ev3, hf⟩ := lts hf
  refine tpi ev3 ?_
  obtain ⟨c4, ec4, bc4, hf⟩ := wrs hf
  refine sM_cA X hP hD hS ec4 bc4 dX2_anew_27 (fun H locs hP hD hS => ?_)
  cases hf
  exact rV X hP hD hS dX2_anew_28
theorem gw_X2_X2_put : GoodIn lw_all (wsV RX2 82 RX2 yX2_put (ws_ yX2_put cX2_put 4 none)) := lw_V q1513 q1515 qs65 q148 q1516
theorem dy_X2_put : Dy yX2_put RX2 3 := by decide +kernel
theorem gw_X2_X2_write : GoodIn lw_all (wsV RX2 319 RX2 yX2_write (ws_ yX2_write cX2_write 3 none)) := lw_V q1718 q1720 qs102 q148 q1721
theorem dy_X2_write : Dy yX2_write RX2 2 := by decide +kernel
set_option maxHeartbeats 4000000 in
theorem met_M_die {l : Launch} {g : gG} {h : Nat} {ad : Nat → Nat} {sTaped : Int32} {sFault : Int32} {sFaultP : Int32} {sAt : Int32} {sPlace : Int32} {sToken : Int32} {sNumber : Int32} {sWord : Int64} {sText0 : Int32} {sWritten : Int32} {sSort0 : Int32} {sPiled : Int32} {sOpens : Int32} {sWhole : Int32} {sOnce : Int32} {sIsW : Int32} {sDied : Int32} {cA : Nat → Int32} {cIm : Nat → Int32} {cTx : Nat → Int32} {cTp : Nat → Int32} {cPl : Nat → Int32} {cNm : Nat → Int32} {cVa : Nat → Int64} {cTr : Nat → Int32} {cAs : Nat → Int32} {cLi : Nat → Int32} {cSa : Nat → Int32} {cHd : Nat → Int32} {x1 : Int32} {x2 : Int32} {nsDied : Int32} {ncA : Nat → Int32} (hf : M_die sIsW sDied cA x1 x2 = some (nsDied, ncA)) : CC l yX2_die (ws_ yX2_die cX2_die 3 none) ({ frames := 1, cells := 0, slots := 0, locals := 23 } : Room) g [.ref h, .int x1, .int x2] (mW g h ad sTaped sFault sFaultP sAt sPlace sToken sNumber sWord sText0 sWritten sSort0 sPiled sOpens sWhole sOnce sIsW sDied cA cIm cTx cTp cPl cNm cVa cTr cAs cLi cSa cHd) none (mW g h ad sTaped sFault sFaultP sAt sPlace sToken sNumber sWord sText0 sWritten sSort0 sPiled sOpens sWhole sOnce sIsW nsDied ncA cIm cTx cTp cPl cNm cVa cTr cAs cLi cSa cHd) 0 0 := by
  refine CC.of RX2 rfl plain_X2 (Nat.le_of_ble_eq_true rfl) (fun p e s m below meth c A ls X hP hD hS hl => ?_)
  have hx := X.1
  have hb := X.2.1
  have hown := X.2.2.2.2.2.1
  have hts := X.2.2.2.2.2.2.1
  have hl : lv_has ls 3 [(0, .ref h), (1, .int x1), (2, .int x2)] := hl
  unfold M_die at hf
  refine lv_aload_n hx hb dX2_die_0 rfl (lv_at hl 0 rfl) ?_
  refine lv_iload_n hx hb dX2_die_1 rfl (lv_at hl 1 rfl) ?_
  refine lv_bipush (v := 6) hx hb dX2_die_2 (by decide) ?_
  refine lv_iconst (v := 3) hx hb dX2_die_4 (by decide) ?_
  obtain ⟨c1, k2, hf⟩ := bd1s hf
  refine cVv (rest := []) X (met_M_put k2) gw_X2_X2_put dy_X2_put ⟨⟨rfl, rfl⟩, Nat.le_of_ble_eq_true rfl, Nat.le_of_ble_eq_true rfl⟩ hP hD hS hl.1 rcM rfl rfl ⟨Nat.zero_le _, Nat.zero_le _⟩ (Nat.le_of_ble_eq_true rfl) dX2_die_5 (fun H locs hP hD hS => ?_)
  refine lv_aload_n hx hb dX2_die_8 rfl (lv_at hl 0 rfl) ?_
  refine lv_iload_n hx hb dX2_die_9 rfl (lv_at hl 1 rfl) ?_
  refine lv_iload_n hx hb dX2_die_10 rfl (lv_at hl 2 rfl) ?_
  obtain ⟨c3, k4, hf⟩ := bd1s hf
  refine cVv (rest := []) X (met_M_write k4) gw_X2_X2_write dy_X2_write ⟨⟨rfl, rfl⟩, Nat.le_of_ble_eq_true rfl, Nat.le_of_ble_eq_true rfl⟩ hP hD hS hl.1 rcM rfl rfl ⟨Nat.zero_le _, Nat.zero_le _⟩ (Nat.le_of_ble_eq_true rfl) dX2_die_11 (fun H locs hP hD hS => ?_)
  refine lv_aload_n hx hb dX2_die_14 rfl (lv_at hl 0 rfl) ?_
  refine lv_dup hx hb dX2_die_15 rfl ?_
  refine gM24 X hP dX2_die_16 ?_
  refine lv_iconst (v := 1) hx hb dX2_die_19 (by decide) ?_
  refine lv_iadd hx hb dX2_die_20 ?_
  obtain ⟨v5, ev5, hf⟩ := lts hf
  refine tpi ev5 ?_
  refine pM24 X hP hD hS dX2_die_21 (fun H locs hP hD hS => ?_)
  cases hf
  exact rV X hP hD hS dX2_die_24
set_option maxHeartbeats 4000000 in
theorem met_M_pardonNow {l : Launch} {g : gG} {h : Nat} {ad : Nat → Nat} {sTaped : Int32} {sFault : Int32} {sFaultP : Int32} {sAt : Int32} {sPlace : Int32} {sToken : Int32} {sNumber : Int32} {sWord : Int64} {sText0 : Int32} {sWritten : Int32} {sSort0 : Int32} {sPiled : Int32} {sOpens : Int32} {sWhole : Int32} {sOnce : Int32} {sIsW : Int32} {sDied : Int32} {cA : Nat → Int32} {cIm : Nat → Int32} {cTx : Nat → Int32} {cTp : Nat → Int32} {cPl : Nat → Int32} {cNm : Nat → Int32} {cVa : Nat → Int64} {cTr : Nat → Int32} {cAs : Nat → Int32} {cLi : Nat → Int32} {cSa : Nat → Int32} {cHd : Nat → Int32} {x1 : Int32} {ncA : Nat → Int32} (hf : M_pardonNow cA x1 = some ncA) : CC l yX2_pardonNow (ws_ yX2_pardonNow cX2_pardonNow 2 none) ({ frames := 1, cells := 0, slots := 0, locals := 23 } : Room) g [.ref h, .int x1] (mW g h ad sTaped sFault sFaultP sAt sPlace sToken sNumber sWord sText0 sWritten sSort0 sPiled sOpens sWhole sOnce sIsW sDied cA cIm cTx cTp cPl cNm cVa cTr cAs cLi cSa cHd) none (mW g h ad sTaped sFault sFaultP sAt sPlace sToken sNumber sWord sText0 sWritten sSort0 sPiled sOpens sWhole sOnce sIsW sDied ncA cIm cTx cTp cPl cNm cVa cTr cAs cLi cSa cHd) 0 0 := by
  refine CC.of RX2 rfl plain_X2 (Nat.le_of_ble_eq_true rfl) (fun p e s m below meth c A ls X hP hD hS hl => ?_)
  have hx := X.1
  have hb := X.2.1
  have hown := X.2.2.2.2.2.1
  have hts := X.2.2.2.2.2.2.1
  have hl : lv_has ls 2 [(0, .ref h), (1, .int x1)] := hl
  unfold M_pardonNow at hf
  refine lv_aload_n hx hb dX2_pardonNow_0 rfl (lv_at hl 0 rfl) ?_
  refine lv_iload_n hx hb dX2_pardonNow_1 rfl (lv_at hl 1 rfl) ?_
  refine lv_bipush (v := 6) hx hb dX2_pardonNow_2 (by decide) ?_
  refine lv_iconst (v := 2) hx hb dX2_pardonNow_4 (by decide) ?_
  obtain ⟨c1, k2, hf⟩ := bd1s hf
  refine cVv (rest := []) X (met_M_put k2) gw_X2_X2_put dy_X2_put ⟨⟨rfl, rfl⟩, Nat.le_of_ble_eq_true rfl, Nat.le_of_ble_eq_true rfl⟩ hP hD hS hl.1 rcM rfl rfl ⟨Nat.zero_le _, Nat.zero_le _⟩ (Nat.le_of_ble_eq_true rfl) dX2_pardonNow_5 (fun H locs hP hD hS => ?_)
  refine lv_aload_n hx hb dX2_pardonNow_8 rfl (lv_at hl 0 rfl) ?_
  refine lv_iload_n hx hb dX2_pardonNow_9 rfl (lv_at hl 1 rfl) ?_
  refine lv_iconst (v := 5) hx hb dX2_pardonNow_10 (by decide) ?_
  refine lv_iconst (v := 0) hx hb dX2_pardonNow_11 (by decide) ?_
  obtain ⟨c3, k4, hf⟩ := bd1s hf
  refine cVv (rest := []) X (met_M_put k4) gw_X2_X2_put dy_X2_put ⟨⟨rfl, rfl⟩, Nat.le_of_ble_eq_true rfl, Nat.le_of_ble_eq_true rfl⟩ hP hD hS hl.1 rcM rfl rfl ⟨Nat.zero_le _, Nat.zero_le _⟩ (Nat.le_of_ble_eq_true rfl) dX2_pardonNow_12 (fun H locs hP hD hS => ?_)
  refine lv_aload_n hx hb dX2_pardonNow_15 rfl (lv_at hl 0 rfl) ?_
  refine lv_iload_n hx hb dX2_pardonNow_16 rfl (lv_at hl 1 rfl) ?_
  refine lv_iconst (v := 4) hx hb dX2_pardonNow_17 (by decide) ?_
  refine lv_iconst (v := 0) hx hb dX2_pardonNow_18 (by decide) ?_
  obtain ⟨c5, k6, hf⟩ := bd1s hf
  refine cVv (rest := []) X (met_M_put k6) gw_X2_X2_put dy_X2_put ⟨⟨rfl, rfl⟩, Nat.le_of_ble_eq_true rfl, Nat.le_of_ble_eq_true rfl⟩ hP hD hS hl.1 rcM rfl rfl ⟨Nat.zero_le _, Nat.zero_le _⟩ (Nat.le_of_ble_eq_true rfl) dX2_pardonNow_19 (fun H locs hP hD hS => ?_)
  cases hf
  exact rV X hP hD hS dX2_pardonNow_22
set_option maxHeartbeats 4000000 in
theorem met_M_aliveIn {l : Launch} {g : gG} {h : Nat} {ad : Nat → Nat} {sTaped : Int32} {sFault : Int32} {sFaultP : Int32} {sAt : Int32} {sPlace : Int32} {sToken : Int32} {sNumber : Int32} {sWord : Int64} {sText0 : Int32} {sWritten : Int32} {sSort0 : Int32} {sPiled : Int32} {sOpens : Int32} {sWhole : Int32} {sOnce : Int32} {sIsW : Int32} {sDied : Int32} {cA : Nat → Int32} {cIm : Nat → Int32} {cTx : Nat → Int32} {cTp : Nat → Int32} {cPl : Nat → Int32} {cNm : Nat → Int32} {cVa : Nat → Int64} {cTr : Nat → Int32} {cAs : Nat → Int32} {cLi : Nat → Int32} {cSa : Nat → Int32} {cHd : Nat → Int32} {x1 : Int32} {r : Int32} {φ : Nat} (hf : M_aliveIn φ cA x1 = some r) : CC l yX2_aliveIn (ws_ yX2_aliveIn cX2_aliveIn 4 (some .int)) ({ frames := 1, cells := 0, slots := 0, locals := 22 } : Room) g [.ref h, .int x1] (mW g h ad sTaped sFault sFaultP sAt sPlace sToken sNumber sWord sText0 sWritten sSort0 sPiled sOpens sWhole sOnce sIsW sDied cA cIm cTx cTp cPl cNm cVa cTr cAs cLi cSa cHd) (some (.int r)) (mW g h ad sTaped sFault sFaultP sAt sPlace sToken sNumber sWord sText0 sWritten sSort0 sPiled sOpens sWhole sOnce sIsW sDied cA cIm cTx cTp cPl cNm cVa cTr cAs cLi cSa cHd) 0 0 := by
  refine CC.of RX2 rfl plain_X2 (Nat.le_of_ble_eq_true rfl) (fun p e s m below meth c A ls X hP hD hS hl => ?_)
  have hx := X.1
  have hb := X.2.1
  have hown := X.2.2.2.2.2.1
  have hts := X.2.2.2.2.2.2.1
  have hl : lv_has ls 4 [(0, .ref h), (1, .int x1)] := hl
  unfold M_aliveIn at hf
  refine lv_iconst (v := 0) hx hb dX2_aliveIn_0 (by decide) ?_
  refine lv_istore_n (lv' := [(2, .int 0), (0, .ref h), (1, .int x1)]) hx hb dX2_aliveIn_1 rfl hl (by decide) rfl (fun ls hl => ?_)
  refine lv_iconst (v := 0) hx hb dX2_aliveIn_2 (by decide) ?_
  refine lv_istore_n (lv' := [(3, .int 0), (2, .int 0), (0, .ref h), (1, .int x1)]) hx hb dX2_aliveIn_3 rfl hl (by decide) rfl (fun ls hl => ?_)
  obtain ⟨v3, k8, hf⟩ := bd1s hf
  have hE5 : ∀ (H : Heap) (locs : List Loc) (ls : Array Slot), va_P g.1 vwCl (mW g h ad sTaped sFault sFaultP sAt sPlace sToken sNumber sWord sText0 sWritten sSort0 sPiled sOpens sWhole sOnce sIsW sDied cA cIm cTx cTp cPl cNm cVa cTr cAs cLi cSa cHd) H → va_D A (mW g h ad sTaped sFault sFaultP sAt sPlace sToken sNumber sWord sText0 sWritten sSort0 sPiled sOpens sWhole sOnce sIsW sDied cA cIm cTx cTp cPl cNm cVa cTr cAs cLi cSa cHd) → va_S A s.heap H locs → lv_has ls 4 [(2, .int v3)] → W p l e ({ frames := 1, cells := 0, slots := 0, locals := 22 } : Room) s m ([.ref h, .int x1] : List Value).toArray below meth c H locs 0 0 (MQ below (QQ g (some (.int r)) (mW g h ad sTaped sFault sFaultP sAt sPlace sToken sNumber sWord sText0 sWritten sSort0 sPiled sOpens sWhole sOnce sIsW sDied cA cIm cTx cTp cPl cNm cVa cTr cAs cLi cSa cHd) A) ([.ref h, .int x1] : List Value).toArray s 0 0 A) (F0 m 51 ls []) := by
    intro H locs ls hP hD hS hl
    refine lv_iload_n hx hb dX2_aliveIn_51 rfl (lv_at hl 0 rfl) ?_
    cases hf
    exact rI X hP hD hS dX2_aliveIn_52
  have hL6 : ∀ (n4 : Nat) (v1 : Int32) (v2 : Int32), M_aliveIn_L4 φ x1 cA n4 v1 v2 = some v3 → ∀ (H : Heap) (locs : List Loc) (ls : Array Slot), va_P g.1 vwCl (mW g h ad sTaped sFault sFaultP sAt sPlace sToken sNumber sWord sText0 sWritten sSort0 sPiled sOpens sWhole sOnce sIsW sDied cA cIm cTx cTp cPl cNm cVa cTr cAs cLi cSa cHd) H → va_D A (mW g h ad sTaped sFault sFaultP sAt sPlace sToken sNumber sWord sText0 sWritten sSort0 sPiled sOpens sWhole sOnce sIsW sDied cA cIm cTx cTp cPl cNm cVa cTr cAs cLi cSa cHd) → va_S A s.heap H locs → lv_has ls 4 [(0, .ref h), (1, .int x1), (2, .int v1), (3, .int v2)] → W p l e ({ frames := 1, cells := 0, slots := 0, locals := 22 } : Room) s m ([.ref h, .int x1] : List Value).toArray below meth c H locs 0 0 (MQ below (QQ g (some (.int r)) (mW g h ad sTaped sFault sFaultP sAt sPlace sToken sNumber sWord sText0 sWritten sSort0 sPiled sOpens sWhole sOnce sIsW sDied cA cIm cTx cTp cPl cNm cVa cTr cAs cLi cSa cHd) A) ([.ref h, .int x1] : List Value).toArray s 0 0 A) (F0 m 4 ls []) := by
    intro n4
    induction n4 with
    | zero =>
      intro v1 v2 hf
      exact nn hf
    | succ n4 ih7 =>
      intro v1 v2 hf H locs ls hP hD hS hl
      rw [M_aliveIn_L4] at hf
      refine lv_iload_n hx hb dX2_aliveIn_4 rfl (lv_at hl 3 rfl) ?_
      refine lv_aload_n hx hb dX2_aliveIn_5 rfl (lv_at hl 0 rfl) ?_
      refine gM0 X hP dX2_aliveIn_6 ?_
      refine lv_iconst (v := 1) hx hb dX2_aliveIn_9 (by decide) ?_
      obtain ⟨v9, ev9, bv9, hf⟩ := rds hf
      refine lM_cA X hP ev9 bv9 dX2_aliveIn_10 ?_
      refine bc_ge (tgt := 51) hx hb hf dX2_aliveIn_11 (by decide) (fun hf => ?_) (fun hf => ?_)
      · cases hf
        exact hE5 _ _ _ hP hD hS (lv_sub hl [2] rfl)
      · refine lv_iload_n hx hb dX2_aliveIn_14 rfl (lv_at hl 2 rfl) ?_
        refine lv_aload_n hx hb dX2_aliveIn_15 rfl (lv_at hl 0 rfl) ?_
        refine lv_iload_n hx hb dX2_aliveIn_16 rfl (lv_at hl 3 rfl) ?_
        refine lv_iconst (v := 0) hx hb dX2_aliveIn_17 (by decide) ?_
        obtain ⟨r10, k11, hf⟩ := bd1s hf
        refine cVi (rest := [.int v1]) X (met_M_get k11) gw_X2_X2_get dy_X2_get ⟨⟨rfl, rfl⟩, Nat.le_of_ble_eq_true rfl, Nat.le_of_ble_eq_true rfl⟩ hP hD hS hl.1 rcM rfl rfl ⟨Nat.zero_le _, Nat.zero_le _⟩ (Nat.le_of_ble_eq_true rfl) dX2_aliveIn_18 (fun H locs hP hD hS => ?_)
        refine lv_iload_n hx hb dX2_aliveIn_21 rfl (lv_at hl 1 rfl) ?_
        refine bc_ne (tgt := 42) hx hb hf dX2_aliveIn_22 (by decide) (fun hf => ?_) (fun hf => ?_)
        · refine lv_iconst (v := 0) hx hb dX2_aliveIn_42 (by decide) ?_
          refine lv_ior hx hb dX2_aliveIn_43 ?_
          obtain ⟨v12, ev12, hf⟩ := lts hf
          refine tpi ev12 ?_
          refine lv_istore_n (lv' := [(2, .int v12), (0, .ref h), (1, .int x1), (3, .int v2)]) hx hb dX2_aliveIn_44 rfl hl (by decide) rfl (fun ls hl => ?_)
          obtain ⟨v13, ev13, hf⟩ := lts hf
          refine lv_iinc (v := v13) (lv' := [(3, .int v13), (2, .int v12), (0, .ref h), (1, .int x1)]) hx hb dX2_aliveIn_45 hl (k := 3) rfl (by rw [ev13]; rfl) (by decide) rfl (fun ls hl => ?_)
          refine lv_goto (tgt := 4) hx hb dX2_aliveIn_48 (by decide) ?_
          exact ih7 _ _ hf _ _ _ hP hD hS (lv_sub hl [2, 3, 1, 0] rfl)
        · refine lv_aload_n hx hb dX2_aliveIn_25 rfl (lv_at hl 0 rfl) ?_
          refine lv_iload_n hx hb dX2_aliveIn_26 rfl (lv_at hl 3 rfl) ?_
          refine lv_bipush (v := 6) hx hb dX2_aliveIn_27 (by decide) ?_
          obtain ⟨r14, k15, hf⟩ := bd1s hf
          refine cVi (rest := [.int v1]) X (met_M_get k15) gw_X2_X2_get dy_X2_get ⟨⟨rfl, rfl⟩, Nat.le_of_ble_eq_true rfl, Nat.le_of_ble_eq_true rfl⟩ hP hD hS hl.1 rcM rfl rfl ⟨Nat.zero_le _, Nat.zero_le _⟩ (Nat.le_of_ble_eq_true rfl) dX2_aliveIn_29 (fun H locs hP hD hS => ?_)
          refine lv_iconst (v := 3) hx hb dX2_aliveIn_32 (by decide) ?_
          refine bc_eq (tgt := 42) hx hb hf dX2_aliveIn_33 (by decide) (fun hf => ?_) (fun hf => ?_)
          · refine lv_iconst (v := 0) hx hb dX2_aliveIn_42 (by decide) ?_
            refine lv_ior hx hb dX2_aliveIn_43 ?_
            obtain ⟨v16, ev16, hf⟩ := lts hf
            refine tpi ev16 ?_
            refine lv_istore_n (lv' := [(2, .int v16), (0, .ref h), (1, .int x1), (3, .int v2)]) hx hb dX2_aliveIn_44 rfl hl (by decide) rfl (fun ls hl => ?_)
            obtain ⟨v17, ev17, hf⟩ := lts hf
            refine lv_iinc (v := v17) (lv' := [(3, .int v17), (2, .int v16), (0, .ref h), (1, .int x1)]) hx hb dX2_aliveIn_45 hl (k := 3) rfl (by rw [ev17]; rfl) (by decide) rfl (fun ls hl => ?_)
            refine lv_goto (tgt := 4) hx hb dX2_aliveIn_48 (by decide) ?_
            exact ih7 _ _ hf _ _ _ hP hD hS (lv_sub hl [2, 3, 1, 0] rfl)
          · refine lv_iconst (v := 1) hx hb dX2_aliveIn_36 (by decide) ?_
            refine lv_iload_n hx hb dX2_aliveIn_37 rfl (lv_at hl 3 rfl) ?_
            refine lv_ishl hx hb dX2_aliveIn_38 ?_
            refine lv_goto (tgt := 43) hx hb dX2_aliveIn_39 (by decide) ?_
            refine lv_ior hx hb dX2_aliveIn_43 ?_
            obtain ⟨v18, ev18, hf⟩ := lts hf
            refine tpi ev18 ?_
            refine lv_istore_n (lv' := [(2, .int v18), (0, .ref h), (1, .int x1), (3, .int v2)]) hx hb dX2_aliveIn_44 rfl hl (by decide) rfl (fun ls hl => ?_)
            obtain ⟨v19, ev19, hf⟩ := lts hf
            refine lv_iinc (v := v19) (lv' := [(3, .int v19), (2, .int v18), (0, .ref h), (1, .int x1)]) hx hb dX2_aliveIn_45 hl (k := 3) rfl (by rw [ev19]; rfl) (by decide) rfl (fun ls hl => ?_)
            refine lv_goto (tgt := 4) hx hb dX2_aliveIn_48 (by decide) ?_
            exact ih7 _ _ hf _ _ _ hP hD hS (lv_sub hl [2, 3, 1, 0] rfl)
  exact hL6 _ _ _ k8 _ _ _ hP hD hS (lv_sub hl [2, 3, 1, 0] rfl)
set_option maxHeartbeats 4000000 in
theorem met_M_is {l : Launch} {g : gG} {h : Nat} {ad : Nat → Nat} {sTaped : Int32} {sFault : Int32} {sFaultP : Int32} {sAt : Int32} {sPlace : Int32} {sToken : Int32} {sNumber : Int32} {sWord : Int64} {sText0 : Int32} {sWritten : Int32} {sSort0 : Int32} {sPiled : Int32} {sOpens : Int32} {sWhole : Int32} {sOnce : Int32} {sIsW : Int32} {sDied : Int32} {cA : Nat → Int32} {cIm : Nat → Int32} {cTx : Nat → Int32} {cTp : Nat → Int32} {cPl : Nat → Int32} {cNm : Nat → Int32} {cVa : Nat → Int64} {cTr : Nat → Int32} {cAs : Nat → Int32} {cLi : Nat → Int32} {cSa : Nat → Int32} {cHd : Nat → Int32} {x1 : Int32} {r : Int32} (hf : M_is cA x1 = some r) : CC l yX2_is (ws_ yX2_is cX2_is 2 (some .int)) ({ frames := 1, cells := 0, slots := 0, locals := 22 } : Room) g [.ref h, .int x1] (mW g h ad sTaped sFault sFaultP sAt sPlace sToken sNumber sWord sText0 sWritten sSort0 sPiled sOpens sWhole sOnce sIsW sDied cA cIm cTx cTp cPl cNm cVa cTr cAs cLi cSa cHd) (some (.int r)) (mW g h ad sTaped sFault sFaultP sAt sPlace sToken sNumber sWord sText0 sWritten sSort0 sPiled sOpens sWhole sOnce sIsW sDied cA cIm cTx cTp cPl cNm cVa cTr cAs cLi cSa cHd) 0 0 := by
  refine CC.of RX2 rfl plain_X2 (Nat.le_of_ble_eq_true rfl) (fun p e s m below meth c A ls X hP hD hS hl => ?_)
  have hx := X.1
  have hb := X.2.1
  have hown := X.2.2.2.2.2.1
  have hts := X.2.2.2.2.2.2.1
  have hl : lv_has ls 2 [(0, .ref h), (1, .int x1)] := hl
  unfold M_is at hf
  refine lv_iload_n hx hb dX2_is_0 rfl (lv_at hl 1 rfl) ?_
  refine lv_iconst (v := 0) hx hb dX2_is_1 (by decide) ?_
  refine lv_iconst (v := 1) hx hb dX2_is_2 (by decide) ?_
  obtain ⟨r1, k2, hf⟩ := bd1s hf
  refine cSi (rest := []) X (met_M_isIn (g := g) k2) gs_X2_X2_isIn dy_X2_isIn ⟨⟨rfl, rfl⟩, Nat.le_of_ble_eq_true rfl, Nat.le_of_ble_eq_true rfl⟩ hP hD hS hl.1 rfl rfl ⟨Nat.zero_le _, Nat.zero_le _⟩ (Nat.le_of_ble_eq_true rfl) dX2_is_3 (fun H locs hP hD hS => ?_)
  refine bq_eq (tgt := 21) hx hb hf dX2_is_6 (by decide) (fun hf => ?_) (fun hf => ?_)
  · refine lv_bipush (v := (-2)) hx hb dX2_is_21 (by decide) ?_
    cases hf
    exact rI X hP hD hS dX2_is_23
  · refine lv_aload_n hx hb dX2_is_9 rfl (lv_at hl 0 rfl) ?_
    refine gM0 X hP dX2_is_10 ?_
    refine lv_bipush (v := 10) hx hb dX2_is_13 (by decide) ?_
    refine lv_iload_n hx hb dX2_is_15 rfl (lv_at hl 1 rfl) ?_
    refine lv_iadd hx hb dX2_is_16 ?_
    obtain ⟨v3, ev3, bv3, hf⟩ := rds hf
    refine lM_cA X hP ev3 bv3 dX2_is_17 ?_
    refine lv_goto (tgt := 23) hx hb dX2_is_18 (by decide) ?_
    cases hf
    exact rI X hP hD hS dX2_is_23
set_option maxHeartbeats 4000000 in
theorem met_M_shown {l : Launch} {g : gG} {h : Nat} {ad : Nat → Nat} {sTaped : Int32} {sFault : Int32} {sFaultP : Int32} {sAt : Int32} {sPlace : Int32} {sToken : Int32} {sNumber : Int32} {sWord : Int64} {sText0 : Int32} {sWritten : Int32} {sSort0 : Int32} {sPiled : Int32} {sOpens : Int32} {sWhole : Int32} {sOnce : Int32} {sIsW : Int32} {sDied : Int32} {cA : Nat → Int32} {cIm : Nat → Int32} {cTx : Nat → Int32} {cTp : Nat → Int32} {cPl : Nat → Int32} {cNm : Nat → Int32} {cVa : Nat → Int64} {cTr : Nat → Int32} {cAs : Nat → Int32} {cLi : Nat → Int32} {cSa : Nat → Int32} {cHd : Nat → Int32} {r : Int32} (hf : M_shown cA = some r) : CC l yX2_shown (ws_ yX2_shown cX2_shown 1 (some .int)) ({ frames := 0, cells := 0, slots := 0, locals := 0 } : Room) g [.ref h] (mW g h ad sTaped sFault sFaultP sAt sPlace sToken sNumber sWord sText0 sWritten sSort0 sPiled sOpens sWhole sOnce sIsW sDied cA cIm cTx cTp cPl cNm cVa cTr cAs cLi cSa cHd) (some (.int r)) (mW g h ad sTaped sFault sFaultP sAt sPlace sToken sNumber sWord sText0 sWritten sSort0 sPiled sOpens sWhole sOnce sIsW sDied cA cIm cTx cTp cPl cNm cVa cTr cAs cLi cSa cHd) 0 0 := by
  refine CC.of RX2 rfl plain_X2 (Nat.le_of_ble_eq_true rfl) (fun p e s m below meth c A ls X hP hD hS hl => ?_)
  have hx := X.1
  have hb := X.2.1
  have hown := X.2.2.2.2.2.1
  have hts := X.2.2.2.2.2.2.1
  have hl : lv_has ls 1 [(0, .ref h)] := hl
  unfold M_shown at hf
  refine lv_aload_n hx hb dX2_shown_0 rfl (lv_at hl 0 rfl) ?_
  refine gM0 X hP dX2_shown_1 ?_
  refine lv_bipush (v := 12) hx hb dX2_shown_4 (by decide) ?_
  obtain ⟨v1, ev1, bv1, hf⟩ := rds hf
  refine lM_cA X hP ev1 bv1 dX2_shown_6 ?_
  refine lv_bipush (v := 30) hx hb dX2_shown_7 (by decide) ?_
  refine bc_ge (tgt := 22) hx hb hf dX2_shown_9 (by decide) (fun hf => ?_) (fun hf => ?_)
  · refine lv_bipush (v := 30) hx hb dX2_shown_22 (by decide) ?_
    cases hf
    exact rI X hP hD hS dX2_shown_24
  · refine lv_aload_n hx hb dX2_shown_12 rfl (lv_at hl 0 rfl) ?_
    refine gM0 X hP dX2_shown_13 ?_
    refine lv_bipush (v := 12) hx hb dX2_shown_16 (by decide) ?_
    obtain ⟨v2, ev2, bv2, hf⟩ := rds hf
    refine lM_cA X hP ev2 bv2 dX2_shown_18 ?_
    refine lv_goto (tgt := 24) hx hb dX2_shown_19 (by decide) ?_
    cases hf
    exact rI X hP hD hS dX2_shown_24
theorem gw_X2_X2_shown : GoodIn lw_all (wsV RX2 421 RX2 yX2_shown (ws_ yX2_shown cX2_shown 1 (some .int))) := lw_V q1909 q1911 qs131 q148 q1912
theorem dy_X2_shown : Dy yX2_shown RX2 0 := by decide +kernel
set_option maxHeartbeats 4000000 in
theorem met_M_entry {l : Launch} {g : gG} {h : Nat} {ad : Nat → Nat} {sTaped : Int32} {sFault : Int32} {sFaultP : Int32} {sAt : Int32} {sPlace : Int32} {sToken : Int32} {sNumber : Int32} {sWord : Int64} {sText0 : Int32} {sWritten : Int32} {sSort0 : Int32} {sPiled : Int32} {sOpens : Int32} {sWhole : Int32} {sOnce : Int32} {sIsW : Int32} {sDied : Int32} {cA : Nat → Int32} {cIm : Nat → Int32} {cTx : Nat → Int32} {cTp : Nat → Int32} {cPl : Nat → Int32} {cNm : Nat → Int32} {cVa : Nat → Int64} {cTr : Nat → Int32} {cAs : Nat → Int32} {cLi : Nat → Int32} {cSa : Nat → Int32} {cHd : Nat → Int32} {x1 : Int32} {x2 : Int32} {r : Int32} (hf : M_entry cA x1 x2 = some r) : CC l yX2_entry (ws_ yX2_entry cX2_entry 4 (some .int)) ({ frames := 1, cells := 0, slots := 0, locals := 20 } : Room) g [.ref h, .int x1, .int x2] (mW g h ad sTaped sFault sFaultP sAt sPlace sToken sNumber sWord sText0 sWritten sSort0 sPiled sOpens sWhole sOnce sIsW sDied cA cIm cTx cTp cPl cNm cVa cTr cAs cLi cSa cHd) (some (.int r)) (mW g h ad sTaped sFault sFaultP sAt sPlace sToken sNumber sWord sText0 sWritten sSort0 sPiled sOpens sWhole sOnce sIsW sDied cA cIm cTx cTp cPl cNm cVa cTr cAs cLi cSa cHd) 0 0 := by
  refine CC.of RX2 rfl plain_X2 (Nat.le_of_ble_eq_true rfl) (fun p e s m below meth c A ls X hP hD hS hl => ?_)
  have hx := X.1
  have hb := X.2.1
  have hown := X.2.2.2.2.2.1
  have hts := X.2.2.2.2.2.2.1
  have hl : lv_has ls 4 [(0, .ref h), (1, .int x1), (2, .int x2)] := hl
  unfold M_entry at hf
  refine lv_aload_n hx hb dX2_entry_0 rfl (lv_at hl 0 rfl) ?_
  refine gM0 X hP dX2_entry_1 ?_
  refine lv_sipush (v := 1522) hx hb dX2_entry_4 (by decide) ?_
  refine lv_aload_n hx hb dX2_entry_7 rfl (lv_at hl 0 rfl) ?_
  refine gM0 X hP dX2_entry_8 ?_
  refine lv_bipush (v := 12) hx hb dX2_entry_11 (by decide) ?_
  obtain ⟨v1, ev1, bv1, hf⟩ := rds hf
  refine lM_cA X hP ev1 bv1 dX2_entry_13 ?_
  refine lv_aload_n hx hb dX2_entry_14 rfl (lv_at hl 0 rfl) ?_
  obtain ⟨r2, k3, hf⟩ := bd1s hf
  refine cVi (rest := [.int v1, .int 1522, .ref (ad 0)]) X (met_M_shown k3) gw_X2_X2_shown dy_X2_shown ⟨⟨rfl, rfl⟩, Nat.le_of_ble_eq_true rfl, Nat.le_of_ble_eq_true rfl⟩ hP hD hS hl.1 rcM rfl rfl ⟨Nat.zero_le _, Nat.zero_le _⟩ (Nat.le_of_ble_eq_true rfl) dX2_entry_15 (fun H locs hP hD hS => ?_)
  refine lv_isub hx hb dX2_entry_18 ?_
  refine lv_iload_n hx hb dX2_entry_19 rfl (lv_at hl 1 rfl) ?_
  refine lv_iadd hx hb dX2_entry_20 ?_
  refine lv_sipush (v := 7240) hx hb dX2_entry_21 (by decide) ?_
  refine lv_irem hx hb dX2_entry_24 (by decide) ?_
  refine lv_iadd hx hb dX2_entry_25 ?_
  obtain ⟨v4, ev4, bv4, hf⟩ := rds hf
  refine lM_cA X hP ev4 bv4 dX2_entry_26 ?_
  refine lv_istore_n (lv' := [(3, .int v4), (0, .ref h), (1, .int x1), (2, .int x2)]) hx hb dX2_entry_27 rfl hl (by decide) rfl (fun ls hl => ?_)
  refine lv_iload_n hx hb dX2_entry_28 rfl (lv_at hl 3 rfl) ?_
  refine bq_ne (tgt := 39) hx hb hf dX2_entry_29 (by decide) (fun hf => ?_) (fun hf => ?_)
  · refine lv_iload_n hx hb dX2_entry_39 rfl (lv_at hl 3 rfl) ?_
    refine lv_iconst (v := 1) hx hb dX2_entry_40 (by decide) ?_
    refine bc_ne (tgt := 54) hx hb hf dX2_entry_41 (by decide) (fun hf => ?_) (fun hf => ?_)
    · refine lv_iload_n hx hb dX2_entry_54 rfl (lv_at hl 0 rfl) ?_
      refine lv_bipush (v := 8) hx hb dX2_entry_55 (by decide) ?_
      refine lv_irem hx hb dX2_entry_57 (by decide) ?_
      cases hf
      exact rI X hP hD hS dX2_entry_58
    · refine lv_iload_n hx hb dX2_entry_44 rfl (lv_at hl 0 rfl) ?_
      refine lv_bipush (v := 8) hx hb dX2_entry_45 (by decide) ?_
      refine lv_idiv hx hb dX2_entry_47 (by decide) ?_
      refine lv_bipush (v := 8) hx hb dX2_entry_48 (by decide) ?_
      refine lv_irem hx hb dX2_entry_50 (by decide) ?_
      refine lv_goto (tgt := 58) hx hb dX2_entry_51 (by decide) ?_
      cases hf
      exact rI X hP hD hS dX2_entry_58
  · refine lv_iload_n hx hb dX2_entry_32 rfl (lv_at hl 0 rfl) ?_
    refine lv_bipush (v := 64) hx hb dX2_entry_33 (by decide) ?_
    refine lv_idiv hx hb dX2_entry_35 (by decide) ?_
    refine lv_goto (tgt := 58) hx hb dX2_entry_36 (by decide) ?_
    cases hf
    exact rI X hP hD hS dX2_entry_58
theorem gw_X2_X2_entry : GoodIn lw_all (wsV RX2 424 RX2 yX2_entry (ws_ yX2_entry cX2_entry 4 (some .int))) := lw_V q1913 q1915 qs132 q148 q1916
theorem dy_X2_entry : Dy yX2_entry RX2 2 := by decide +kernel
set_option maxHeartbeats 4000000 in
theorem met_M_befell {l : Launch} {g : gG} {h : Nat} {ad : Nat → Nat} {sTaped : Int32} {sFault : Int32} {sFaultP : Int32} {sAt : Int32} {sPlace : Int32} {sToken : Int32} {sNumber : Int32} {sWord : Int64} {sText0 : Int32} {sWritten : Int32} {sSort0 : Int32} {sPiled : Int32} {sOpens : Int32} {sWhole : Int32} {sOnce : Int32} {sIsW : Int32} {sDied : Int32} {cA : Nat → Int32} {cIm : Nat → Int32} {cTx : Nat → Int32} {cTp : Nat → Int32} {cPl : Nat → Int32} {cNm : Nat → Int32} {cVa : Nat → Int64} {cTr : Nat → Int32} {cAs : Nat → Int32} {cLi : Nat → Int32} {cSa : Nat → Int32} {cHd : Nat → Int32} {x1 : Int32} {x2 : Int32} {r : Int32} {φ : Nat} (hf : M_befell φ cA x1 x2 = some r) : CC l yX2_befell (ws_ yX2_befell cX2_befell 5 (some .int)) ({ frames := 2, cells := 0, slots := 0, locals := 43 } : Room) g [.ref h, .int x1, .int x2] (mW g h ad sTaped sFault sFaultP sAt sPlace sToken sNumber sWord sText0 sWritten sSort0 sPiled sOpens sWhole sOnce sIsW sDied cA cIm cTx cTp cPl cNm cVa cTr cAs cLi cSa cHd) (some (.int r)) (mW g h ad sTaped sFault sFaultP sAt sPlace sToken sNumber sWord sText0 sWritten sSort0 sPiled sOpens sWhole sOnce sIsW sDied cA cIm cTx cTp cPl cNm cVa cTr cAs cLi cSa cHd) 0 0 := by
  refine CC.of RX2 rfl plain_X2 (Nat.le_of_ble_eq_true rfl) (fun p e s m below meth c A ls X hP hD hS hl => ?_)
  have hx := X.1
  have hb := X.2.1
  have hown := X.2.2.2.2.2.1
  have hts := X.2.2.2.2.2.2.1
  have hl : lv_has ls 5 [(0, .ref h), (1, .int x1), (2, .int x2)] := hl
  unfold M_befell at hf
  refine lv_iload_n hx hb dX2_befell_0 rfl (lv_at hl 1 rfl) ?_
  refine lv_iconst (v := (-1)) hx hb dX2_befell_1 (by decide) ?_
  obtain ⟨k1, ek1, hf⟩ := jns hf
  have hj2 : k1 = some r → ∀ (H : Heap) (locs : List Loc) (ls : Array Slot), va_P g.1 vwCl (mW g h ad sTaped sFault sFaultP sAt sPlace sToken sNumber sWord sText0 sWritten sSort0 sPiled sOpens sWhole sOnce sIsW sDied cA cIm cTx cTp cPl cNm cVa cTr cAs cLi cSa cHd) H → va_D A (mW g h ad sTaped sFault sFaultP sAt sPlace sToken sNumber sWord sText0 sWritten sSort0 sPiled sOpens sWhole sOnce sIsW sDied cA cIm cTx cTp cPl cNm cVa cTr cAs cLi cSa cHd) → va_S A s.heap H locs → lv_has ls 5 [(0, .ref h), (1, .int x1), (2, .int x2)] → W p l e ({ frames := 2, cells := 0, slots := 0, locals := 43 } : Room) s m ([.ref h, .int x1, .int x2] : List Value).toArray below meth c H locs 0 0 (MQ below (QQ g (some (.int r)) (mW g h ad sTaped sFault sFaultP sAt sPlace sToken sNumber sWord sText0 sWritten sSort0 sPiled sOpens sWhole sOnce sIsW sDied cA cIm cTx cTp cPl cNm cVa cTr cAs cLi cSa cHd) A) ([.ref h, .int x1, .int x2] : List Value).toArray s 0 0 A) (F0 m 13 ls []) := by
    intro hf H locs ls hP hD hS hl
    rw [ek1] at hf
    refine lv_iload_n hx hb dX2_befell_13 rfl (lv_at hl 2 rfl) ?_
    refine lv_iconst (v := 0) hx hb dX2_befell_14 (by decide) ?_
    refine lv_bipush (v := 6) hx hb dX2_befell_15 (by decide) ?_
    obtain ⟨r3, k4, hf⟩ := bd1s hf
    refine cSi (rest := []) X (met_M_isIn (g := g) k4) gs_X2_X2_isIn dy_X2_isIn ⟨⟨rfl, rfl⟩, Nat.le_of_ble_eq_true rfl, Nat.le_of_ble_eq_true rfl⟩ hP hD hS hl.1 rfl rfl ⟨Nat.zero_le _, Nat.zero_le _⟩ (Nat.le_of_ble_eq_true rfl) dX2_befell_17 (fun H locs hP hD hS => ?_)
    refine bq_ne (tgt := 26) hx hb hf dX2_befell_20 (by decide) (fun hf => ?_) (fun hf => ?_)
    · refine lv_iconst (v := 0) hx hb dX2_befell_26 (by decide) ?_
      refine lv_istore_n (lv' := [(3, .int 0), (0, .ref h), (1, .int x1), (2, .int x2)]) hx hb dX2_befell_27 rfl hl (by decide) rfl (fun ls hl => ?_)
      refine lv_iconst (v := 0) hx hb dX2_befell_28 (by decide) ?_
      refine lv_istore (lv' := [(4, .int 0), (3, .int 0), (0, .ref h), (1, .int x1), (2, .int x2)]) hx hb dX2_befell_29 hl (by decide) rfl (fun ls hl => ?_)
      obtain ⟨v7, k12, hf⟩ := bd1s hf
      have hE9 : ∀ (H : Heap) (locs : List Loc) (ls : Array Slot), va_P g.1 vwCl (mW g h ad sTaped sFault sFaultP sAt sPlace sToken sNumber sWord sText0 sWritten sSort0 sPiled sOpens sWhole sOnce sIsW sDied cA cIm cTx cTp cPl cNm cVa cTr cAs cLi cSa cHd) H → va_D A (mW g h ad sTaped sFault sFaultP sAt sPlace sToken sNumber sWord sText0 sWritten sSort0 sPiled sOpens sWhole sOnce sIsW sDied cA cIm cTx cTp cPl cNm cVa cTr cAs cLi cSa cHd) → va_S A s.heap H locs → lv_has ls 5 [(3, .int v7)] → W p l e ({ frames := 2, cells := 0, slots := 0, locals := 43 } : Room) s m ([.ref h, .int x1, .int x2] : List Value).toArray below meth c H locs 0 0 (MQ below (QQ g (some (.int r)) (mW g h ad sTaped sFault sFaultP sAt sPlace sToken sNumber sWord sText0 sWritten sSort0 sPiled sOpens sWhole sOnce sIsW sDied cA cIm cTx cTp cPl cNm cVa cTr cAs cLi cSa cHd) A) ([.ref h, .int x1, .int x2] : List Value).toArray s 0 0 A) (F0 m 81 ls []) := by
        intro H locs ls hP hD hS hl
        refine lv_iload_n hx hb dX2_befell_81 rfl (lv_at hl 0 rfl) ?_
        cases hf
        exact rI X hP hD hS dX2_befell_82
      have hL10 : ∀ (n8 : Nat) (v5 : Int32) (v6 : Int32), M_befell_L31 φ x1 x2 cA n8 v5 v6 = some v7 → ∀ (H : Heap) (locs : List Loc) (ls : Array Slot), va_P g.1 vwCl (mW g h ad sTaped sFault sFaultP sAt sPlace sToken sNumber sWord sText0 sWritten sSort0 sPiled sOpens sWhole sOnce sIsW sDied cA cIm cTx cTp cPl cNm cVa cTr cAs cLi cSa cHd) H → va_D A (mW g h ad sTaped sFault sFaultP sAt sPlace sToken sNumber sWord sText0 sWritten sSort0 sPiled sOpens sWhole sOnce sIsW sDied cA cIm cTx cTp cPl cNm cVa cTr cAs cLi cSa cHd) → va_S A s.heap H locs → lv_has ls 5 [(0, .ref h), (1, .int x1), (2, .int x2), (3, .int v5), (4, .int v6)] → W p l e ({ frames := 2, cells := 0, slots := 0, locals := 43 } : Room) s m ([.ref h, .int x1, .int x2] : List Value).toArray below meth c H locs 0 0 (MQ below (QQ g (some (.int r)) (mW g h ad sTaped sFault sFaultP sAt sPlace sToken sNumber sWord sText0 sWritten sSort0 sPiled sOpens sWhole sOnce sIsW sDied cA cIm cTx cTp cPl cNm cVa cTr cAs cLi cSa cHd) A) ([.ref h, .int x1, .int x2] : List Value).toArray s 0 0 A) (F0 m 31 ls []) := by
        intro n8
        induction n8 with
        | zero =>
          intro v5 v6 hf
          exact nn hf
        | succ n8 ih11 =>
          intro v5 v6 hf H locs ls hP hD hS hl
          rw [M_befell_L31] at hf
          refine lv_iload hx hb dX2_befell_31 (lv_at hl 4 rfl) ?_
          refine lv_aload_n hx hb dX2_befell_33 rfl (lv_at hl 0 rfl) ?_
          obtain ⟨r13, k14, hf⟩ := bd1s hf
          refine cVi (rest := [.int v6]) X (met_M_shown k14) gw_X2_X2_shown dy_X2_shown ⟨⟨rfl, rfl⟩, Nat.le_of_ble_eq_true rfl, Nat.le_of_ble_eq_true rfl⟩ hP hD hS hl.1 rcM rfl rfl ⟨Nat.zero_le _, Nat.zero_le _⟩ (Nat.le_of_ble_eq_true rfl) dX2_befell_34 (fun H locs hP hD hS => ?_)
          refine bc_ge (tgt := 81) hx hb hf dX2_befell_37 (by decide) (fun hf => ?_) (fun hf => ?_)
          · cases hf
            exact hE9 _ _ _ hP hD hS (lv_sub hl [3] rfl)
          · refine lv_iload_n hx hb dX2_befell_40 rfl (lv_at hl 3 rfl) ?_
            refine lv_aload_n hx hb dX2_befell_41 rfl (lv_at hl 0 rfl) ?_
            refine lv_iload hx hb dX2_befell_42 (lv_at hl 4 rfl) ?_
            refine lv_iconst (v := 2) hx hb dX2_befell_44 (by decide) ?_
            obtain ⟨r15, k16, hf⟩ := bd1s hf
            refine cVi (rest := [.int v5]) X (met_M_entry k16) gw_X2_X2_entry dy_X2_entry ⟨⟨rfl, rfl⟩, Nat.le_of_ble_eq_true rfl, Nat.le_of_ble_eq_true rfl⟩ hP hD hS hl.1 rcM rfl rfl ⟨Nat.zero_le _, Nat.zero_le _⟩ (Nat.le_of_ble_eq_true rfl) dX2_befell_45 (fun H locs hP hD hS => ?_)
            refine lv_iload_n hx hb dX2_befell_48 rfl (lv_at hl 2 rfl) ?_
            refine bc_ne (tgt := 72) hx hb hf dX2_befell_49 (by decide) (fun hf => ?_) (fun hf => ?_)
            · refine lv_iconst (v := 0) hx hb dX2_befell_72 (by decide) ?_
              refine lv_iadd hx hb dX2_befell_73 ?_
              obtain ⟨v17, ev17, hf⟩ := lts hf
              refine tpi ev17 ?_
              refine lv_istore_n (lv' := [(3, .int v17), (0, .ref h), (1, .int x1), (2, .int x2), (4, .int v6)]) hx hb dX2_befell_74 rfl hl (by decide) rfl (fun ls hl => ?_)
              obtain ⟨v18, ev18, hf⟩ := lts hf
              refine lv_iinc (v := v18) (lv' := [(4, .int v18), (3, .int v17), (0, .ref h), (1, .int x1), (2, .int x2)]) hx hb dX2_befell_75 hl (k := 4) rfl (by rw [ev18]; rfl) (by decide) rfl (fun ls hl => ?_)
              refine lv_goto (tgt := 31) hx hb dX2_befell_78 (by decide) ?_
              exact ih11 _ _ hf _ _ _ hP hD hS (lv_sub hl [2, 3, 4, 1, 0] rfl)
            · refine lv_iload_n hx hb dX2_befell_52 rfl (lv_at hl 1 rfl) ?_
              refine lv_iconst (v := (-1)) hx hb dX2_befell_53 (by decide) ?_
              refine bc_eq (tgt := 68) hx hb hf dX2_befell_54 (by decide) (fun hf => ?_) (fun hf => ?_)
              · refine lv_iconst (v := 1) hx hb dX2_befell_68 (by decide) ?_
                refine lv_goto (tgt := 73) hx hb dX2_befell_69 (by decide) ?_
                refine lv_iadd hx hb dX2_befell_73 ?_
                obtain ⟨v19, ev19, hf⟩ := lts hf
                refine tpi ev19 ?_
                refine lv_istore_n (lv' := [(3, .int v19), (0, .ref h), (1, .int x1), (2, .int x2), (4, .int v6)]) hx hb dX2_befell_74 rfl hl (by decide) rfl (fun ls hl => ?_)
                obtain ⟨v20, ev20, hf⟩ := lts hf
                refine lv_iinc (v := v20) (lv' := [(4, .int v20), (3, .int v19), (0, .ref h), (1, .int x1), (2, .int x2)]) hx hb dX2_befell_75 hl (k := 4) rfl (by rw [ev20]; rfl) (by decide) rfl (fun ls hl => ?_)
                refine lv_goto (tgt := 31) hx hb dX2_befell_78 (by decide) ?_
                exact ih11 _ _ hf _ _ _ hP hD hS (lv_sub hl [2, 3, 4, 1, 0] rfl)
              · refine lv_aload_n hx hb dX2_befell_57 rfl (lv_at hl 0 rfl) ?_
                refine lv_iload hx hb dX2_befell_58 (lv_at hl 4 rfl) ?_
                refine lv_iconst (v := 1) hx hb dX2_befell_60 (by decide) ?_
                obtain ⟨r21, k22, hf⟩ := bd1s hf
                refine cVi (rest := [.int v5]) X (met_M_entry k22) gw_X2_X2_entry dy_X2_entry ⟨⟨rfl, rfl⟩, Nat.le_of_ble_eq_true rfl, Nat.le_of_ble_eq_true rfl⟩ hP hD hS hl.1 rcM rfl rfl ⟨Nat.zero_le _, Nat.zero_le _⟩ (Nat.le_of_ble_eq_true rfl) dX2_befell_61 (fun H locs hP hD hS => ?_)
                refine lv_iload_n hx hb dX2_befell_64 rfl (lv_at hl 1 rfl) ?_
                refine bc_ne (tgt := 72) hx hb hf dX2_befell_65 (by decide) (fun hf => ?_) (fun hf => ?_)
                · refine lv_iconst (v := 0) hx hb dX2_befell_72 (by decide) ?_
                  refine lv_iadd hx hb dX2_befell_73 ?_
                  obtain ⟨v23, ev23, hf⟩ := lts hf
                  refine tpi ev23 ?_
                  refine lv_istore_n (lv' := [(3, .int v23), (0, .ref h), (1, .int x1), (2, .int x2), (4, .int v6)]) hx hb dX2_befell_74 rfl hl (by decide) rfl (fun ls hl => ?_)
                  obtain ⟨v24, ev24, hf⟩ := lts hf
                  refine lv_iinc (v := v24) (lv' := [(4, .int v24), (3, .int v23), (0, .ref h), (1, .int x1), (2, .int x2)]) hx hb dX2_befell_75 hl (k := 4) rfl (by rw [ev24]; rfl) (by decide) rfl (fun ls hl => ?_)
                  refine lv_goto (tgt := 31) hx hb dX2_befell_78 (by decide) ?_
                  exact ih11 _ _ hf _ _ _ hP hD hS (lv_sub hl [2, 3, 4, 1, 0] rfl)
                · refine lv_iconst (v := 1) hx hb dX2_befell_68 (by decide) ?_
                  refine lv_goto (tgt := 73) hx hb dX2_befell_69 (by decide) ?_
                  refine lv_iadd hx hb dX2_befell_73 ?_
                  obtain ⟨v25, ev25, hf⟩ := lts hf
                  refine tpi ev25 ?_
                  refine lv_istore_n (lv' := [(3, .int v25), (0, .ref h), (1, .int x1), (2, .int x2), (4, .int v6)]) hx hb dX2_befell_74 rfl hl (by decide) rfl (fun ls hl => ?_)
                  obtain ⟨v26, ev26, hf⟩ := lts hf
                  refine lv_iinc (v := v26) (lv' := [(4, .int v26), (3, .int v25), (0, .ref h), (1, .int x1), (2, .int x2)]) hx hb dX2_befell_75 hl (k := 4) rfl (by rw [ev26]; rfl) (by decide) rfl (fun ls hl => ?_)
                  refine lv_goto (tgt := 31) hx hb dX2_befell_78 (by decide) ?_
                  exact ih11 _ _ hf _ _ _ hP hD hS (lv_sub hl [2, 3, 4, 1, 0] rfl)
      exact hL10 _ _ _ k12 _ _ _ hP hD hS (lv_sub hl [2, 3, 4, 1, 0] rfl)
    · refine lv_bipush (v := (-2)) hx hb dX2_befell_23 (by decide) ?_
      cases hf
      exact rI X hP hD hS dX2_befell_25
  clear ek1
  refine bc_eq (tgt := 13) hx hb hf dX2_befell_2 (by decide) (fun hf => ?_) (fun hf => ?_)
  · exact hj2 hf _ _ _ hP hD hS (lv_sub hl [0, 1, 2] rfl)
  · refine lv_aload_n hx hb dX2_befell_5 rfl (lv_at hl 0 rfl) ?_
    refine lv_iload_n hx hb dX2_befell_6 rfl (lv_at hl 1 rfl) ?_
    obtain ⟨r27, k28, hf⟩ := bd1s hf
    refine cVi (rest := []) X (met_M_isPerson k28) gw_X2_X2_isPerson dy_X2_isPerson ⟨⟨rfl, rfl⟩, Nat.le_of_ble_eq_true rfl, Nat.le_of_ble_eq_true rfl⟩ hP hD hS hl.1 rcM rfl rfl ⟨Nat.zero_le _, Nat.zero_le _⟩ (Nat.le_of_ble_eq_true rfl) dX2_befell_7 (fun H locs hP hD hS => ?_)
    refine bq_eq (tgt := 23) hx hb hf dX2_befell_10 (by decide) (fun hf => ?_) (fun hf => ?_)
    · refine lv_bipush (v := (-2)) hx hb dX2_befell_23 (by decide) ?_
      cases hf
      exact rI X hP hD hS dX2_befell_25
    · exact hj2 hf _ _ _ hP hD hS (lv_sub hl [0, 1, 2] rfl)
theorem gw_X2_X2_aliveIn : GoodIn lw_all (wsV RX2 418 RX2 yX2_aliveIn (ws_ yX2_aliveIn cX2_aliveIn 4 (some .int))) := lw_V q1897 q1899 qs130 q148 q1900
theorem dy_X2_aliveIn : Dy yX2_aliveIn RX2 1 := by decide +kernel
set_option maxHeartbeats 4000000 in
theorem met_M_heirs {l : Launch} {g : gG} {h : Nat} {ad : Nat → Nat} {sTaped : Int32} {sFault : Int32} {sFaultP : Int32} {sAt : Int32} {sPlace : Int32} {sToken : Int32} {sNumber : Int32} {sWord : Int64} {sText0 : Int32} {sWritten : Int32} {sSort0 : Int32} {sPiled : Int32} {sOpens : Int32} {sWhole : Int32} {sOnce : Int32} {sIsW : Int32} {sDied : Int32} {cA : Nat → Int32} {cIm : Nat → Int32} {cTx : Nat → Int32} {cTp : Nat → Int32} {cPl : Nat → Int32} {cNm : Nat → Int32} {cVa : Nat → Int64} {cTr : Nat → Int32} {cAs : Nat → Int32} {cLi : Nat → Int32} {cSa : Nat → Int32} {cHd : Nat → Int32} {x1 : Int32} {r : Int32} {φ : Nat} (hf : M_heirs φ cA x1 = some r) : CC l yX2_heirs (ws_ yX2_heirs cX2_heirs 2 (some .int)) ({ frames := 2, cells := 0, slots := 0, locals := 45 } : Room) g [.ref h, .int x1] (mW g h ad sTaped sFault sFaultP sAt sPlace sToken sNumber sWord sText0 sWritten sSort0 sPiled sOpens sWhole sOnce sIsW sDied cA cIm cTx cTp cPl cNm cVa cTr cAs cLi cSa cHd) (some (.int r)) (mW g h ad sTaped sFault sFaultP sAt sPlace sToken sNumber sWord sText0 sWritten sSort0 sPiled sOpens sWhole sOnce sIsW sDied cA cIm cTx cTp cPl cNm cVa cTr cAs cLi cSa cHd) 0 0 := by
  refine CC.of RX2 rfl plain_X2 (Nat.le_of_ble_eq_true rfl) (fun p e s m below meth c A ls X hP hD hS hl => ?_)
  have hx := X.1
  have hb := X.2.1
  have hown := X.2.2.2.2.2.1
  have hts := X.2.2.2.2.2.2.1
  have hl : lv_has ls 2 [(0, .ref h), (1, .int x1)] := hl
  unfold M_heirs at hf
  refine lv_aload_n hx hb dX2_heirs_0 rfl (lv_at hl 0 rfl) ?_
  refine lv_iload_n hx hb dX2_heirs_1 rfl (lv_at hl 1 rfl) ?_
  obtain ⟨r1, k2, hf⟩ := bd1s hf
  refine cVi (rest := []) X (met_M_isPerson k2) gw_X2_X2_isPerson dy_X2_isPerson ⟨⟨rfl, rfl⟩, Nat.le_of_ble_eq_true rfl, Nat.le_of_ble_eq_true rfl⟩ hP hD hS hl.1 rcM rfl rfl ⟨Nat.zero_le _, Nat.zero_le _⟩ (Nat.le_of_ble_eq_true rfl) dX2_heirs_2 (fun H locs hP hD hS => ?_)
  refine bq_eq (tgt := 27) hx hb hf dX2_heirs_5 (by decide) (fun hf => ?_) (fun hf => ?_)
  · refine lv_iconst (v := (-1)) hx hb dX2_heirs_27 (by decide) ?_
    cases hf
    exact rI X hP hD hS dX2_heirs_28
  · refine lv_aload_n hx hb dX2_heirs_8 rfl (lv_at hl 0 rfl) ?_
    refine lv_aload_n hx hb dX2_heirs_9 rfl (lv_at hl 0 rfl) ?_
    refine lv_iload_n hx hb dX2_heirs_10 rfl (lv_at hl 1 rfl) ?_
    refine lv_iconst (v := 0) hx hb dX2_heirs_11 (by decide) ?_
    obtain ⟨r3, k4, hf⟩ := bd1s hf
    refine cVi (rest := [.ref h]) X (met_M_get k4) gw_X2_X2_get dy_X2_get ⟨⟨rfl, rfl⟩, Nat.le_of_ble_eq_true rfl, Nat.le_of_ble_eq_true rfl⟩ hP hD hS hl.1 rcM rfl rfl ⟨Nat.zero_le _, Nat.zero_le _⟩ (Nat.le_of_ble_eq_true rfl) dX2_heirs_12 (fun H locs hP hD hS => ?_)
    obtain ⟨r5, k6, hf⟩ := bd1s hf
    refine cVi (rest := []) X (met_M_aliveIn k6) gw_X2_X2_aliveIn dy_X2_aliveIn ⟨⟨rfl, rfl⟩, Nat.le_of_ble_eq_true rfl, Nat.le_of_ble_eq_true rfl⟩ hP hD hS hl.1 rcM rfl rfl ⟨Nat.zero_le _, Nat.zero_le _⟩ (Nat.le_of_ble_eq_true rfl) dX2_heirs_15 (fun H locs hP hD hS => ?_)
    refine lv_iconst (v := 1) hx hb dX2_heirs_18 (by decide) ?_
    refine lv_iload_n hx hb dX2_heirs_19 rfl (lv_at hl 1 rfl) ?_
    refine lv_ishl hx hb dX2_heirs_20 ?_
    refine lv_iconst (v := (-1)) hx hb dX2_heirs_21 (by decide) ?_
    refine lv_ixor hx hb dX2_heirs_22 ?_
    refine lv_iand hx hb dX2_heirs_23 ?_
    refine lv_goto (tgt := 28) hx hb dX2_heirs_24 (by decide) ?_
    cases hf
    exact rI X hP hD hS dX2_heirs_28
theorem gw_X2_X2_isOutlaw : GoodIn lw_all (wsV RX2 358 RX2 yX2_isOutlaw (ws_ yX2_isOutlaw cX2_isOutlaw 2 (some .boolean))) := lw_V q1738 q1740 qs105 q148 q1741
theorem dy_X2_isOutlaw : Dy yX2_isOutlaw RX2 1 := by decide +kernel
set_option maxHeartbeats 4000000 in
theorem met_M_wolves {l : Launch} {g : gG} {h : Nat} {ad : Nat → Nat} {sTaped : Int32} {sFault : Int32} {sFaultP : Int32} {sAt : Int32} {sPlace : Int32} {sToken : Int32} {sNumber : Int32} {sWord : Int64} {sText0 : Int32} {sWritten : Int32} {sSort0 : Int32} {sPiled : Int32} {sOpens : Int32} {sWhole : Int32} {sOnce : Int32} {sIsW : Int32} {sDied : Int32} {cA : Nat → Int32} {cIm : Nat → Int32} {cTx : Nat → Int32} {cTp : Nat → Int32} {cPl : Nat → Int32} {cNm : Nat → Int32} {cVa : Nat → Int64} {cTr : Nat → Int32} {cAs : Nat → Int32} {cLi : Nat → Int32} {cSa : Nat → Int32} {cHd : Nat → Int32} {r : Int32} {φ : Nat} (hf : M_wolves φ cA = some r) : CC l yX2_wolves (ws_ yX2_wolves cX2_wolves 3 (some .int)) ({ frames := 3, cells := 0, slots := 0, locals := 64 } : Room) g [.ref h] (mW g h ad sTaped sFault sFaultP sAt sPlace sToken sNumber sWord sText0 sWritten sSort0 sPiled sOpens sWhole sOnce sIsW sDied cA cIm cTx cTp cPl cNm cVa cTr cAs cLi cSa cHd) (some (.int r)) (mW g h ad sTaped sFault sFaultP sAt sPlace sToken sNumber sWord sText0 sWritten sSort0 sPiled sOpens sWhole sOnce sIsW sDied cA cIm cTx cTp cPl cNm cVa cTr cAs cLi cSa cHd) 0 0 := by
  refine CC.of RX2 rfl plain_X2 (Nat.le_of_ble_eq_true rfl) (fun p e s m below meth c A ls X hP hD hS hl => ?_)
  have hx := X.1
  have hb := X.2.1
  have hown := X.2.2.2.2.2.1
  have hts := X.2.2.2.2.2.2.1
  have hl : lv_has ls 3 [(0, .ref h)] := hl
  unfold M_wolves at hf
  refine lv_iconst (v := 0) hx hb dX2_wolves_0 (by decide) ?_
  refine lv_istore_n (lv' := [(1, .int 0), (0, .ref h)]) hx hb dX2_wolves_1 rfl hl (by decide) rfl (fun ls hl => ?_)
  refine lv_iconst (v := 0) hx hb dX2_wolves_2 (by decide) ?_
  refine lv_istore_n (lv' := [(2, .int 0), (1, .int 0), (0, .ref h)]) hx hb dX2_wolves_3 rfl hl (by decide) rfl (fun ls hl => ?_)
  obtain ⟨v3, k8, hf⟩ := bd1s hf
  have hE5 : ∀ (H : Heap) (locs : List Loc) (ls : Array Slot), va_P g.1 vwCl (mW g h ad sTaped sFault sFaultP sAt sPlace sToken sNumber sWord sText0 sWritten sSort0 sPiled sOpens sWhole sOnce sIsW sDied cA cIm cTx cTp cPl cNm cVa cTr cAs cLi cSa cHd) H → va_D A (mW g h ad sTaped sFault sFaultP sAt sPlace sToken sNumber sWord sText0 sWritten sSort0 sPiled sOpens sWhole sOnce sIsW sDied cA cIm cTx cTp cPl cNm cVa cTr cAs cLi cSa cHd) → va_S A s.heap H locs → lv_has ls 3 [(1, .int v3)] → W p l e ({ frames := 3, cells := 0, slots := 0, locals := 64 } : Room) s m ([.ref h] : List Value).toArray below meth c H locs 0 0 (MQ below (QQ g (some (.int r)) (mW g h ad sTaped sFault sFaultP sAt sPlace sToken sNumber sWord sText0 sWritten sSort0 sPiled sOpens sWhole sOnce sIsW sDied cA cIm cTx cTp cPl cNm cVa cTr cAs cLi cSa cHd) A) ([.ref h] : List Value).toArray s 0 0 A) (F0 m 38 ls []) := by
    intro H locs ls hP hD hS hl
    refine lv_iload_n hx hb dX2_wolves_38 rfl (lv_at hl 0 rfl) ?_
    cases hf
    exact rI X hP hD hS dX2_wolves_39
  have hL6 : ∀ (n4 : Nat) (v1 : Int32) (v2 : Int32), M_wolves_L4 φ cA n4 v1 v2 = some v3 → ∀ (H : Heap) (locs : List Loc) (ls : Array Slot), va_P g.1 vwCl (mW g h ad sTaped sFault sFaultP sAt sPlace sToken sNumber sWord sText0 sWritten sSort0 sPiled sOpens sWhole sOnce sIsW sDied cA cIm cTx cTp cPl cNm cVa cTr cAs cLi cSa cHd) H → va_D A (mW g h ad sTaped sFault sFaultP sAt sPlace sToken sNumber sWord sText0 sWritten sSort0 sPiled sOpens sWhole sOnce sIsW sDied cA cIm cTx cTp cPl cNm cVa cTr cAs cLi cSa cHd) → va_S A s.heap H locs → lv_has ls 3 [(0, .ref h), (1, .int v1), (2, .int v2)] → W p l e ({ frames := 3, cells := 0, slots := 0, locals := 64 } : Room) s m ([.ref h] : List Value).toArray below meth c H locs 0 0 (MQ below (QQ g (some (.int r)) (mW g h ad sTaped sFault sFaultP sAt sPlace sToken sNumber sWord sText0 sWritten sSort0 sPiled sOpens sWhole sOnce sIsW sDied cA cIm cTx cTp cPl cNm cVa cTr cAs cLi cSa cHd) A) ([.ref h] : List Value).toArray s 0 0 A) (F0 m 4 ls []) := by
    intro n4
    induction n4 with
    | zero =>
      intro v1 v2 hf
      exact nn hf
    | succ n4 ih7 =>
      intro v1 v2 hf H locs ls hP hD hS hl
      rw [M_wolves_L4] at hf
      refine lv_iload_n hx hb dX2_wolves_4 rfl (lv_at hl 2 rfl) ?_
      refine lv_aload_n hx hb dX2_wolves_5 rfl (lv_at hl 0 rfl) ?_
      refine gM0 X hP dX2_wolves_6 ?_
      refine lv_iconst (v := 1) hx hb dX2_wolves_9 (by decide) ?_
      obtain ⟨v9, ev9, bv9, hf⟩ := rds hf
      refine lM_cA X hP ev9 bv9 dX2_wolves_10 ?_
      refine bc_ge (tgt := 38) hx hb hf dX2_wolves_11 (by decide) (fun hf => ?_) (fun hf => ?_)
      · cases hf
        exact hE5 _ _ _ hP hD hS (lv_sub hl [1] rfl)
      · refine lv_iload_n hx hb dX2_wolves_14 rfl (lv_at hl 1 rfl) ?_
        refine lv_aload_n hx hb dX2_wolves_15 rfl (lv_at hl 0 rfl) ?_
        refine lv_iload_n hx hb dX2_wolves_16 rfl (lv_at hl 2 rfl) ?_
        obtain ⟨r10, k11, hf⟩ := bd1s hf
        refine cVi (rest := [.int v1]) X (met_M_isOutlaw k11) gw_X2_X2_isOutlaw dy_X2_isOutlaw ⟨⟨rfl, rfl⟩, Nat.le_of_ble_eq_true rfl, Nat.le_of_ble_eq_true rfl⟩ hP hD hS hl.1 rcM rfl rfl ⟨Nat.zero_le _, Nat.zero_le _⟩ (Nat.le_of_ble_eq_true rfl) dX2_wolves_17 (fun H locs hP hD hS => ?_)
        refine bq_eq (tgt := 29) hx hb hf dX2_wolves_20 (by decide) (fun hf => ?_) (fun hf => ?_)
        · refine lv_iconst (v := 0) hx hb dX2_wolves_29 (by decide) ?_
          refine lv_ior hx hb dX2_wolves_30 ?_
          obtain ⟨v12, ev12, hf⟩ := lts hf
          refine tpi ev12 ?_
          refine lv_istore_n (lv' := [(1, .int v12), (0, .ref h), (2, .int v2)]) hx hb dX2_wolves_31 rfl hl (by decide) rfl (fun ls hl => ?_)
          obtain ⟨v13, ev13, hf⟩ := lts hf
          refine lv_iinc (v := v13) (lv' := [(2, .int v13), (1, .int v12), (0, .ref h)]) hx hb dX2_wolves_32 hl (k := 2) rfl (by rw [ev13]; rfl) (by decide) rfl (fun ls hl => ?_)
          refine lv_goto (tgt := 4) hx hb dX2_wolves_35 (by decide) ?_
          exact ih7 _ _ hf _ _ _ hP hD hS (lv_sub hl [2, 1, 0] rfl)
        · refine lv_iconst (v := 1) hx hb dX2_wolves_23 (by decide) ?_
          refine lv_iload_n hx hb dX2_wolves_24 rfl (lv_at hl 2 rfl) ?_
          refine lv_ishl hx hb dX2_wolves_25 ?_
          refine lv_goto (tgt := 30) hx hb dX2_wolves_26 (by decide) ?_
          refine lv_ior hx hb dX2_wolves_30 ?_
          obtain ⟨v14, ev14, hf⟩ := lts hf
          refine tpi ev14 ?_
          refine lv_istore_n (lv' := [(1, .int v14), (0, .ref h), (2, .int v2)]) hx hb dX2_wolves_31 rfl hl (by decide) rfl (fun ls hl => ?_)
          obtain ⟨v15, ev15, hf⟩ := lts hf
          refine lv_iinc (v := v15) (lv' := [(2, .int v15), (1, .int v14), (0, .ref h)]) hx hb dX2_wolves_32 hl (k := 2) rfl (by rw [ev15]; rfl) (by decide) rfl (fun ls hl => ?_)
          refine lv_goto (tgt := 4) hx hb dX2_wolves_35 (by decide) ?_
          exact ih7 _ _ hf _ _ _ hP hD hS (lv_sub hl [2, 1, 0] rfl)
  exact hL6 _ _ _ k8 _ _ _ hP hD hS (lv_sub hl [2, 1, 0] rfl)
theorem gw_X2_X2_wolves : GoodIn lw_all (wsV RX2 427 RX2 yX2_wolves (ws_ yX2_wolves cX2_wolves 3 (some .int))) := lw_V q1933 q1926 q1927 q148 q1928
theorem dy_X2_wolves : Dy yX2_wolves RX2 0 := by decide +kernel
theorem gs_X2_X2_bits : GoodIn lw_all (va_wsS RX2 268 yX2_bits (ws_ yX2_bits cX2_bits 5 (some .int))) := lw_S q1774 q1775 q148 q1776
theorem dy_X2_bits : Dy yX2_bits RX2 1 := by decide +kernel
set_option maxHeartbeats 4000000 in
theorem met_M_feared {l : Launch} {g : gG} {h : Nat} {ad : Nat → Nat} {sTaped : Int32} {sFault : Int32} {sFaultP : Int32} {sAt : Int32} {sPlace : Int32} {sToken : Int32} {sNumber : Int32} {sWord : Int64} {sText0 : Int32} {sWritten : Int32} {sSort0 : Int32} {sPiled : Int32} {sOpens : Int32} {sWhole : Int32} {sOnce : Int32} {sIsW : Int32} {sDied : Int32} {cA : Nat → Int32} {cIm : Nat → Int32} {cTx : Nat → Int32} {cTp : Nat → Int32} {cPl : Nat → Int32} {cNm : Nat → Int32} {cVa : Nat → Int64} {cTr : Nat → Int32} {cAs : Nat → Int32} {cLi : Nat → Int32} {cSa : Nat → Int32} {cHd : Nat → Int32} {r : Int32} {φ : Nat} (hf : M_feared φ cA = some r) : CC l yX2_feared (ws_ yX2_feared cX2_feared 5 (some .int)) ({ frames := 4, cells := 0, slots := 0, locals := 86 } : Room) g [.ref h] (mW g h ad sTaped sFault sFaultP sAt sPlace sToken sNumber sWord sText0 sWritten sSort0 sPiled sOpens sWhole sOnce sIsW sDied cA cIm cTx cTp cPl cNm cVa cTr cAs cLi cSa cHd) (some (.int r)) (mW g h ad sTaped sFault sFaultP sAt sPlace sToken sNumber sWord sText0 sWritten sSort0 sPiled sOpens sWhole sOnce sIsW sDied cA cIm cTx cTp cPl cNm cVa cTr cAs cLi cSa cHd) 0 0 := by
  refine CC.of RX2 rfl plain_X2 (Nat.le_of_ble_eq_true rfl) (fun p e s m below meth c A ls X hP hD hS hl => ?_)
  have hx := X.1
  have hb := X.2.1
  have hown := X.2.2.2.2.2.1
  have hts := X.2.2.2.2.2.2.1
  have hl : lv_has ls 5 [(0, .ref h)] := hl
  unfold M_feared at hf
  refine lv_iconst (v := (-1)) hx hb dX2_feared_0 (by decide) ?_
  refine lv_istore_n (lv' := [(1, .int (-1)), (0, .ref h)]) hx hb dX2_feared_1 rfl hl (by decide) rfl (fun ls hl => ?_)
  refine lv_iconst (v := 0) hx hb dX2_feared_2 (by decide) ?_
  refine lv_istore_n (lv' := [(2, .int 0), (1, .int (-1)), (0, .ref h)]) hx hb dX2_feared_3 rfl hl (by decide) rfl (fun ls hl => ?_)
  refine lv_iconst (v := 0) hx hb dX2_feared_4 (by decide) ?_
  refine lv_istore_n (lv' := [(3, .int 0), (2, .int 0), (1, .int (-1)), (0, .ref h)]) hx hb dX2_feared_5 rfl hl (by decide) rfl (fun ls hl => ?_)
  obtain ⟨v4, k9, hf⟩ := bd1s hf
  have hE6 : ∀ (H : Heap) (locs : List Loc) (ls : Array Slot), va_P g.1 vwCl (mW g h ad sTaped sFault sFaultP sAt sPlace sToken sNumber sWord sText0 sWritten sSort0 sPiled sOpens sWhole sOnce sIsW sDied cA cIm cTx cTp cPl cNm cVa cTr cAs cLi cSa cHd) H → va_D A (mW g h ad sTaped sFault sFaultP sAt sPlace sToken sNumber sWord sText0 sWritten sSort0 sPiled sOpens sWhole sOnce sIsW sDied cA cIm cTx cTp cPl cNm cVa cTr cAs cLi cSa cHd) → va_S A s.heap H locs → lv_has ls 5 [(1, .int v4)] → W p l e ({ frames := 4, cells := 0, slots := 0, locals := 86 } : Room) s m ([.ref h] : List Value).toArray below meth c H locs 0 0 (MQ below (QQ g (some (.int r)) (mW g h ad sTaped sFault sFaultP sAt sPlace sToken sNumber sWord sText0 sWritten sSort0 sPiled sOpens sWhole sOnce sIsW sDied cA cIm cTx cTp cPl cNm cVa cTr cAs cLi cSa cHd) A) ([.ref h] : List Value).toArray s 0 0 A) (F0 m 77 ls []) := by
    intro H locs ls hP hD hS hl
    refine lv_iload_n hx hb dX2_feared_77 rfl (lv_at hl 0 rfl) ?_
    cases hf
    exact rI X hP hD hS dX2_feared_78
  have hL7 : ∀ (n5 : Nat) (v1 : Int32) (v2 : Int32) (v3 : Int32), M_feared_L6 φ cA n5 v1 v2 v3 = some v4 → ∀ (H : Heap) (locs : List Loc) (ls : Array Slot), va_P g.1 vwCl (mW g h ad sTaped sFault sFaultP sAt sPlace sToken sNumber sWord sText0 sWritten sSort0 sPiled sOpens sWhole sOnce sIsW sDied cA cIm cTx cTp cPl cNm cVa cTr cAs cLi cSa cHd) H → va_D A (mW g h ad sTaped sFault sFaultP sAt sPlace sToken sNumber sWord sText0 sWritten sSort0 sPiled sOpens sWhole sOnce sIsW sDied cA cIm cTx cTp cPl cNm cVa cTr cAs cLi cSa cHd) → va_S A s.heap H locs → lv_has ls 5 [(0, .ref h), (1, .int v1), (2, .int v2), (3, .int v3)] → W p l e ({ frames := 4, cells := 0, slots := 0, locals := 86 } : Room) s m ([.ref h] : List Value).toArray below meth c H locs 0 0 (MQ below (QQ g (some (.int r)) (mW g h ad sTaped sFault sFaultP sAt sPlace sToken sNumber sWord sText0 sWritten sSort0 sPiled sOpens sWhole sOnce sIsW sDied cA cIm cTx cTp cPl cNm cVa cTr cAs cLi cSa cHd) A) ([.ref h] : List Value).toArray s 0 0 A) (F0 m 6 ls []) := by
    intro n5
    induction n5 with
    | zero =>
      intro v1 v2 v3 hf
      exact nn hf
    | succ n5 ih8 =>
      intro v1 v2 v3 hf H locs ls hP hD hS hl
      rw [M_feared_L6] at hf
      refine lv_iload_n hx hb dX2_feared_6 rfl (lv_at hl 3 rfl) ?_
      refine lv_aload_n hx hb dX2_feared_7 rfl (lv_at hl 0 rfl) ?_
      refine gM0 X hP dX2_feared_8 ?_
      refine lv_iconst (v := 1) hx hb dX2_feared_11 (by decide) ?_
      obtain ⟨v10, ev10, bv10, hf⟩ := rds hf
      refine lM_cA X hP ev10 bv10 dX2_feared_12 ?_
      refine bc_ge (tgt := 77) hx hb hf dX2_feared_13 (by decide) (fun hf => ?_) (fun hf => ?_)
      · cases hf
        exact hE6 _ _ _ hP hD hS (lv_sub hl [1] rfl)
      · refine lv_aload_n hx hb dX2_feared_16 rfl (lv_at hl 0 rfl) ?_
        refine lv_iload_n hx hb dX2_feared_17 rfl (lv_at hl 3 rfl) ?_
        refine lv_bipush (v := 6) hx hb dX2_feared_18 (by decide) ?_
        obtain ⟨r11, k12, hf⟩ := bd1s hf
        refine cVi (rest := []) X (met_M_get k12) gw_X2_X2_get dy_X2_get ⟨⟨rfl, rfl⟩, Nat.le_of_ble_eq_true rfl, Nat.le_of_ble_eq_true rfl⟩ hP hD hS hl.1 rcM rfl rfl ⟨Nat.zero_le _, Nat.zero_le _⟩ (Nat.le_of_ble_eq_true rfl) dX2_feared_20 (fun H locs hP hD hS => ?_)
        refine lv_iconst (v := 3) hx hb dX2_feared_23 (by decide) ?_
        refine bc_ne (tgt := 30) hx hb hf dX2_feared_24 (by decide) (fun hf => ?_) (fun hf => ?_)
        · refine lv_aload_n hx hb dX2_feared_30 rfl (lv_at hl 0 rfl) ?_
          refine lv_aload_n hx hb dX2_feared_31 rfl (lv_at hl 0 rfl) ?_
          refine lv_iload_n hx hb dX2_feared_32 rfl (lv_at hl 3 rfl) ?_
          refine lv_iconst (v := 0) hx hb dX2_feared_33 (by decide) ?_
          obtain ⟨r13, k14, hf⟩ := bd1s hf
          refine cVi (rest := [.ref h]) X (met_M_get k14) gw_X2_X2_get dy_X2_get ⟨⟨rfl, rfl⟩, Nat.le_of_ble_eq_true rfl, Nat.le_of_ble_eq_true rfl⟩ hP hD hS hl.1 rcM rfl rfl ⟨Nat.zero_le _, Nat.zero_le _⟩ (Nat.le_of_ble_eq_true rfl) dX2_feared_34 (fun H locs hP hD hS => ?_)
          obtain ⟨r15, k16, hf⟩ := bd1s hf
          refine cVi (rest := []) X (met_M_aliveIn k16) gw_X2_X2_aliveIn dy_X2_aliveIn ⟨⟨rfl, rfl⟩, Nat.le_of_ble_eq_true rfl, Nat.le_of_ble_eq_true rfl⟩ hP hD hS hl.1 rcM rfl rfl ⟨Nat.zero_le _, Nat.zero_le _⟩ (Nat.le_of_ble_eq_true rfl) dX2_feared_37 (fun H locs hP hD hS => ?_)
          refine lv_aload_n hx hb dX2_feared_40 rfl (lv_at hl 0 rfl) ?_
          obtain ⟨r17, k18, hf⟩ := bd1s hf
          refine cVi (rest := [.int r15]) X (met_M_wolves k18) gw_X2_X2_wolves dy_X2_wolves ⟨⟨rfl, rfl⟩, Nat.le_of_ble_eq_true rfl, Nat.le_of_ble_eq_true rfl⟩ hP hD hS hl.1 rcM rfl rfl ⟨Nat.zero_le _, Nat.zero_le _⟩ (Nat.le_of_ble_eq_true rfl) dX2_feared_41 (fun H locs hP hD hS => ?_)
          refine lv_iand hx hb dX2_feared_44 ?_
          refine lv_iconst (v := 1) hx hb dX2_feared_45 (by decide) ?_
          refine lv_iload_n hx hb dX2_feared_46 rfl (lv_at hl 3 rfl) ?_
          refine lv_ishl hx hb dX2_feared_47 ?_
          refine lv_iconst (v := (-1)) hx hb dX2_feared_48 (by decide) ?_
          refine lv_ixor hx hb dX2_feared_49 ?_
          refine lv_iand hx hb dX2_feared_50 ?_
          refine lv_i2l hx hb dX2_feared_51 rfl ?_
          obtain ⟨r19, k20, hf⟩ := bd1s hf
          refine cSi (rest := []) X (met_M_bits (g := g) k20) gs_X2_X2_bits dy_X2_bits ⟨⟨rfl, rfl⟩, Nat.le_of_ble_eq_true rfl, Nat.le_of_ble_eq_true rfl⟩ hP hD hS hl.1 rfl rfl ⟨Nat.zero_le _, Nat.zero_le _⟩ (Nat.le_of_ble_eq_true rfl) dX2_feared_52 (fun H locs hP hD hS => ?_)
          refine lv_istore (lv' := [(4, .int r19), (0, .ref h), (1, .int v1), (2, .int v2), (3, .int v3)]) hx hb dX2_feared_55 hl (by decide) rfl (fun ls hl => ?_)
          refine lv_iload hx hb dX2_feared_57 (lv_at hl 0 rfl) ?_
          refine lv_iload_n hx hb dX2_feared_59 rfl (lv_at hl 3 rfl) ?_
          refine bc_gt (tgt := 66) hx hb hf dX2_feared_60 (by decide) (fun hf => ?_) (fun hf => ?_)
          · refine lv_iload hx hb dX2_feared_66 (lv_at hl 0 rfl) ?_
            refine lv_istore_n (lv' := [(2, .int r19), (4, .int r19), (0, .ref h), (1, .int v1), (3, .int v3)]) hx hb dX2_feared_68 rfl hl (by decide) rfl (fun ls hl => ?_)
            refine lv_iload_n hx hb dX2_feared_69 rfl (lv_at hl 4 rfl) ?_
            refine lv_istore_n (lv' := [(1, .int v3), (2, .int r19), (4, .int r19), (0, .ref h), (3, .int v3)]) hx hb dX2_feared_70 rfl hl (by decide) rfl (fun ls hl => ?_)
            obtain ⟨v21, ev21, hf⟩ := lts hf
            refine lv_iinc (v := v21) (lv' := [(3, .int v21), (1, .int v3), (2, .int r19), (4, .int r19), (0, .ref h)]) hx hb dX2_feared_71 hl (k := 4) rfl (by rw [ev21]; rfl) (by decide) rfl (fun ls hl => ?_)
            refine lv_goto (tgt := 6) hx hb dX2_feared_74 (by decide) ?_
            exact ih8 _ _ _ hf _ _ _ hP hD hS (lv_sub hl [4, 1, 2, 0] rfl)
          · refine lv_goto (tgt := 71) hx hb dX2_feared_63 (by decide) ?_
            obtain ⟨v22, ev22, hf⟩ := lts hf
            refine lv_iinc (v := v22) (lv' := [(3, .int v22), (4, .int r19), (0, .ref h), (1, .int v1), (2, .int v2)]) hx hb dX2_feared_71 hl (k := 4) rfl (by rw [ev22]; rfl) (by decide) rfl (fun ls hl => ?_)
            refine lv_goto (tgt := 6) hx hb dX2_feared_74 (by decide) ?_
            exact ih8 _ _ _ hf _ _ _ hP hD hS (lv_sub hl [2, 3, 4, 0] rfl)
        · refine lv_goto (tgt := 71) hx hb dX2_feared_27 (by decide) ?_
          obtain ⟨v23, ev23, hf⟩ := lts hf
          refine lv_iinc (v := v23) (lv' := [(3, .int v23), (0, .ref h), (1, .int v1), (2, .int v2)]) hx hb dX2_feared_71 hl (k := 3) rfl (by rw [ev23]; rfl) (by decide) rfl (fun ls hl => ?_)
          refine lv_goto (tgt := 6) hx hb dX2_feared_74 (by decide) ?_
          exact ih8 _ _ _ hf _ _ _ hP hD hS (lv_sub hl [1, 2, 3, 0] rfl)
  exact hL7 _ _ _ _ k9 _ _ _ hP hD hS (lv_sub hl [3, 2, 1, 0] rfl)
set_option maxHeartbeats 4000000 in
theorem met_M_setAside {l : Launch} {g : gG} {h : Nat} {ad : Nat → Nat} {sTaped : Int32} {sFault : Int32} {sFaultP : Int32} {sAt : Int32} {sPlace : Int32} {sToken : Int32} {sNumber : Int32} {sWord : Int64} {sText0 : Int32} {sWritten : Int32} {sSort0 : Int32} {sPiled : Int32} {sOpens : Int32} {sWhole : Int32} {sOnce : Int32} {sIsW : Int32} {sDied : Int32} {cA : Nat → Int32} {cIm : Nat → Int32} {cTx : Nat → Int32} {cTp : Nat → Int32} {cPl : Nat → Int32} {cNm : Nat → Int32} {cVa : Nat → Int64} {cTr : Nat → Int32} {cAs : Nat → Int32} {cLi : Nat → Int32} {cSa : Nat → Int32} {cHd : Nat → Int32} {nsIsW : Int32} {ncAs : Nat → Int32} {φ : Nat} (hf : M_setAside φ sIsW cA cAs = some (nsIsW, ncAs)) : CC l yX2_setAside (ws_ yX2_setAside cX2_setAside 2 none) ({ frames := 0, cells := 0, slots := 0, locals := 0 } : Room) g [.ref h] (mW g h ad sTaped sFault sFaultP sAt sPlace sToken sNumber sWord sText0 sWritten sSort0 sPiled sOpens sWhole sOnce sIsW sDied cA cIm cTx cTp cPl cNm cVa cTr cAs cLi cSa cHd) none (mW g h ad sTaped sFault sFaultP sAt sPlace sToken sNumber sWord sText0 sWritten sSort0 sPiled sOpens sWhole sOnce nsIsW sDied cA cIm cTx cTp cPl cNm cVa cTr ncAs cLi cSa cHd) 0 0 := by
  refine CC.of RX2 rfl plain_X2 (Nat.le_of_ble_eq_true rfl) (fun p e s m below meth c A ls X hP hD hS hl => ?_)
  have hx := X.1
  have hb := X.2.1
  have hown := X.2.2.2.2.2.1
  have hts := X.2.2.2.2.2.2.1
  have hl : lv_has ls 2 [(0, .ref h)] := hl
  unfold M_setAside at hf
  refine lv_bipush (v := 10) hx hb dX2_setAside_0 (by decide) ?_
  refine lv_istore_n (lv' := [(1, .int 10), (0, .ref h)]) hx hb dX2_setAside_2 rfl hl (by decide) rfl (fun ls hl => ?_)
  obtain ⟨c3, k8, hf⟩ := bd1s hf
  have hE5 : ∀ (H : Heap) (locs : List Loc) (ls : Array Slot), va_P g.1 vwCl (mW g h ad sTaped sFault sFaultP sAt sPlace sToken sNumber sWord sText0 sWritten sSort0 sPiled sOpens sWhole sOnce sIsW sDied cA cIm cTx cTp cPl cNm cVa cTr c3 cLi cSa cHd) H → va_D A (mW g h ad sTaped sFault sFaultP sAt sPlace sToken sNumber sWord sText0 sWritten sSort0 sPiled sOpens sWhole sOnce sIsW sDied cA cIm cTx cTp cPl cNm cVa cTr c3 cLi cSa cHd) → va_S A s.heap H locs → lv_has ls 2 [(0, .ref h)] → W p l e ({ frames := 0, cells := 0, slots := 0, locals := 0 } : Room) s m ([.ref h] : List Value).toArray below meth c H locs 0 0 (MQ below (QQ g none (mW g h ad sTaped sFault sFaultP sAt sPlace sToken sNumber sWord sText0 sWritten sSort0 sPiled sOpens sWhole sOnce nsIsW sDied cA cIm cTx cTp cPl cNm cVa cTr ncAs cLi cSa cHd) A) ([.ref h] : List Value).toArray s 0 0 A) (F0 m 27 ls []) := by
    intro H locs ls hP hD hS hl
    refine lv_aload_n hx hb dX2_setAside_27 rfl (lv_at hl 0 rfl) ?_
    refine lv_iconst (v := 0) hx hb dX2_setAside_28 (by decide) ?_
    refine pM23 X hP hD hS rfl rfl dX2_setAside_29 (fun H locs hP hD hS => ?_)
    cases hf
    exact rV X hP hD hS dX2_setAside_32
  have hL6 : ∀ (n4 : Nat) (v1 : Int32) (c2 : Nat → Int32), M_setAside_L3 φ cA n4 v1 c2 = some c3 → ∀ (H : Heap) (locs : List Loc) (ls : Array Slot), va_P g.1 vwCl (mW g h ad sTaped sFault sFaultP sAt sPlace sToken sNumber sWord sText0 sWritten sSort0 sPiled sOpens sWhole sOnce sIsW sDied cA cIm cTx cTp cPl cNm cVa cTr c2 cLi cSa cHd) H → va_D A (mW g h ad sTaped sFault sFaultP sAt sPlace sToken sNumber sWord sText0 sWritten sSort0 sPiled sOpens sWhole sOnce sIsW sDied cA cIm cTx cTp cPl cNm cVa cTr c2 cLi cSa cHd) → va_S A s.heap H locs → lv_has ls 2 [(0, .ref h), (1, .int v1)] → W p l e ({ frames := 0, cells := 0, slots := 0, locals := 0 } : Room) s m ([.ref h] : List Value).toArray below meth c H locs 0 0 (MQ below (QQ g none (mW g h ad sTaped sFault sFaultP sAt sPlace sToken sNumber sWord sText0 sWritten sSort0 sPiled sOpens sWhole sOnce nsIsW sDied cA cIm cTx cTp cPl cNm cVa cTr ncAs cLi cSa cHd) A) ([.ref h] : List Value).toArray s 0 0 A) (F0 m 3 ls []) := by
    intro n4
    induction n4 with
    | zero =>
      intro v1 c2 hf
      exact nn hf
    | succ n4 ih7 =>
      intro v1 c2 hf H locs ls hP hD hS hl
      rw [M_setAside_L3] at hf
      refine lv_iload_n hx hb dX2_setAside_3 rfl (lv_at hl 1 rfl) ?_
      refine lv_bipush (v := 80) hx hb dX2_setAside_4 (by decide) ?_
      refine bc_ge (tgt := 27) hx hb hf dX2_setAside_6 (by decide) (fun hf => ?_) (fun hf => ?_)
      · cases hf
        exact hE5 _ _ _ hP hD hS (lv_sub hl [0] rfl)
      · refine lv_aload_n hx hb dX2_setAside_9 rfl (lv_at hl 0 rfl) ?_
        refine gM25 X hP dX2_setAside_10 ?_
        refine lv_iload_n hx hb dX2_setAside_13 rfl (lv_at hl 1 rfl) ?_
        refine lv_aload_n hx hb dX2_setAside_14 rfl (lv_at hl 0 rfl) ?_
        refine gM0 X hP dX2_setAside_15 ?_
        refine lv_iload_n hx hb dX2_setAside_18 rfl (lv_at hl 1 rfl) ?_
        obtain ⟨v9, ev9, bv9, hf⟩ := rds hf
        refine lM_cA X hP ev9 bv9 dX2_setAside_19 ?_
        obtain ⟨c10, ec10, bc10, hf⟩ := wrs hf
        refine sM_cAs X hP hD hS ec10 bc10 dX2_setAside_20 (fun H locs hP hD hS => ?_)
        obtain ⟨v11, ev11, hf⟩ := lts hf
        refine lv_iinc (v := v11) (lv' := [(1, .int v11), (0, .ref h)]) hx hb dX2_setAside_21 hl (k := 1) rfl (by rw [ev11]; rfl) (by decide) rfl (fun ls hl => ?_)
        refine lv_goto (tgt := 3) hx hb dX2_setAside_24 (by decide) ?_
        exact ih7 _ _ hf _ _ _ hP hD hS (lv_sub hl [1, 0] rfl)
  exact hL6 _ _ _ k8 _ _ _ hP hD hS (lv_sub hl [1, 0] rfl)
set_option maxHeartbeats 4000000 in
theorem met_M_putBack {l : Launch} {g : gG} {h : Nat} {ad : Nat → Nat} {sTaped : Int32} {sFault : Int32} {sFaultP : Int32} {sAt : Int32} {sPlace : Int32} {sToken : Int32} {sNumber : Int32} {sWord : Int64} {sText0 : Int32} {sWritten : Int32} {sSort0 : Int32} {sPiled : Int32} {sOpens : Int32} {sWhole : Int32} {sOnce : Int32} {sIsW : Int32} {sDied : Int32} {cA : Nat → Int32} {cIm : Nat → Int32} {cTx : Nat → Int32} {cTp : Nat → Int32} {cPl : Nat → Int32} {cNm : Nat → Int32} {cVa : Nat → Int64} {cTr : Nat → Int32} {cAs : Nat → Int32} {cLi : Nat → Int32} {cSa : Nat → Int32} {cHd : Nat → Int32} {nsIsW : Int32} {ncA : Nat → Int32} {φ : Nat} (hf : M_putBack φ sIsW cA cAs = some (nsIsW, ncA)) : CC l yX2_putBack (ws_ yX2_putBack cX2_putBack 2 none) ({ frames := 0, cells := 0, slots := 0, locals := 0 } : Room) g [.ref h] (mW g h ad sTaped sFault sFaultP sAt sPlace sToken sNumber sWord sText0 sWritten sSort0 sPiled sOpens sWhole sOnce sIsW sDied cA cIm cTx cTp cPl cNm cVa cTr cAs cLi cSa cHd) none (mW g h ad sTaped sFault sFaultP sAt sPlace sToken sNumber sWord sText0 sWritten sSort0 sPiled sOpens sWhole sOnce nsIsW sDied ncA cIm cTx cTp cPl cNm cVa cTr cAs cLi cSa cHd) 0 0 := by
  refine CC.of RX2 rfl plain_X2 (Nat.le_of_ble_eq_true rfl) (fun p e s m below meth c A ls X hP hD hS hl => ?_)
  have hx := X.1
  have hb := X.2.1
  have hown := X.2.2.2.2.2.1
  have hts := X.2.2.2.2.2.2.1
  have hl : lv_has ls 2 [(0, .ref h)] := hl
  unfold M_putBack at hf
  refine lv_bipush (v := 10) hx hb dX2_putBack_0 (by decide) ?_
  refine lv_istore_n (lv' := [(1, .int 10), (0, .ref h)]) hx hb dX2_putBack_2 rfl hl (by decide) rfl (fun ls hl => ?_)
  obtain ⟨c3, k8, hf⟩ := bd1s hf
  have hE5 : ∀ (H : Heap) (locs : List Loc) (ls : Array Slot), va_P g.1 vwCl (mW g h ad sTaped sFault sFaultP sAt sPlace sToken sNumber sWord sText0 sWritten sSort0 sPiled sOpens sWhole sOnce sIsW sDied c3 cIm cTx cTp cPl cNm cVa cTr cAs cLi cSa cHd) H → va_D A (mW g h ad sTaped sFault sFaultP sAt sPlace sToken sNumber sWord sText0 sWritten sSort0 sPiled sOpens sWhole sOnce sIsW sDied c3 cIm cTx cTp cPl cNm cVa cTr cAs cLi cSa cHd) → va_S A s.heap H locs → lv_has ls 2 [(0, .ref h)] → W p l e ({ frames := 0, cells := 0, slots := 0, locals := 0 } : Room) s m ([.ref h] : List Value).toArray below meth c H locs 0 0 (MQ below (QQ g none (mW g h ad sTaped sFault sFaultP sAt sPlace sToken sNumber sWord sText0 sWritten sSort0 sPiled sOpens sWhole sOnce nsIsW sDied ncA cIm cTx cTp cPl cNm cVa cTr cAs cLi cSa cHd) A) ([.ref h] : List Value).toArray s 0 0 A) (F0 m 27 ls []) := by
    intro H locs ls hP hD hS hl
    refine lv_aload_n hx hb dX2_putBack_27 rfl (lv_at hl 0 rfl) ?_
    refine lv_iconst (v := 1) hx hb dX2_putBack_28 (by decide) ?_
    refine pM23 X hP hD hS rfl rfl dX2_putBack_29 (fun H locs hP hD hS => ?_)
    cases hf
    exact rV X hP hD hS dX2_putBack_32
  have hL6 : ∀ (n4 : Nat) (v1 : Int32) (c2 : Nat → Int32), M_putBack_L3 φ cAs n4 v1 c2 = some c3 → ∀ (H : Heap) (locs : List Loc) (ls : Array Slot), va_P g.1 vwCl (mW g h ad sTaped sFault sFaultP sAt sPlace sToken sNumber sWord sText0 sWritten sSort0 sPiled sOpens sWhole sOnce sIsW sDied c2 cIm cTx cTp cPl cNm cVa cTr cAs cLi cSa cHd) H → va_D A (mW g h ad sTaped sFault sFaultP sAt sPlace sToken sNumber sWord sText0 sWritten sSort0 sPiled sOpens sWhole sOnce sIsW sDied c2 cIm cTx cTp cPl cNm cVa cTr cAs cLi cSa cHd) → va_S A s.heap H locs → lv_has ls 2 [(0, .ref h), (1, .int v1)] → W p l e ({ frames := 0, cells := 0, slots := 0, locals := 0 } : Room) s m ([.ref h] : List Value).toArray below meth c H locs 0 0 (MQ below (QQ g none (mW g h ad sTaped sFault sFaultP sAt sPlace sToken sNumber sWord sText0 sWritten sSort0 sPiled sOpens sWhole sOnce nsIsW sDied ncA cIm cTx cTp cPl cNm cVa cTr cAs cLi cSa cHd) A) ([.ref h] : List Value).toArray s 0 0 A) (F0 m 3 ls []) := by
    intro n4
    induction n4 with
    | zero =>
      intro v1 c2 hf
      exact nn hf
    | succ n4 ih7 =>
      intro v1 c2 hf H locs ls hP hD hS hl
      rw [M_putBack_L3] at hf
      refine lv_iload_n hx hb dX2_putBack_3 rfl (lv_at hl 1 rfl) ?_
      refine lv_bipush (v := 80) hx hb dX2_putBack_4 (by decide) ?_
      refine bc_ge (tgt := 27) hx hb hf dX2_putBack_6 (by decide) (fun hf => ?_) (fun hf => ?_)
      · cases hf
        exact hE5 _ _ _ hP hD hS (lv_sub hl [0] rfl)
      · refine lv_aload_n hx hb dX2_putBack_9 rfl (lv_at hl 0 rfl) ?_
        refine gM0 X hP dX2_putBack_10 ?_
        refine lv_iload_n hx hb dX2_putBack_13 rfl (lv_at hl 1 rfl) ?_
        refine lv_aload_n hx hb dX2_putBack_14 rfl (lv_at hl 0 rfl) ?_
        refine gM25 X hP dX2_putBack_15 ?_
        refine lv_iload_n hx hb dX2_putBack_18 rfl (lv_at hl 1 rfl) ?_
        obtain ⟨v9, ev9, bv9, hf⟩ := rds hf
        refine lM_cAs X hP ev9 bv9 dX2_putBack_19 ?_
        obtain ⟨c10, ec10, bc10, hf⟩ := wrs hf
        refine sM_cA X hP hD hS ec10 bc10 dX2_putBack_20 (fun H locs hP hD hS => ?_)
        obtain ⟨v11, ev11, hf⟩ := lts hf
        refine lv_iinc (v := v11) (lv' := [(1, .int v11), (0, .ref h)]) hx hb dX2_putBack_21 hl (k := 1) rfl (by rw [ev11]; rfl) (by decide) rfl (fun ls hl => ?_)
        refine lv_goto (tgt := 3) hx hb dX2_putBack_24 (by decide) ?_
        exact ih7 _ _ hf _ _ _ hP hD hS (lv_sub hl [1, 0] rfl)
  exact hL6 _ _ _ k8 _ _ _ hP hD hS (lv_sub hl [1, 0] rfl)
set_option maxHeartbeats 4000000 in
theorem met_M_reachOf {l : Launch} {g : gG} {h : Nat} {ad : Nat → Nat} {sTaped : Int32} {sFault : Int32} {sFaultP : Int32} {sAt : Int32} {sPlace : Int32} {sToken : Int32} {sNumber : Int32} {sWord : Int64} {sText0 : Int32} {sWritten : Int32} {sSort0 : Int32} {sPiled : Int32} {sOpens : Int32} {sWhole : Int32} {sOnce : Int32} {sIsW : Int32} {sDied : Int32} {cA : Nat → Int32} {cIm : Nat → Int32} {cTx : Nat → Int32} {cTp : Nat → Int32} {cPl : Nat → Int32} {cNm : Nat → Int32} {cVa : Nat → Int64} {cTr : Nat → Int32} {cAs : Nat → Int32} {cLi : Nat → Int32} {cSa : Nat → Int32} {cHd : Nat → Int32} {x1 : Int32} {r : Int32} (hf : M_reachOf cA x1 = some r) : CC l yX2_reachOf (ws_ yX2_reachOf cX2_reachOf 2 (some .int)) ({ frames := 0, cells := 0, slots := 0, locals := 0 } : Room) g [.ref h, .int x1] (mW g h ad sTaped sFault sFaultP sAt sPlace sToken sNumber sWord sText0 sWritten sSort0 sPiled sOpens sWhole sOnce sIsW sDied cA cIm cTx cTp cPl cNm cVa cTr cAs cLi cSa cHd) (some (.int r)) (mW g h ad sTaped sFault sFaultP sAt sPlace sToken sNumber sWord sText0 sWritten sSort0 sPiled sOpens sWhole sOnce sIsW sDied cA cIm cTx cTp cPl cNm cVa cTr cAs cLi cSa cHd) 0 0 := by
  refine CC.of RX2 rfl plain_X2 (Nat.le_of_ble_eq_true rfl) (fun p e s m below meth c A ls X hP hD hS hl => ?_)
  have hx := X.1
  have hb := X.2.1
  have hown := X.2.2.2.2.2.1
  have hts := X.2.2.2.2.2.2.1
  have hl : lv_has ls 2 [(0, .ref h), (1, .int x1)] := hl
  unfold M_reachOf at hf
  refine lv_aload_n hx hb dX2_reachOf_0 rfl (lv_at hl 0 rfl) ?_
  refine gM0 X hP dX2_reachOf_1 ?_
  refine lv_bipush (v := 88) hx hb dX2_reachOf_4 (by decide) ?_
  refine lv_iload_n hx hb dX2_reachOf_6 rfl (lv_at hl 1 rfl) ?_
  refine lv_iadd hx hb dX2_reachOf_7 ?_
  obtain ⟨v1, ev1, bv1, hf⟩ := rds hf
  refine lM_cA X hP ev1 bv1 dX2_reachOf_8 ?_
  refine lv_iconst (v := 1) hx hb dX2_reachOf_9 (by decide) ?_
  refine lv_iload_n hx hb dX2_reachOf_10 rfl (lv_at hl 1 rfl) ?_
  refine lv_ishl hx hb dX2_reachOf_11 ?_
  refine lv_ior hx hb dX2_reachOf_12 ?_
  cases hf
  exact rI X hP hD hS dX2_reachOf_13
set_option maxHeartbeats 4000000 in
theorem met_M_common {l : Launch} {g : gG} {x0 : Int32} {x1 : Int32} {r : Int32} {φ : Nat} (hf : M_common φ x0 x1 = some r) : CC l yX2_common (ws_ yX2_common cX2_common 5 (some .int)) ({ frames := 0, cells := 0, slots := 0, locals := 0 } : Room) g [.int x0, .int x1] ([] : va_W) (some (.int r)) ([] : va_W) 0 0 := by
  refine CC.of RX2 rfl plain_X2 (Nat.le_of_ble_eq_true rfl) (fun p e s m below meth c A ls X hP hD hS hl => ?_)
  have hx := X.1
  have hb := X.2.1
  have hown := X.2.2.2.2.2.1
  have hts := X.2.2.2.2.2.2.1
  have hl : lv_has ls 5 [(0, .int x0), (1, .int x1)] := hl
  unfold M_common at hf
  refine lv_iload_n hx hb dX2_common_0 rfl (lv_at hl 0 rfl) ?_
  refine lv_istore_n (lv' := [(2, .int x0), (0, .int x0), (1, .int x1)]) hx hb dX2_common_1 rfl hl (by decide) rfl (fun ls hl => ?_)
  refine lv_iload_n hx hb dX2_common_2 rfl (lv_at hl 2 rfl) ?_
  refine lv_istore_n (lv' := [(3, .int x1), (2, .int x0), (0, .int x0), (1, .int x1)]) hx hb dX2_common_3 rfl hl (by decide) rfl (fun ls hl => ?_)
  obtain ⟨v3, k8, hf⟩ := bd1s hf
  have hE5 : ∀ (H : Heap) (locs : List Loc) (ls : Array Slot), va_P g.1 vwCl ([] : va_W) H → va_D A ([] : va_W) → va_S A s.heap H locs → lv_has ls 5 [(2, .int v3)] → W p l e ({ frames := 0, cells := 0, slots := 0, locals := 0 } : Room) s m ([.int x0, .int x1] : List Value).toArray below meth c H locs 0 0 (MQ below (QQ g (some (.int r)) ([] : va_W) A) ([.int x0, .int x1] : List Value).toArray s 0 0 A) (F0 m 21 ls []) := by
    intro H locs ls hP hD hS hl
    refine lv_iload_n hx hb dX2_common_21 rfl (lv_at hl 0 rfl) ?_
    cases hf
    exact rI X hP hD hS dX2_common_22
  have hL6 : ∀ (n4 : Nat) (v1 : Int32) (v2 : Int32), M_common_L4 φ n4 v1 v2 = some v3 → ∀ (H : Heap) (locs : List Loc) (ls : Array Slot), va_P g.1 vwCl ([] : va_W) H → va_D A ([] : va_W) → va_S A s.heap H locs → lv_has ls 5 [(2, .int v1), (3, .int v2)] → W p l e ({ frames := 0, cells := 0, slots := 0, locals := 0 } : Room) s m ([.int x0, .int x1] : List Value).toArray below meth c H locs 0 0 (MQ below (QQ g (some (.int r)) ([] : va_W) A) ([.int x0, .int x1] : List Value).toArray s 0 0 A) (F0 m 4 ls []) := by
    intro n4
    induction n4 with
    | zero =>
      intro v1 v2 hf
      exact nn hf
    | succ n4 ih7 =>
      intro v1 v2 hf H locs ls hP hD hS hl
      rw [M_common_L4] at hf
      refine lv_iload_n hx hb dX2_common_4 rfl (lv_at hl 1 rfl) ?_
      refine bq_eq (tgt := 21) hx hb hf dX2_common_5 (by decide) (fun hf => ?_) (fun hf => ?_)
      · cases hf
        exact hE5 _ _ _ hP hD hS (lv_sub hl [0] rfl)
      · refine lv_iload_n hx hb dX2_common_8 rfl (lv_at hl 0 rfl) ?_
        refine lv_iload_n hx hb dX2_common_9 rfl (lv_at hl 1 rfl) ?_
        obtain ⟨z9, hf⟩ := nzs hf
        refine lv_irem hx hb dX2_common_10 z9 ?_
        obtain ⟨v10, ev10, hf⟩ := lts hf
        refine tpi ev10 ?_
        refine lv_istore (lv' := [(4, .int v10), (2, .int v1), (3, .int v2)]) hx hb dX2_common_11 hl (by decide) rfl (fun ls hl => ?_)
        refine lv_iload_n hx hb dX2_common_13 rfl (lv_at hl 2 rfl) ?_
        refine lv_istore_n (lv' := [(2, .int v2), (4, .int v10), (3, .int v2)]) hx hb dX2_common_14 rfl hl (by decide) rfl (fun ls hl => ?_)
        refine lv_iload hx hb dX2_common_15 (lv_at hl 1 rfl) ?_
        refine lv_istore_n (lv' := [(3, .int v10), (2, .int v2), (4, .int v10)]) hx hb dX2_common_17 rfl hl (by decide) rfl (fun ls hl => ?_)
        refine lv_goto (tgt := 4) hx hb dX2_common_18 (by decide) ?_
        exact ih7 _ _ hf _ _ _ hP hD hS (lv_sub hl [1, 0] rfl)
  exact hL6 _ _ _ k8 _ _ _ hP hD hS (lv_sub hl [1, 0] rfl)
theorem gw_X2_X2_reachOf : GoodIn lw_all (wsV RX2 436 RX2 yX2_reachOf (ws_ yX2_reachOf cX2_reachOf 2 (some .int))) := lw_V q1962 q1964 qs137 q148 q1965
theorem dy_X2_reachOf : Dy yX2_reachOf RX2 1 := by decide +kernel
theorem gs_X2_X2_isWith : GoodIn lw_all (va_wsS RX2 78 yX2_isWith (ws_ yX2_isWith cX2_isWith 2 (some .boolean))) := lw_S q1506 q1507 q148 q1508
theorem dy_X2_isWith : Dy yX2_isWith RX2 2 := by decide +kernel
set_option maxHeartbeats 4000000 in
theorem met_M_lowestFrom {l : Launch} {g : gG} {h : Nat} {ad : Nat → Nat} {sTaped : Int32} {sFault : Int32} {sFaultP : Int32} {sAt : Int32} {sPlace : Int32} {sToken : Int32} {sNumber : Int32} {sWord : Int64} {sText0 : Int32} {sWritten : Int32} {sSort0 : Int32} {sPiled : Int32} {sOpens : Int32} {sWhole : Int32} {sOnce : Int32} {sIsW : Int32} {sDied : Int32} {cA : Nat → Int32} {cIm : Nat → Int32} {cTx : Nat → Int32} {cTp : Nat → Int32} {cPl : Nat → Int32} {cNm : Nat → Int32} {cVa : Nat → Int64} {cTr : Nat → Int32} {cAs : Nat → Int32} {cLi : Nat → Int32} {cSa : Nat → Int32} {cHd : Nat → Int32} {x1 : Int32} {r : Int32} {φ : Nat} (hf : M_lowestFrom φ cA x1 = some r) : CC l yX2_lowestFrom (ws_ yX2_lowestFrom cX2_lowestFrom 3 (some .int)) ({ frames := 1, cells := 0, slots := 0, locals := 21 } : Room) g [.ref h, .int x1] (mW g h ad sTaped sFault sFaultP sAt sPlace sToken sNumber sWord sText0 sWritten sSort0 sPiled sOpens sWhole sOnce sIsW sDied cA cIm cTx cTp cPl cNm cVa cTr cAs cLi cSa cHd) (some (.int r)) (mW g h ad sTaped sFault sFaultP sAt sPlace sToken sNumber sWord sText0 sWritten sSort0 sPiled sOpens sWhole sOnce sIsW sDied cA cIm cTx cTp cPl cNm cVa cTr cAs cLi cSa cHd) 0 0 := by
  refine CC.of RX2 rfl plain_X2 (Nat.le_of_ble_eq_true rfl) (fun p e s m below meth c A ls X hP hD hS hl => ?_)
  have hx := X.1
  have hb := X.2.1
  have hown := X.2.2.2.2.2.1
  have hts := X.2.2.2.2.2.2.1
  have hl : lv_has ls 3 [(0, .ref h), (1, .int x1)] := hl
  unfold M_lowestFrom at hf
  refine lv_iconst (v := 0) hx hb dX2_lowestFrom_0 (by decide) ?_
  refine lv_istore_n (lv' := [(2, .int 0), (0, .ref h), (1, .int x1)]) hx hb dX2_lowestFrom_1 rfl hl (by decide) rfl (fun ls hl => ?_)
  obtain ⟨v2, k7, hf⟩ := bd1s hf
  have hE4 : ∀ (H : Heap) (locs : List Loc) (ls : Array Slot), va_P g.1 vwCl (mW g h ad sTaped sFault sFaultP sAt sPlace sToken sNumber sWord sText0 sWritten sSort0 sPiled sOpens sWhole sOnce sIsW sDied cA cIm cTx cTp cPl cNm cVa cTr cAs cLi cSa cHd) H → va_D A (mW g h ad sTaped sFault sFaultP sAt sPlace sToken sNumber sWord sText0 sWritten sSort0 sPiled sOpens sWhole sOnce sIsW sDied cA cIm cTx cTp cPl cNm cVa cTr cAs cLi cSa cHd) → va_S A s.heap H locs → lv_has ls 3 [(2, .int v2)] → W p l e ({ frames := 1, cells := 0, slots := 0, locals := 21 } : Room) s m ([.ref h, .int x1] : List Value).toArray below meth c H locs 0 0 (MQ below (QQ g (some (.int r)) (mW g h ad sTaped sFault sFaultP sAt sPlace sToken sNumber sWord sText0 sWritten sSort0 sPiled sOpens sWhole sOnce sIsW sDied cA cIm cTx cTp cPl cNm cVa cTr cAs cLi cSa cHd) A) ([.ref h, .int x1] : List Value).toArray s 0 0 A) (F0 m 20 ls []) := by
    intro H locs ls hP hD hS hl
    refine lv_iload_n hx hb dX2_lowestFrom_20 rfl (lv_at hl 0 rfl) ?_
    cases hf
    exact rI X hP hD hS dX2_lowestFrom_21
  have hL5 : ∀ (n3 : Nat) (v1 : Int32), M_lowestFrom_L2 φ x1 cA n3 v1 = some v2 → ∀ (H : Heap) (locs : List Loc) (ls : Array Slot), va_P g.1 vwCl (mW g h ad sTaped sFault sFaultP sAt sPlace sToken sNumber sWord sText0 sWritten sSort0 sPiled sOpens sWhole sOnce sIsW sDied cA cIm cTx cTp cPl cNm cVa cTr cAs cLi cSa cHd) H → va_D A (mW g h ad sTaped sFault sFaultP sAt sPlace sToken sNumber sWord sText0 sWritten sSort0 sPiled sOpens sWhole sOnce sIsW sDied cA cIm cTx cTp cPl cNm cVa cTr cAs cLi cSa cHd) → va_S A s.heap H locs → lv_has ls 3 [(0, .ref h), (1, .int x1), (2, .int v1)] → W p l e ({ frames := 1, cells := 0, slots := 0, locals := 21 } : Room) s m ([.ref h, .int x1] : List Value).toArray below meth c H locs 0 0 (MQ below (QQ g (some (.int r)) (mW g h ad sTaped sFault sFaultP sAt sPlace sToken sNumber sWord sText0 sWritten sSort0 sPiled sOpens sWhole sOnce sIsW sDied cA cIm cTx cTp cPl cNm cVa cTr cAs cLi cSa cHd) A) ([.ref h, .int x1] : List Value).toArray s 0 0 A) (F0 m 2 ls []) := by
    intro n3
    induction n3 with
    | zero =>
      intro v1 hf
      exact nn hf
    | succ n3 ih6 =>
      intro v1 hf H locs ls hP hD hS hl
      rw [M_lowestFrom_L2] at hf
      refine lv_aload_n hx hb dX2_lowestFrom_2 rfl (lv_at hl 0 rfl) ?_
      refine lv_iload_n hx hb dX2_lowestFrom_3 rfl (lv_at hl 1 rfl) ?_
      obtain ⟨r8, k9, hf⟩ := bd1s hf
      refine cVi (rest := []) X (met_M_reachOf k9) gw_X2_X2_reachOf dy_X2_reachOf ⟨⟨rfl, rfl⟩, Nat.le_of_ble_eq_true rfl, Nat.le_of_ble_eq_true rfl⟩ hP hD hS hl.1 rcM rfl rfl ⟨Nat.zero_le _, Nat.zero_le _⟩ (Nat.le_of_ble_eq_true rfl) dX2_lowestFrom_4 (fun H locs hP hD hS => ?_)
      refine lv_iload_n hx hb dX2_lowestFrom_7 rfl (lv_at hl 2 rfl) ?_
      obtain ⟨r10, k11, hf⟩ := bd1s hf
      refine cSi (rest := []) X (met_M_isWith (g := g) k11) gs_X2_X2_isWith dy_X2_isWith ⟨⟨rfl, rfl⟩, Nat.le_of_ble_eq_true rfl, Nat.le_of_ble_eq_true rfl⟩ hP hD hS hl.1 rfl rfl ⟨Nat.zero_le _, Nat.zero_le _⟩ (Nat.le_of_ble_eq_true rfl) dX2_lowestFrom_8 (fun H locs hP hD hS => ?_)
      refine bq_ne (tgt := 20) hx hb hf dX2_lowestFrom_11 (by decide) (fun hf => ?_) (fun hf => ?_)
      · cases hf
        exact hE4 _ _ _ hP hD hS (lv_sub hl [2] rfl)
      · obtain ⟨v12, ev12, hf⟩ := lts hf
        refine lv_iinc (v := v12) (lv' := [(2, .int v12), (0, .ref h), (1, .int x1)]) hx hb dX2_lowestFrom_14 hl (k := 2) rfl (by rw [ev12]; rfl) (by decide) rfl (fun ls hl => ?_)
        refine lv_goto (tgt := 2) hx hb dX2_lowestFrom_17 (by decide) ?_
        exact ih6 _ hf _ _ _ hP hD hS (lv_sub hl [1, 2, 0] rfl)
  exact hL5 _ _ k7 _ _ _ hP hD hS (lv_sub hl [1, 2, 0] rfl)
set_option maxHeartbeats 4000000 in
theorem met_M_spread {l : Launch} {g : gG} {h : Nat} {ad : Nat → Nat} {sTaped : Int32} {sFault : Int32} {sFaultP : Int32} {sAt : Int32} {sPlace : Int32} {sToken : Int32} {sNumber : Int32} {sWord : Int64} {sText0 : Int32} {sWritten : Int32} {sSort0 : Int32} {sPiled : Int32} {sOpens : Int32} {sWhole : Int32} {sOnce : Int32} {sIsW : Int32} {sDied : Int32} {cA : Nat → Int32} {cIm : Nat → Int32} {cTx : Nat → Int32} {cTp : Nat → Int32} {cPl : Nat → Int32} {cNm : Nat → Int32} {cVa : Nat → Int64} {cTr : Nat → Int32} {cAs : Nat → Int32} {cLi : Nat → Int32} {cSa : Nat → Int32} {cHd : Nat → Int32} {x1 : Int32} {x2 : Int32} {r : Int32} {φ : Nat} (hf : M_spread φ cA x1 x2 = some r) : CC l yX2_spread (ws_ yX2_spread cX2_spread 5 (some .int)) ({ frames := 1, cells := 0, slots := 0, locals := 21 } : Room) g [.ref h, .int x1, .int x2] (mW g h ad sTaped sFault sFaultP sAt sPlace sToken sNumber sWord sText0 sWritten sSort0 sPiled sOpens sWhole sOnce sIsW sDied cA cIm cTx cTp cPl cNm cVa cTr cAs cLi cSa cHd) (some (.int r)) (mW g h ad sTaped sFault sFaultP sAt sPlace sToken sNumber sWord sText0 sWritten sSort0 sPiled sOpens sWhole sOnce sIsW sDied cA cIm cTx cTp cPl cNm cVa cTr cAs cLi cSa cHd) 0 0 := by
  refine CC.of RX2 rfl plain_X2 (Nat.le_of_ble_eq_true rfl) (fun p e s m below meth c A ls X hP hD hS hl => ?_)
  have hx := X.1
  have hb := X.2.1
  have hown := X.2.2.2.2.2.1
  have hts := X.2.2.2.2.2.2.1
  have hl : lv_has ls 5 [(0, .ref h), (1, .int x1), (2, .int x2)] := hl
  unfold M_spread at hf
  refine lv_iload_n hx hb dX2_spread_0 rfl (lv_at hl 1 rfl) ?_
  refine lv_istore_n (lv' := [(3, .int x1), (0, .ref h), (1, .int x1), (2, .int x2)]) hx hb dX2_spread_1 rfl hl (by decide) rfl (fun ls hl => ?_)
  refine lv_iconst (v := 0) hx hb dX2_spread_2 (by decide) ?_
  refine lv_istore (lv' := [(4, .int 0), (3, .int x1), (0, .ref h), (1, .int x1), (2, .int x2)]) hx hb dX2_spread_3 hl (by decide) rfl (fun ls hl => ?_)
  obtain ⟨v3, k8, hf⟩ := bd1s hf
  have hE5 : ∀ (H : Heap) (locs : List Loc) (ls : Array Slot), va_P g.1 vwCl (mW g h ad sTaped sFault sFaultP sAt sPlace sToken sNumber sWord sText0 sWritten sSort0 sPiled sOpens sWhole sOnce sIsW sDied cA cIm cTx cTp cPl cNm cVa cTr cAs cLi cSa cHd) H → va_D A (mW g h ad sTaped sFault sFaultP sAt sPlace sToken sNumber sWord sText0 sWritten sSort0 sPiled sOpens sWhole sOnce sIsW sDied cA cIm cTx cTp cPl cNm cVa cTr cAs cLi cSa cHd) → va_S A s.heap H locs → lv_has ls 5 [(2, .int x2), (3, .int v3)] → W p l e ({ frames := 1, cells := 0, slots := 0, locals := 21 } : Room) s m ([.ref h, .int x1, .int x2] : List Value).toArray below meth c H locs 0 0 (MQ below (QQ g (some (.int r)) (mW g h ad sTaped sFault sFaultP sAt sPlace sToken sNumber sWord sText0 sWritten sSort0 sPiled sOpens sWhole sOnce sIsW sDied cA cIm cTx cTp cPl cNm cVa cTr cAs cLi cSa cHd) A) ([.ref h, .int x1, .int x2] : List Value).toArray s 0 0 A) (F0 m 44 ls []) := by
    intro H locs ls hP hD hS hl
    refine lv_iload_n hx hb dX2_spread_44 rfl (lv_at hl 1 rfl) ?_
    refine lv_iload_n hx hb dX2_spread_45 rfl (lv_at hl 0 rfl) ?_
    refine lv_iconst (v := (-1)) hx hb dX2_spread_46 (by decide) ?_
    refine lv_ixor hx hb dX2_spread_47 ?_
    refine lv_iand hx hb dX2_spread_48 ?_
    cases hf
    exact rI X hP hD hS dX2_spread_49
  have hL6 : ∀ (n4 : Nat) (v1 : Int32) (v2 : Int32), M_spread_L5 φ x1 x2 cA n4 v1 v2 = some v3 → ∀ (H : Heap) (locs : List Loc) (ls : Array Slot), va_P g.1 vwCl (mW g h ad sTaped sFault sFaultP sAt sPlace sToken sNumber sWord sText0 sWritten sSort0 sPiled sOpens sWhole sOnce sIsW sDied cA cIm cTx cTp cPl cNm cVa cTr cAs cLi cSa cHd) H → va_D A (mW g h ad sTaped sFault sFaultP sAt sPlace sToken sNumber sWord sText0 sWritten sSort0 sPiled sOpens sWhole sOnce sIsW sDied cA cIm cTx cTp cPl cNm cVa cTr cAs cLi cSa cHd) → va_S A s.heap H locs → lv_has ls 5 [(0, .ref h), (1, .int x1), (2, .int x2), (3, .int v1), (4, .int v2)] → W p l e ({ frames := 1, cells := 0, slots := 0, locals := 21 } : Room) s m ([.ref h, .int x1, .int x2] : List Value).toArray below meth c H locs 0 0 (MQ below (QQ g (some (.int r)) (mW g h ad sTaped sFault sFaultP sAt sPlace sToken sNumber sWord sText0 sWritten sSort0 sPiled sOpens sWhole sOnce sIsW sDied cA cIm cTx cTp cPl cNm cVa cTr cAs cLi cSa cHd) A) ([.ref h, .int x1, .int x2] : List Value).toArray s 0 0 A) (F0 m 5 ls []) := by
    intro n4
    induction n4 with
    | zero =>
      intro v1 v2 hf
      exact nn hf
    | succ n4 ih7 =>
      intro v1 v2 hf H locs ls hP hD hS hl
      rw [M_spread_L5] at hf
      refine lv_iload hx hb dX2_spread_5 (lv_at hl 4 rfl) ?_
      refine lv_aload_n hx hb dX2_spread_7 rfl (lv_at hl 0 rfl) ?_
      refine gM0 X hP dX2_spread_8 ?_
      refine lv_iconst (v := 0) hx hb dX2_spread_11 (by decide) ?_
      obtain ⟨v9, ev9, bv9, hf⟩ := rds hf
      refine lM_cA X hP ev9 bv9 dX2_spread_12 ?_
      refine bc_ge (tgt := 44) hx hb hf dX2_spread_13 (by decide) (fun hf => ?_) (fun hf => ?_)
      · cases hf
        exact hE5 _ _ _ hP hD hS (lv_sub hl [2, 3] rfl)
      · refine lv_iload_n hx hb dX2_spread_16 rfl (lv_at hl 1 rfl) ?_
        refine lv_iload hx hb dX2_spread_17 (lv_at hl 4 rfl) ?_
        obtain ⟨r10, k11, hf⟩ := bd1s hf
        refine cSi (rest := []) X (met_M_isWith (g := g) k11) gs_X2_X2_isWith dy_X2_isWith ⟨⟨rfl, rfl⟩, Nat.le_of_ble_eq_true rfl, Nat.le_of_ble_eq_true rfl⟩ hP hD hS hl.1 rfl rfl ⟨Nat.zero_le _, Nat.zero_le _⟩ (Nat.le_of_ble_eq_true rfl) dX2_spread_19 (fun H locs hP hD hS => ?_)
        refine bq_eq (tgt := 38) hx hb hf dX2_spread_22 (by decide) (fun hf => ?_) (fun hf => ?_)
        · obtain ⟨v12, ev12, hf⟩ := lts hf
          refine lv_iinc (v := v12) (lv' := [(4, .int v12), (0, .ref h), (1, .int x1), (2, .int x2), (3, .int v1)]) hx hb dX2_spread_38 hl (k := 4) rfl (by rw [ev12]; rfl) (by decide) rfl (fun ls hl => ?_)
          refine lv_goto (tgt := 5) hx hb dX2_spread_41 (by decide) ?_
          exact ih7 _ _ hf _ _ _ hP hD hS (lv_sub hl [1, 2, 3, 4, 0] rfl)
        · refine lv_iload_n hx hb dX2_spread_25 rfl (lv_at hl 3 rfl) ?_
          refine lv_aload_n hx hb dX2_spread_26 rfl (lv_at hl 0 rfl) ?_
          refine gM0 X hP dX2_spread_27 ?_
          refine lv_bipush (v := 88) hx hb dX2_spread_30 (by decide) ?_
          refine lv_iload hx hb dX2_spread_32 (lv_at hl 4 rfl) ?_
          refine lv_iadd hx hb dX2_spread_34 ?_
          obtain ⟨v13, ev13, bv13, hf⟩ := rds hf
          refine lM_cA X hP ev13 bv13 dX2_spread_35 ?_
          refine lv_ior hx hb dX2_spread_36 ?_
          obtain ⟨v14, ev14, hf⟩ := lts hf
          refine tpi ev14 ?_
          refine lv_istore_n (lv' := [(3, .int v14), (0, .ref h), (1, .int x1), (2, .int x2), (4, .int v2)]) hx hb dX2_spread_37 rfl hl (by decide) rfl (fun ls hl => ?_)
          obtain ⟨v15, ev15, hf⟩ := lts hf
          refine lv_iinc (v := v15) (lv' := [(4, .int v15), (3, .int v14), (0, .ref h), (1, .int x1), (2, .int x2)]) hx hb dX2_spread_38 hl (k := 4) rfl (by rw [ev15]; rfl) (by decide) rfl (fun ls hl => ?_)
          refine lv_goto (tgt := 5) hx hb dX2_spread_41 (by decide) ?_
          exact ih7 _ _ hf _ _ _ hP hD hS (lv_sub hl [2, 3, 4, 1, 0] rfl)
  exact hL6 _ _ _ k8 _ _ _ hP hD hS (lv_sub hl [2, 3, 4, 1, 0] rfl)
theorem gw_X2_X2_isLand : GoodIn lw_all (wsV RX2 75 RX2 yX2_isLand (ws_ yX2_isLand cX2_isLand 2 (some .boolean))) := lw_V q1502 q1504 qs64 q148 q1505
theorem dy_X2_isLand : Dy yX2_isLand RX2 1 := by decide +kernel
theorem gw_X2_X2_spread : GoodIn lw_all (wsV RX2 451 RX2 yX2_spread (ws_ yX2_spread cX2_spread 5 (some .int))) := lw_V q1977 q1979 qs139 q148 q1980
theorem dy_X2_spread : Dy yX2_spread RX2 2 := by decide +kernel
set_option maxHeartbeats 4000000 in
theorem met_M_unheard {l : Launch} {g : gG} {h : Nat} {ad : Nat → Nat} {sTaped : Int32} {sFault : Int32} {sFaultP : Int32} {sAt : Int32} {sPlace : Int32} {sToken : Int32} {sNumber : Int32} {sWord : Int64} {sText0 : Int32} {sWritten : Int32} {sSort0 : Int32} {sPiled : Int32} {sOpens : Int32} {sWhole : Int32} {sOnce : Int32} {sIsW : Int32} {sDied : Int32} {cA : Nat → Int32} {cIm : Nat → Int32} {cTx : Nat → Int32} {cTp : Nat → Int32} {cPl : Nat → Int32} {cNm : Nat → Int32} {cVa : Nat → Int64} {cTr : Nat → Int32} {cAs : Nat → Int32} {cLi : Nat → Int32} {cSa : Nat → Int32} {cHd : Nat → Int32} {x1 : Int32} {x2 : Int32} {r : Int32} {φ : Nat} (hf : M_unheard φ cA x1 x2 = some r) : CC l yX2_unheard (ws_ yX2_unheard cX2_unheard 5 (some .int)) ({ frames := 2, cells := 0, slots := 0, locals := 45 } : Room) g [.ref h, .int x1, .int x2] (mW g h ad sTaped sFault sFaultP sAt sPlace sToken sNumber sWord sText0 sWritten sSort0 sPiled sOpens sWhole sOnce sIsW sDied cA cIm cTx cTp cPl cNm cVa cTr cAs cLi cSa cHd) (some (.int r)) (mW g h ad sTaped sFault sFaultP sAt sPlace sToken sNumber sWord sText0 sWritten sSort0 sPiled sOpens sWhole sOnce sIsW sDied cA cIm cTx cTp cPl cNm cVa cTr cAs cLi cSa cHd) 0 0 := by
  refine CC.of RX2 rfl plain_X2 (Nat.le_of_ble_eq_true rfl) (fun p e s m below meth c A ls X hP hD hS hl => ?_)
  have hx := X.1
  have hb := X.2.1
  have hown := X.2.2.2.2.2.1
  have hts := X.2.2.2.2.2.2.1
  have hl : lv_has ls 5 [(0, .ref h), (1, .int x1), (2, .int x2)] := hl
  unfold M_unheard at hf
  refine lv_aload_n hx hb dX2_unheard_0 rfl (lv_at hl 0 rfl) ?_
  refine lv_iload_n hx hb dX2_unheard_1 rfl (lv_at hl 1 rfl) ?_
  obtain ⟨r1, k2, hf⟩ := bd1s hf
  refine cVi (rest := []) X (met_M_isLand k2) gw_X2_X2_isLand dy_X2_isLand ⟨⟨rfl, rfl⟩, Nat.le_of_ble_eq_true rfl, Nat.le_of_ble_eq_true rfl⟩ hP hD hS hl.1 rcM rfl rfl ⟨Nat.zero_le _, Nat.zero_le _⟩ (Nat.le_of_ble_eq_true rfl) dX2_unheard_2 (fun H locs hP hD hS => ?_)
  refine bq_eq (tgt := 18) hx hb hf dX2_unheard_5 (by decide) (fun hf => ?_) (fun hf => ?_)
  · refine lv_iconst (v := (-1)) hx hb dX2_unheard_18 (by decide) ?_
    cases hf
    exact rI X hP hD hS dX2_unheard_19
  · refine lv_iload_n hx hb dX2_unheard_8 rfl (lv_at hl 2 rfl) ?_
    refine lv_iconst (v := 0) hx hb dX2_unheard_9 (by decide) ?_
    refine lv_bipush (v := 9) hx hb dX2_unheard_10 (by decide) ?_
    obtain ⟨r3, k4, hf⟩ := bd1s hf
    refine cSi (rest := []) X (met_M_isIn (g := g) k4) gs_X2_X2_isIn dy_X2_isIn ⟨⟨rfl, rfl⟩, Nat.le_of_ble_eq_true rfl, Nat.le_of_ble_eq_true rfl⟩ hP hD hS hl.1 rfl rfl ⟨Nat.zero_le _, Nat.zero_le _⟩ (Nat.le_of_ble_eq_true rfl) dX2_unheard_12 (fun H locs hP hD hS => ?_)
    refine bq_ne (tgt := 20) hx hb hf dX2_unheard_15 (by decide) (fun hf => ?_) (fun hf => ?_)
    · refine lv_iconst (v := 1) hx hb dX2_unheard_20 (by decide) ?_
      refine lv_iload_n hx hb dX2_unheard_21 rfl (lv_at hl 1 rfl) ?_
      refine lv_ishl hx hb dX2_unheard_22 ?_
      obtain ⟨v5, ev5, hf⟩ := lts hf
      refine tpi ev5 ?_
      refine lv_istore_n (lv' := [(3, .int v5), (0, .ref h), (1, .int x1), (2, .int x2)]) hx hb dX2_unheard_23 rfl hl (by decide) rfl (fun ls hl => ?_)
      refine lv_iconst (v := 0) hx hb dX2_unheard_24 (by decide) ?_
      refine lv_istore (lv' := [(4, .int 0), (3, .int v5), (0, .ref h), (1, .int x1), (2, .int x2)]) hx hb dX2_unheard_25 hl (by decide) rfl (fun ls hl => ?_)
      obtain ⟨v8, k13, hf⟩ := bd1s hf
      have hE10 : ∀ (H : Heap) (locs : List Loc) (ls : Array Slot), va_P g.1 vwCl (mW g h ad sTaped sFault sFaultP sAt sPlace sToken sNumber sWord sText0 sWritten sSort0 sPiled sOpens sWhole sOnce sIsW sDied cA cIm cTx cTp cPl cNm cVa cTr cAs cLi cSa cHd) H → va_D A (mW g h ad sTaped sFault sFaultP sAt sPlace sToken sNumber sWord sText0 sWritten sSort0 sPiled sOpens sWhole sOnce sIsW sDied cA cIm cTx cTp cPl cNm cVa cTr cAs cLi cSa cHd) → va_S A s.heap H locs → lv_has ls 5 [(0, .ref h), (3, .int v8)] → W p l e ({ frames := 2, cells := 0, slots := 0, locals := 45 } : Room) s m ([.ref h, .int x1, .int x2] : List Value).toArray below meth c H locs 0 0 (MQ below (QQ g (some (.int r)) (mW g h ad sTaped sFault sFaultP sAt sPlace sToken sNumber sWord sText0 sWritten sSort0 sPiled sOpens sWhole sOnce sIsW sDied cA cIm cTx cTp cPl cNm cVa cTr cAs cLi cSa cHd) A) ([.ref h, .int x1, .int x2] : List Value).toArray s 0 0 A) (F0 m 46 ls []) := by
        intro H locs ls hP hD hS hl
        refine lv_iconst (v := 1) hx hb dX2_unheard_46 (by decide) ?_
        refine lv_aload_n hx hb dX2_unheard_47 rfl (lv_at hl 0 rfl) ?_
        refine gM0 X hP dX2_unheard_48 ?_
        refine lv_iconst (v := 0) hx hb dX2_unheard_51 (by decide) ?_
        obtain ⟨v14, ev14, bv14, hf⟩ := rds hf
        refine lM_cA X hP ev14 bv14 dX2_unheard_52 ?_
        refine lv_ishl hx hb dX2_unheard_53 ?_
        refine lv_iconst (v := 1) hx hb dX2_unheard_54 (by decide) ?_
        refine lv_isub hx hb dX2_unheard_55 ?_
        refine lv_iload_n hx hb dX2_unheard_56 rfl (lv_at hl 1 rfl) ?_
        refine lv_iconst (v := (-1)) hx hb dX2_unheard_57 (by decide) ?_
        refine lv_ixor hx hb dX2_unheard_58 ?_
        refine lv_iand hx hb dX2_unheard_59 ?_
        cases hf
        exact rI X hP hD hS dX2_unheard_60
      have hL11 : ∀ (n9 : Nat) (v6 : Int32) (v7 : Int32), M_unheard_L27 φ x2 cA n9 v6 v7 = some v8 → ∀ (H : Heap) (locs : List Loc) (ls : Array Slot), va_P g.1 vwCl (mW g h ad sTaped sFault sFaultP sAt sPlace sToken sNumber sWord sText0 sWritten sSort0 sPiled sOpens sWhole sOnce sIsW sDied cA cIm cTx cTp cPl cNm cVa cTr cAs cLi cSa cHd) H → va_D A (mW g h ad sTaped sFault sFaultP sAt sPlace sToken sNumber sWord sText0 sWritten sSort0 sPiled sOpens sWhole sOnce sIsW sDied cA cIm cTx cTp cPl cNm cVa cTr cAs cLi cSa cHd) → va_S A s.heap H locs → lv_has ls 5 [(0, .ref h), (2, .int x2), (3, .int v6), (4, .int v7)] → W p l e ({ frames := 2, cells := 0, slots := 0, locals := 45 } : Room) s m ([.ref h, .int x1, .int x2] : List Value).toArray below meth c H locs 0 0 (MQ below (QQ g (some (.int r)) (mW g h ad sTaped sFault sFaultP sAt sPlace sToken sNumber sWord sText0 sWritten sSort0 sPiled sOpens sWhole sOnce sIsW sDied cA cIm cTx cTp cPl cNm cVa cTr cAs cLi cSa cHd) A) ([.ref h, .int x1, .int x2] : List Value).toArray s 0 0 A) (F0 m 27 ls []) := by
        intro n9
        induction n9 with
        | zero =>
          intro v6 v7 hf
          exact nn hf
        | succ n9 ih12 =>
          intro v6 v7 hf H locs ls hP hD hS hl
          rw [M_unheard_L27] at hf
          refine lv_iload hx hb dX2_unheard_27 (lv_at hl 3 rfl) ?_
          refine lv_iload_n hx hb dX2_unheard_29 rfl (lv_at hl 1 rfl) ?_
          refine bc_ge (tgt := 46) hx hb hf dX2_unheard_30 (by decide) (fun hf => ?_) (fun hf => ?_)
          · cases hf
            exact hE10 _ _ _ hP hD hS (lv_sub hl [0, 2] rfl)
          · refine lv_aload_n hx hb dX2_unheard_33 rfl (lv_at hl 0 rfl) ?_
            refine lv_iload_n hx hb dX2_unheard_34 rfl (lv_at hl 2 rfl) ?_
            refine lv_iconst (v := 0) hx hb dX2_unheard_35 (by decide) ?_
            obtain ⟨r15, k16, hf⟩ := bd1s hf
            refine cVi (rest := []) X (met_M_spread k16) gw_X2_X2_spread dy_X2_spread ⟨⟨rfl, rfl⟩, Nat.le_of_ble_eq_true rfl, Nat.le_of_ble_eq_true rfl⟩ hP hD hS hl.1 rcM rfl rfl ⟨Nat.zero_le _, Nat.zero_le _⟩ (Nat.le_of_ble_eq_true rfl) dX2_unheard_36 (fun H locs hP hD hS => ?_)
            refine lv_istore_n (lv' := [(3, .int r15), (0, .ref h), (2, .int x2), (4, .int v7)]) hx hb dX2_unheard_39 rfl hl (by decide) rfl (fun ls hl => ?_)
            obtain ⟨v17, ev17, hf⟩ := lts hf
            refine lv_iinc (v := v17) (lv' := [(4, .int v17), (3, .int r15), (0, .ref h), (2, .int x2)]) hx hb dX2_unheard_40 hl (k := 3) rfl (by rw [ev17]; rfl) (by decide) rfl (fun ls hl => ?_)
            refine lv_goto (tgt := 27) hx hb dX2_unheard_43 (by decide) ?_
            exact ih12 _ _ hf _ _ _ hP hD hS (lv_sub hl [2, 3, 1, 0] rfl)
      exact hL11 _ _ _ k13 _ _ _ hP hD hS (lv_sub hl [2, 4, 1, 0] rfl)
    · refine lv_iconst (v := (-1)) hx hb dX2_unheard_18 (by decide) ?_
      cases hf
      exact rI X hP hD hS dX2_unheard_19
set_option maxHeartbeats 4000000 in
theorem met_M_borders {l : Launch} {g : gG} {h : Nat} {ad : Nat → Nat} {sTaped : Int32} {sFault : Int32} {sFaultP : Int32} {sAt : Int32} {sPlace : Int32} {sToken : Int32} {sNumber : Int32} {sWord : Int64} {sText0 : Int32} {sWritten : Int32} {sSort0 : Int32} {sPiled : Int32} {sOpens : Int32} {sWhole : Int32} {sOnce : Int32} {sIsW : Int32} {sDied : Int32} {cA : Nat → Int32} {cIm : Nat → Int32} {cTx : Nat → Int32} {cTp : Nat → Int32} {cPl : Nat → Int32} {cNm : Nat → Int32} {cVa : Nat → Int64} {cTr : Nat → Int32} {cAs : Nat → Int32} {cLi : Nat → Int32} {cSa : Nat → Int32} {cHd : Nat → Int32} {x1 : Int32} {r : Int32} {ncA : Nat → Int32} (hf : M_borders cA x1 = some (r, ncA)) : CC l yX2_borders (ws_ yX2_borders cX2_borders 2 (some .boolean)) ({ frames := 1, cells := 0, slots := 0, locals := 22 } : Room) g [.ref h, .int x1] (mW g h ad sTaped sFault sFaultP sAt sPlace sToken sNumber sWord sText0 sWritten sSort0 sPiled sOpens sWhole sOnce sIsW sDied cA cIm cTx cTp cPl cNm cVa cTr cAs cLi cSa cHd) (some (.int r)) (mW g h ad sTaped sFault sFaultP sAt sPlace sToken sNumber sWord sText0 sWritten sSort0 sPiled sOpens sWhole sOnce sIsW sDied ncA cIm cTx cTp cPl cNm cVa cTr cAs cLi cSa cHd) 0 0 := by
  refine CC.of RX2 rfl plain_X2 (Nat.le_of_ble_eq_true rfl) (fun p e s m below meth c A ls X hP hD hS hl => ?_)
  have hx := X.1
  have hb := X.2.1
  have hown := X.2.2.2.2.2.1
  have hts := X.2.2.2.2.2.2.1
  have hl : lv_has ls 2 [(0, .ref h), (1, .int x1)] := hl
  unfold M_borders at hf
  refine lv_iload_n hx hb dX2_borders_0 rfl (lv_at hl 1 rfl) ?_
  refine lv_iconst (v := 0) hx hb dX2_borders_1 (by decide) ?_
  refine lv_sipush (v := 255) hx hb dX2_borders_2 (by decide) ?_
  obtain ⟨r1, k2, hf⟩ := bd1s hf
  refine cSi (rest := []) X (met_M_isIn (g := g) k2) gs_X2_X2_isIn dy_X2_isIn ⟨⟨rfl, rfl⟩, Nat.le_of_ble_eq_true rfl, Nat.le_of_ble_eq_true rfl⟩ hP hD hS hl.1 rfl rfl ⟨Nat.zero_le _, Nat.zero_le _⟩ (Nat.le_of_ble_eq_true rfl) dX2_borders_5 (fun H locs hP hD hS => ?_)
  refine bq_ne (tgt := 13) hx hb hf dX2_borders_8 (by decide) (fun hf => ?_) (fun hf => ?_)
  · refine lv_aload_n hx hb dX2_borders_13 rfl (lv_at hl 0 rfl) ?_
    refine gM0 X hP dX2_borders_14 ?_
    refine lv_bipush (v := 9) hx hb dX2_borders_17 (by decide) ?_
    refine lv_iload_n hx hb dX2_borders_19 rfl (lv_at hl 1 rfl) ?_
    obtain ⟨c3, ec3, bc3, hf⟩ := wrs hf
    refine sM_cA X hP hD hS ec3 bc3 dX2_borders_20 (fun H locs hP hD hS => ?_)
    refine lv_iconst (v := 1) hx hb dX2_borders_21 (by decide) ?_
    cases hf
    exact rZ X rfl hP hD hS dX2_borders_22
  · refine lv_iconst (v := 0) hx hb dX2_borders_11 (by decide) ?_
    cases hf
    exact rZ X rfl hP hD hS dX2_borders_12
set_option maxHeartbeats 4000000 in
theorem met_M_toBorder {l : Launch} {g : gG} {h : Nat} {ad : Nat → Nat} {sTaped : Int32} {sFault : Int32} {sFaultP : Int32} {sAt : Int32} {sPlace : Int32} {sToken : Int32} {sNumber : Int32} {sWord : Int64} {sText0 : Int32} {sWritten : Int32} {sSort0 : Int32} {sPiled : Int32} {sOpens : Int32} {sWhole : Int32} {sOnce : Int32} {sIsW : Int32} {sDied : Int32} {cA : Nat → Int32} {cIm : Nat → Int32} {cTx : Nat → Int32} {cTp : Nat → Int32} {cPl : Nat → Int32} {cNm : Nat → Int32} {cVa : Nat → Int64} {cTr : Nat → Int32} {cAs : Nat → Int32} {cLi : Nat → Int32} {cSa : Nat → Int32} {cHd : Nat → Int32} {x1 : Int32} {r : Int32} {φ : Nat} (hf : M_toBorder φ cA x1 = some r) : CC l yX2_toBorder (ws_ yX2_toBorder cX2_toBorder 4 (some .int)) ({ frames := 2, cells := 0, slots := 0, locals := 45 } : Room) g [.ref h, .int x1] (mW g h ad sTaped sFault sFaultP sAt sPlace sToken sNumber sWord sText0 sWritten sSort0 sPiled sOpens sWhole sOnce sIsW sDied cA cIm cTx cTp cPl cNm cVa cTr cAs cLi cSa cHd) (some (.int r)) (mW g h ad sTaped sFault sFaultP sAt sPlace sToken sNumber sWord sText0 sWritten sSort0 sPiled sOpens sWhole sOnce sIsW sDied cA cIm cTx cTp cPl cNm cVa cTr cAs cLi cSa cHd) 0 0 := by
  refine CC.of RX2 rfl plain_X2 (Nat.le_of_ble_eq_true rfl) (fun p e s m below meth c A ls X hP hD hS hl => ?_)
  have hx := X.1
  have hb := X.2.1
  have hown := X.2.2.2.2.2.1
  have hts := X.2.2.2.2.2.2.1
  have hl : lv_has ls 4 [(0, .ref h), (1, .int x1)] := hl
  unfold M_toBorder at hf
  refine lv_aload_n hx hb dX2_toBorder_0 rfl (lv_at hl 0 rfl) ?_
  refine lv_iload_n hx hb dX2_toBorder_1 rfl (lv_at hl 1 rfl) ?_
  obtain ⟨r1, k2, hf⟩ := bd1s hf
  refine cVi (rest := []) X (met_M_isLand k2) gw_X2_X2_isLand dy_X2_isLand ⟨⟨rfl, rfl⟩, Nat.le_of_ble_eq_true rfl, Nat.le_of_ble_eq_true rfl⟩ hP hD hS hl.1 rcM rfl rfl ⟨Nat.zero_le _, Nat.zero_le _⟩ (Nat.le_of_ble_eq_true rfl) dX2_toBorder_2 (fun H locs hP hD hS => ?_)
  refine bq_ne (tgt := 10) hx hb hf dX2_toBorder_5 (by decide) (fun hf => ?_) (fun hf => ?_)
  · refine lv_iconst (v := 1) hx hb dX2_toBorder_10 (by decide) ?_
    refine lv_iload_n hx hb dX2_toBorder_11 rfl (lv_at hl 1 rfl) ?_
    refine lv_ishl hx hb dX2_toBorder_12 ?_
    obtain ⟨v3, ev3, hf⟩ := lts hf
    refine tpi ev3 ?_
    refine lv_istore_n (lv' := [(2, .int v3), (0, .ref h), (1, .int x1)]) hx hb dX2_toBorder_13 rfl hl (by decide) rfl (fun ls hl => ?_)
    refine lv_iconst (v := 0) hx hb dX2_toBorder_14 (by decide) ?_
    refine lv_istore_n (lv' := [(3, .int 0), (2, .int v3), (0, .ref h), (1, .int x1)]) hx hb dX2_toBorder_15 rfl hl (by decide) rfl (fun ls hl => ?_)
    have hL8 : ∀ (n6 : Nat) (v4 : Int32) (v5 : Int32), M_toBorder_L16 φ cA n6 v4 v5 = some r → ∀ (H : Heap) (locs : List Loc) (ls : Array Slot), va_P g.1 vwCl (mW g h ad sTaped sFault sFaultP sAt sPlace sToken sNumber sWord sText0 sWritten sSort0 sPiled sOpens sWhole sOnce sIsW sDied cA cIm cTx cTp cPl cNm cVa cTr cAs cLi cSa cHd) H → va_D A (mW g h ad sTaped sFault sFaultP sAt sPlace sToken sNumber sWord sText0 sWritten sSort0 sPiled sOpens sWhole sOnce sIsW sDied cA cIm cTx cTp cPl cNm cVa cTr cAs cLi cSa cHd) → va_S A s.heap H locs → lv_has ls 4 [(0, .ref h), (2, .int v4), (3, .int v5)] → W p l e ({ frames := 2, cells := 0, slots := 0, locals := 45 } : Room) s m ([.ref h, .int x1] : List Value).toArray below meth c H locs 0 0 (MQ below (QQ g (some (.int r)) (mW g h ad sTaped sFault sFaultP sAt sPlace sToken sNumber sWord sText0 sWritten sSort0 sPiled sOpens sWhole sOnce sIsW sDied cA cIm cTx cTp cPl cNm cVa cTr cAs cLi cSa cHd) A) ([.ref h, .int x1] : List Value).toArray s 0 0 A) (F0 m 16 ls []) := by
      intro n6
      induction n6 with
      | zero =>
        intro v4 v5 hf
        exact nn hf
      | succ n6 ih9 =>
        intro v4 v5 hf H locs ls hP hD hS hl
        rw [M_toBorder_L16] at hf
        refine lv_iload_n hx hb dX2_toBorder_16 rfl (lv_at hl 2 rfl) ?_
        refine lv_bipush (v := 8) hx hb dX2_toBorder_17 (by decide) ?_
        refine bc_ge (tgt := 49) hx hb hf dX2_toBorder_19 (by decide) (fun hf => ?_) (fun hf => ?_)
        · refine lv_iconst (v := (-1)) hx hb dX2_toBorder_49 (by decide) ?_
          cases hf
          exact rI X hP hD hS dX2_toBorder_50
        · refine lv_iload_n hx hb dX2_toBorder_22 rfl (lv_at hl 1 rfl) ?_
          refine lv_aload_n hx hb dX2_toBorder_23 rfl (lv_at hl 0 rfl) ?_
          refine gM0 X hP dX2_toBorder_24 ?_
          refine lv_bipush (v := 9) hx hb dX2_toBorder_27 (by decide) ?_
          obtain ⟨v11, ev11, bv11, hf⟩ := rds hf
          refine lM_cA X hP ev11 bv11 dX2_toBorder_29 ?_
          refine lv_iand hx hb dX2_toBorder_30 ?_
          refine bq_eq (tgt := 36) hx hb hf dX2_toBorder_31 (by decide) (fun hf => ?_) (fun hf => ?_)
          · refine lv_aload_n hx hb dX2_toBorder_36 rfl (lv_at hl 0 rfl) ?_
            refine lv_iload_n hx hb dX2_toBorder_37 rfl (lv_at hl 1 rfl) ?_
            refine lv_iconst (v := 0) hx hb dX2_toBorder_38 (by decide) ?_
            obtain ⟨r12, k13, hf⟩ := bd1s hf
            refine cVi (rest := []) X (met_M_spread k13) gw_X2_X2_spread dy_X2_spread ⟨⟨rfl, rfl⟩, Nat.le_of_ble_eq_true rfl, Nat.le_of_ble_eq_true rfl⟩ hP hD hS hl.1 rcM rfl rfl ⟨Nat.zero_le _, Nat.zero_le _⟩ (Nat.le_of_ble_eq_true rfl) dX2_toBorder_39 (fun H locs hP hD hS => ?_)
            refine lv_istore_n (lv' := [(2, .int r12), (0, .ref h), (3, .int v5)]) hx hb dX2_toBorder_42 rfl hl (by decide) rfl (fun ls hl => ?_)
            obtain ⟨v14, ev14, hf⟩ := lts hf
            refine lv_iinc (v := v14) (lv' := [(3, .int v14), (2, .int r12), (0, .ref h)]) hx hb dX2_toBorder_43 hl (k := 2) rfl (by rw [ev14]; rfl) (by decide) rfl (fun ls hl => ?_)
            refine lv_goto (tgt := 16) hx hb dX2_toBorder_46 (by decide) ?_
            exact ih9 _ _ hf _ _ _ hP hD hS (lv_sub hl [2, 1, 0] rfl)
          · refine lv_iload_n hx hb dX2_toBorder_34 rfl (lv_at hl 2 rfl) ?_
            cases hf
            exact rI X hP hD hS dX2_toBorder_35
    exact hL8 _ _ _ hf _ _ _ hP hD hS (lv_sub hl [2, 1, 0] rfl)
  · refine lv_iconst (v := (-1)) hx hb dX2_toBorder_8 (by decide) ?_
    cases hf
    exact rI X hP hD hS dX2_toBorder_9
set_option maxHeartbeats 4000000 in
theorem met_M_helpers {l : Launch} {g : gG} {h : Nat} {ad : Nat → Nat} {sTaped : Int32} {sFault : Int32} {sFaultP : Int32} {sAt : Int32} {sPlace : Int32} {sToken : Int32} {sNumber : Int32} {sWord : Int64} {sText0 : Int32} {sWritten : Int32} {sSort0 : Int32} {sPiled : Int32} {sOpens : Int32} {sWhole : Int32} {sOnce : Int32} {sIsW : Int32} {sDied : Int32} {cA : Nat → Int32} {cIm : Nat → Int32} {cTx : Nat → Int32} {cTp : Nat → Int32} {cPl : Nat → Int32} {cNm : Nat → Int32} {cVa : Nat → Int64} {cTr : Nat → Int32} {cAs : Nat → Int32} {cLi : Nat → Int32} {cSa : Nat → Int32} {cHd : Nat → Int32} {r : Int32} {φ : Nat} (hf : M_helpers φ cA = some r) : CC l yX2_helpers (ws_ yX2_helpers cX2_helpers 4 (some .int)) ({ frames := 2, cells := 0, slots := 0, locals := 45 } : Room) g [.ref h] (mW g h ad sTaped sFault sFaultP sAt sPlace sToken sNumber sWord sText0 sWritten sSort0 sPiled sOpens sWhole sOnce sIsW sDied cA cIm cTx cTp cPl cNm cVa cTr cAs cLi cSa cHd) (some (.int r)) (mW g h ad sTaped sFault sFaultP sAt sPlace sToken sNumber sWord sText0 sWritten sSort0 sPiled sOpens sWhole sOnce sIsW sDied cA cIm cTx cTp cPl cNm cVa cTr cAs cLi cSa cHd) 0 0 := by
  refine CC.of RX2 rfl plain_X2 (Nat.le_of_ble_eq_true rfl) (fun p e s m below meth c A ls X hP hD hS hl => ?_)
  have hx := X.1
  have hb := X.2.1
  have hown := X.2.2.2.2.2.1
  have hts := X.2.2.2.2.2.2.1
  have hl : lv_has ls 4 [(0, .ref h)] := hl
  unfold M_helpers at hf
  refine lv_iconst (v := 1) hx hb dX2_helpers_0 (by decide) ?_
  refine lv_aload_n hx hb dX2_helpers_1 rfl (lv_at hl 0 rfl) ?_
  refine gM0 X hP dX2_helpers_2 ?_
  refine lv_iconst (v := 0) hx hb dX2_helpers_5 (by decide) ?_
  obtain ⟨v1, ev1, bv1, hf⟩ := rds hf
  refine lM_cA X hP ev1 bv1 dX2_helpers_6 ?_
  refine lv_ishl hx hb dX2_helpers_7 ?_
  refine lv_iconst (v := 1) hx hb dX2_helpers_8 (by decide) ?_
  refine lv_isub hx hb dX2_helpers_9 ?_
  obtain ⟨v2, ev2, hf⟩ := lts hf
  refine tpi ev2 ?_
  refine lv_istore_n (lv' := [(1, .int v2), (0, .ref h)]) hx hb dX2_helpers_10 rfl hl (by decide) rfl (fun ls hl => ?_)
  refine lv_iload_n hx hb dX2_helpers_11 rfl (lv_at hl 0 rfl) ?_
  refine lv_istore_n (lv' := [(2, .int v2), (1, .int v2), (0, .ref h)]) hx hb dX2_helpers_12 rfl hl (by decide) rfl (fun ls hl => ?_)
  refine lv_iload_n hx hb dX2_helpers_13 rfl (lv_at hl 1 rfl) ?_
  refine lv_istore_n (lv' := [(3, .int v2), (2, .int v2), (1, .int v2), (0, .ref h)]) hx hb dX2_helpers_14 rfl hl (by decide) rfl (fun ls hl => ?_)
  obtain ⟨v5, k10, hf⟩ := bd1s hf
  have hE7 : ∀ (H : Heap) (locs : List Loc) (ls : Array Slot), va_P g.1 vwCl (mW g h ad sTaped sFault sFaultP sAt sPlace sToken sNumber sWord sText0 sWritten sSort0 sPiled sOpens sWhole sOnce sIsW sDied cA cIm cTx cTp cPl cNm cVa cTr cAs cLi cSa cHd) H → va_D A (mW g h ad sTaped sFault sFaultP sAt sPlace sToken sNumber sWord sText0 sWritten sSort0 sPiled sOpens sWhole sOnce sIsW sDied cA cIm cTx cTp cPl cNm cVa cTr cAs cLi cSa cHd) → va_S A s.heap H locs → lv_has ls 4 [(2, .int v5)] → W p l e ({ frames := 2, cells := 0, slots := 0, locals := 45 } : Room) s m ([.ref h] : List Value).toArray below meth c H locs 0 0 (MQ below (QQ g (some (.int r)) (mW g h ad sTaped sFault sFaultP sAt sPlace sToken sNumber sWord sText0 sWritten sSort0 sPiled sOpens sWhole sOnce sIsW sDied cA cIm cTx cTp cPl cNm cVa cTr cAs cLi cSa cHd) A) ([.ref h] : List Value).toArray s 0 0 A) (F0 m 50 ls []) := by
    intro H locs ls hP hD hS hl
    refine lv_iload_n hx hb dX2_helpers_50 rfl (lv_at hl 0 rfl) ?_
    cases hf
    exact rI X hP hD hS dX2_helpers_51
  have hL8 : ∀ (n6 : Nat) (v3 : Int32) (v4 : Int32), M_helpers_L15 φ v2 cA n6 v3 v4 = some v5 → ∀ (H : Heap) (locs : List Loc) (ls : Array Slot), va_P g.1 vwCl (mW g h ad sTaped sFault sFaultP sAt sPlace sToken sNumber sWord sText0 sWritten sSort0 sPiled sOpens sWhole sOnce sIsW sDied cA cIm cTx cTp cPl cNm cVa cTr cAs cLi cSa cHd) H → va_D A (mW g h ad sTaped sFault sFaultP sAt sPlace sToken sNumber sWord sText0 sWritten sSort0 sPiled sOpens sWhole sOnce sIsW sDied cA cIm cTx cTp cPl cNm cVa cTr cAs cLi cSa cHd) → va_S A s.heap H locs → lv_has ls 4 [(0, .ref h), (1, .int v2), (2, .int v3), (3, .int v4)] → W p l e ({ frames := 2, cells := 0, slots := 0, locals := 45 } : Room) s m ([.ref h] : List Value).toArray below meth c H locs 0 0 (MQ below (QQ g (some (.int r)) (mW g h ad sTaped sFault sFaultP sAt sPlace sToken sNumber sWord sText0 sWritten sSort0 sPiled sOpens sWhole sOnce sIsW sDied cA cIm cTx cTp cPl cNm cVa cTr cAs cLi cSa cHd) A) ([.ref h] : List Value).toArray s 0 0 A) (F0 m 15 ls []) := by
    intro n6
    induction n6 with
    | zero =>
      intro v3 v4 hf
      exact nn hf
    | succ n6 ih9 =>
      intro v3 v4 hf H locs ls hP hD hS hl
      rw [M_helpers_L15] at hf
      refine lv_iload_n hx hb dX2_helpers_15 rfl (lv_at hl 3 rfl) ?_
      refine bq_lt (tgt := 50) hx hb hf dX2_helpers_16 (by decide) (fun hf => ?_) (fun hf => ?_)
      · cases hf
        exact hE7 _ _ _ hP hD hS (lv_sub hl [2] rfl)
      · refine lv_iload_n hx hb dX2_helpers_19 rfl (lv_at hl 3 rfl) ?_
        refine lv_i2l hx hb dX2_helpers_20 rfl ?_
        obtain ⟨r11, k12, hf⟩ := bd1s hf
        refine cSi (rest := []) X (met_M_bits (g := g) k12) gs_X2_X2_bits dy_X2_bits ⟨⟨rfl, rfl⟩, Nat.le_of_ble_eq_true rfl, Nat.le_of_ble_eq_true rfl⟩ hP hD hS hl.1 rfl rfl ⟨Nat.zero_le _, Nat.zero_le _⟩ (Nat.le_of_ble_eq_true rfl) dX2_helpers_21 (fun H locs hP hD hS => ?_)
        refine lv_iload_n hx hb dX2_helpers_24 rfl (lv_at hl 2 rfl) ?_
        refine lv_i2l hx hb dX2_helpers_25 rfl ?_
        obtain ⟨r13, k14, hf⟩ := bd1s hf
        refine cSi (rest := [.int r11]) X (met_M_bits (g := g) k14) gs_X2_X2_bits dy_X2_bits ⟨⟨rfl, rfl⟩, Nat.le_of_ble_eq_true rfl, Nat.le_of_ble_eq_true rfl⟩ hP hD hS hl.1 rfl rfl ⟨Nat.zero_le _, Nat.zero_le _⟩ (Nat.le_of_ble_eq_true rfl) dX2_helpers_26 (fun H locs hP hD hS => ?_)
        refine bc_gt (tgt := 44) hx hb hf dX2_helpers_29 (by decide) (fun hf => ?_) (fun hf => ?_)
        · obtain ⟨v15, ev15, hf⟩ := lts hf
          refine lv_iinc (v := v15) (lv' := [(3, .int v15), (0, .ref h), (1, .int v2), (2, .int v3)]) hx hb dX2_helpers_44 hl (k := 3) rfl (by rw [ev15]; rfl) (by decide) rfl (fun ls hl => ?_)
          refine lv_goto (tgt := 15) hx hb dX2_helpers_47 (by decide) ?_
          exact ih9 _ _ hf _ _ _ hP hD hS (lv_sub hl [1, 2, 3, 0] rfl)
        · refine lv_aload_n hx hb dX2_helpers_32 rfl (lv_at hl 0 rfl) ?_
          refine lv_iload_n hx hb dX2_helpers_33 rfl (lv_at hl 3 rfl) ?_
          refine lv_iconst (v := 0) hx hb dX2_helpers_34 (by decide) ?_
          obtain ⟨r16, k17, hf⟩ := bd1s hf
          refine cVi (rest := []) X (met_M_spread k17) gw_X2_X2_spread dy_X2_spread ⟨⟨rfl, rfl⟩, Nat.le_of_ble_eq_true rfl, Nat.le_of_ble_eq_true rfl⟩ hP hD hS hl.1 rcM rfl rfl ⟨Nat.zero_le _, Nat.zero_le _⟩ (Nat.le_of_ble_eq_true rfl) dX2_helpers_35 (fun H locs hP hD hS => ?_)
          refine lv_iload_n hx hb dX2_helpers_38 rfl (lv_at hl 1 rfl) ?_
          refine bc_ne (tgt := 44) hx hb hf dX2_helpers_39 (by decide) (fun hf => ?_) (fun hf => ?_)
          · obtain ⟨v18, ev18, hf⟩ := lts hf
            refine lv_iinc (v := v18) (lv' := [(3, .int v18), (0, .ref h), (1, .int v2), (2, .int v3)]) hx hb dX2_helpers_44 hl (k := 3) rfl (by rw [ev18]; rfl) (by decide) rfl (fun ls hl => ?_)
            refine lv_goto (tgt := 15) hx hb dX2_helpers_47 (by decide) ?_
            exact ih9 _ _ hf _ _ _ hP hD hS (lv_sub hl [1, 2, 3, 0] rfl)
          · refine lv_iload_n hx hb dX2_helpers_42 rfl (lv_at hl 3 rfl) ?_
            refine lv_istore_n (lv' := [(2, .int v4), (0, .ref h), (1, .int v2), (3, .int v4)]) hx hb dX2_helpers_43 rfl hl (by decide) rfl (fun ls hl => ?_)
            obtain ⟨v19, ev19, hf⟩ := lts hf
            refine lv_iinc (v := v19) (lv' := [(3, .int v19), (2, .int v4), (0, .ref h), (1, .int v2)]) hx hb dX2_helpers_44 hl (k := 3) rfl (by rw [ev19]; rfl) (by decide) rfl (fun ls hl => ?_)
            refine lv_goto (tgt := 15) hx hb dX2_helpers_47 (by decide) ?_
            exact ih9 _ _ hf _ _ _ hP hD hS (lv_sub hl [2, 3, 1, 0] rfl)
  exact hL8 _ _ _ k10 _ _ _ hP hD hS (lv_sub hl [3, 2, 1, 0] rfl)
set_option maxHeartbeats 4000000 in
theorem met_M_isJoined {l : Launch} {g : gG} {h : Nat} {ad : Nat → Nat} {sTaped : Int32} {sFault : Int32} {sFaultP : Int32} {sAt : Int32} {sPlace : Int32} {sToken : Int32} {sNumber : Int32} {sWord : Int64} {sText0 : Int32} {sWritten : Int32} {sSort0 : Int32} {sPiled : Int32} {sOpens : Int32} {sWhole : Int32} {sOnce : Int32} {sIsW : Int32} {sDied : Int32} {cA : Nat → Int32} {cIm : Nat → Int32} {cTx : Nat → Int32} {cTp : Nat → Int32} {cPl : Nat → Int32} {cNm : Nat → Int32} {cVa : Nat → Int64} {cTr : Nat → Int32} {cAs : Nat → Int32} {cLi : Nat → Int32} {cSa : Nat → Int32} {cHd : Nat → Int32} {x1 : Int32} {x2 : Int32} {x3 : Int32} {r : Int32} {φ : Nat} (hf : M_isJoined φ cA x1 x2 x3 = some r) : CC l yX2_isJoined (ws_ yX2_isJoined cX2_isJoined 6 (some .boolean)) ({ frames := 2, cells := 0, slots := 0, locals := 45 } : Room) g [.ref h, .int x1, .int x2, .int x3] (mW g h ad sTaped sFault sFaultP sAt sPlace sToken sNumber sWord sText0 sWritten sSort0 sPiled sOpens sWhole sOnce sIsW sDied cA cIm cTx cTp cPl cNm cVa cTr cAs cLi cSa cHd) (some (.int r)) (mW g h ad sTaped sFault sFaultP sAt sPlace sToken sNumber sWord sText0 sWritten sSort0 sPiled sOpens sWhole sOnce sIsW sDied cA cIm cTx cTp cPl cNm cVa cTr cAs cLi cSa cHd) 0 0 := by
  refine CC.of RX2 rfl plain_X2 (Nat.le_of_ble_eq_true rfl) (fun p e s m below meth c A ls X hP hD hS hl => ?_)
  have hx := X.1
  have hb := X.2.1
  have hown := X.2.2.2.2.2.1
  have hts := X.2.2.2.2.2.2.1
  have hl : lv_has ls 6 [(0, .ref h), (1, .int x1), (2, .int x2), (3, .int x3)] := hl
  unfold M_isJoined at hf
  refine lv_iconst (v := 1) hx hb dX2_isJoined_0 (by decide) ?_
  refine lv_iload_n hx hb dX2_isJoined_1 rfl (lv_at hl 1 rfl) ?_
  refine lv_ishl hx hb dX2_isJoined_2 ?_
  obtain ⟨v1, ev1, hf⟩ := lts hf
  refine tpi ev1 ?_
  refine lv_istore (lv' := [(4, .int v1), (0, .ref h), (1, .int x1), (2, .int x2), (3, .int x3)]) hx hb dX2_isJoined_3 hl (by decide) rfl (fun ls hl => ?_)
  refine lv_iconst (v := 0) hx hb dX2_isJoined_5 (by decide) ?_
  refine lv_istore (lv' := [(5, .int 0), (4, .int v1), (0, .ref h), (1, .int x1), (2, .int x2), (3, .int x3)]) hx hb dX2_isJoined_6 hl (by decide) rfl (fun ls hl => ?_)
  obtain ⟨v4, k9, hf⟩ := bd1s hf
  have hE6 : ∀ (H : Heap) (locs : List Loc) (ls : Array Slot), va_P g.1 vwCl (mW g h ad sTaped sFault sFaultP sAt sPlace sToken sNumber sWord sText0 sWritten sSort0 sPiled sOpens sWhole sOnce sIsW sDied cA cIm cTx cTp cPl cNm cVa cTr cAs cLi cSa cHd) H → va_D A (mW g h ad sTaped sFault sFaultP sAt sPlace sToken sNumber sWord sText0 sWritten sSort0 sPiled sOpens sWhole sOnce sIsW sDied cA cIm cTx cTp cPl cNm cVa cTr cAs cLi cSa cHd) → va_S A s.heap H locs → lv_has ls 6 [(2, .int x2), (4, .int v4)] → W p l e ({ frames := 2, cells := 0, slots := 0, locals := 45 } : Room) s m ([.ref h, .int x1, .int x2, .int x3] : List Value).toArray below meth c H locs 0 0 (MQ below (QQ g (some (.int r)) (mW g h ad sTaped sFault sFaultP sAt sPlace sToken sNumber sWord sText0 sWritten sSort0 sPiled sOpens sWhole sOnce sIsW sDied cA cIm cTx cTp cPl cNm cVa cTr cAs cLi cSa cHd) A) ([.ref h, .int x1, .int x2, .int x3] : List Value).toArray s 0 0 A) (F0 m 30 ls []) := by
    intro H locs ls hP hD hS hl
    refine lv_iload hx hb dX2_isJoined_30 (lv_at hl 1 rfl) ?_
    refine lv_iload_n hx hb dX2_isJoined_32 rfl (lv_at hl 0 rfl) ?_
    obtain ⟨r10, k11, hf⟩ := bd1s hf
    refine cSi (rest := []) X (met_M_isWith (g := g) k11) gs_X2_X2_isWith dy_X2_isWith ⟨⟨rfl, rfl⟩, Nat.le_of_ble_eq_true rfl, Nat.le_of_ble_eq_true rfl⟩ hP hD hS hl.1 rfl rfl ⟨Nat.zero_le _, Nat.zero_le _⟩ (Nat.le_of_ble_eq_true rfl) dX2_isJoined_33 (fun H locs hP hD hS => ?_)
    obtain ⟨hz, hf⟩ := zks hf
    cases hf
    exact rZ X hz hP hD hS dX2_isJoined_36
  have hL7 : ∀ (n5 : Nat) (v2 : Int32) (v3 : Int32), M_isJoined_L8 φ x2 x3 cA n5 v2 v3 = some v4 → ∀ (H : Heap) (locs : List Loc) (ls : Array Slot), va_P g.1 vwCl (mW g h ad sTaped sFault sFaultP sAt sPlace sToken sNumber sWord sText0 sWritten sSort0 sPiled sOpens sWhole sOnce sIsW sDied cA cIm cTx cTp cPl cNm cVa cTr cAs cLi cSa cHd) H → va_D A (mW g h ad sTaped sFault sFaultP sAt sPlace sToken sNumber sWord sText0 sWritten sSort0 sPiled sOpens sWhole sOnce sIsW sDied cA cIm cTx cTp cPl cNm cVa cTr cAs cLi cSa cHd) → va_S A s.heap H locs → lv_has ls 6 [(0, .ref h), (2, .int x2), (3, .int x3), (4, .int v2), (5, .int v3)] → W p l e ({ frames := 2, cells := 0, slots := 0, locals := 45 } : Room) s m ([.ref h, .int x1, .int x2, .int x3] : List Value).toArray below meth c H locs 0 0 (MQ below (QQ g (some (.int r)) (mW g h ad sTaped sFault sFaultP sAt sPlace sToken sNumber sWord sText0 sWritten sSort0 sPiled sOpens sWhole sOnce sIsW sDied cA cIm cTx cTp cPl cNm cVa cTr cAs cLi cSa cHd) A) ([.ref h, .int x1, .int x2, .int x3] : List Value).toArray s 0 0 A) (F0 m 8 ls []) := by
    intro n5
    induction n5 with
    | zero =>
      intro v2 v3 hf
      exact nn hf
    | succ n5 ih8 =>
      intro v2 v3 hf H locs ls hP hD hS hl
      rw [M_isJoined_L8] at hf
      refine lv_iload hx hb dX2_isJoined_8 (lv_at hl 4 rfl) ?_
      refine lv_bipush (v := 8) hx hb dX2_isJoined_10 (by decide) ?_
      refine bc_ge (tgt := 30) hx hb hf dX2_isJoined_12 (by decide) (fun hf => ?_) (fun hf => ?_)
      · cases hf
        exact hE6 _ _ _ hP hD hS (lv_sub hl [1, 3] rfl)
      · refine lv_aload_n hx hb dX2_isJoined_15 rfl (lv_at hl 0 rfl) ?_
        refine lv_iload hx hb dX2_isJoined_16 (lv_at hl 3 rfl) ?_
        refine lv_iload_n hx hb dX2_isJoined_18 rfl (lv_at hl 2 rfl) ?_
        obtain ⟨r12, k13, hf⟩ := bd1s hf
        refine cVi (rest := []) X (met_M_spread k13) gw_X2_X2_spread dy_X2_spread ⟨⟨rfl, rfl⟩, Nat.le_of_ble_eq_true rfl, Nat.le_of_ble_eq_true rfl⟩ hP hD hS hl.1 rcM rfl rfl ⟨Nat.zero_le _, Nat.zero_le _⟩ (Nat.le_of_ble_eq_true rfl) dX2_isJoined_19 (fun H locs hP hD hS => ?_)
        refine lv_istore (lv' := [(4, .int r12), (0, .ref h), (2, .int x2), (3, .int x3), (5, .int v3)]) hx hb dX2_isJoined_22 hl (by decide) rfl (fun ls hl => ?_)
        obtain ⟨v14, ev14, hf⟩ := lts hf
        refine lv_iinc (v := v14) (lv' := [(5, .int v14), (4, .int r12), (0, .ref h), (2, .int x2), (3, .int x3)]) hx hb dX2_isJoined_24 hl (k := 4) rfl (by rw [ev14]; rfl) (by decide) rfl (fun ls hl => ?_)
        refine lv_goto (tgt := 8) hx hb dX2_isJoined_27 (by decide) ?_
        exact ih8 _ _ hf _ _ _ hP hD hS (lv_sub hl [2, 3, 4, 1, 0] rfl)
  exact hL7 _ _ _ k9 _ _ _ hP hD hS (lv_sub hl [2, 4, 5, 1, 0] rfl)
set_option maxHeartbeats 4000000 in
theorem met_M_crowd {l : Launch} {g : gG} {h : Nat} {ad : Nat → Nat} {sTaped : Int32} {sFault : Int32} {sFaultP : Int32} {sAt : Int32} {sPlace : Int32} {sToken : Int32} {sNumber : Int32} {sWord : Int64} {sText0 : Int32} {sWritten : Int32} {sSort0 : Int32} {sPiled : Int32} {sOpens : Int32} {sWhole : Int32} {sOnce : Int32} {sIsW : Int32} {sDied : Int32} {cA : Nat → Int32} {cIm : Nat → Int32} {cTx : Nat → Int32} {cTp : Nat → Int32} {cPl : Nat → Int32} {cNm : Nat → Int32} {cVa : Nat → Int64} {cTr : Nat → Int32} {cAs : Nat → Int32} {cLi : Nat → Int32} {cSa : Nat → Int32} {cHd : Nat → Int32} {x1 : Int32} {r : Int32} {ncA : Nat → Int32} (hf : M_crowd cA x1 = some (r, ncA)) : CC l yX2_crowd (ws_ yX2_crowd cX2_crowd 2 (some .int)) ({ frames := 2, cells := 0, slots := 0, locals := 43 } : Room) g [.ref h, .int x1] (mW g h ad sTaped sFault sFaultP sAt sPlace sToken sNumber sWord sText0 sWritten sSort0 sPiled sOpens sWhole sOnce sIsW sDied cA cIm cTx cTp cPl cNm cVa cTr cAs cLi cSa cHd) (some (.int r)) (mW g h ad sTaped sFault sFaultP sAt sPlace sToken sNumber sWord sText0 sWritten sSort0 sPiled sOpens sWhole sOnce sIsW sDied ncA cIm cTx cTp cPl cNm cVa cTr cAs cLi cSa cHd) 0 0 := by
  refine CC.of RX2 rfl plain_X2 (Nat.le_of_ble_eq_true rfl) (fun p e s m below meth c A ls X hP hD hS hl => ?_)
  have hx := X.1
  have hb := X.2.1
  have hown := X.2.2.2.2.2.1
  have hts := X.2.2.2.2.2.2.1
  have hl : lv_has ls 2 [(0, .ref h), (1, .int x1)] := hl
  unfold M_crowd at hf
  refine lv_iload_n hx hb dX2_crowd_0 rfl (lv_at hl 1 rfl) ?_
  refine lv_iconst (v := (-1)) hx hb dX2_crowd_1 (by decide) ?_
  refine bc_ne (tgt := 14) hx hb hf dX2_crowd_2 (by decide) (fun hf => ?_) (fun hf => ?_)
  · refine lv_aload_n hx hb dX2_crowd_14 rfl (lv_at hl 0 rfl) ?_
    refine lv_iload_n hx hb dX2_crowd_15 rfl (lv_at hl 1 rfl) ?_
    obtain ⟨r1, k2, hf⟩ := bd1s hf
    refine cVi (rest := []) X (met_M_isLand k2) gw_X2_X2_isLand dy_X2_isLand ⟨⟨rfl, rfl⟩, Nat.le_of_ble_eq_true rfl, Nat.le_of_ble_eq_true rfl⟩ hP hD hS hl.1 rcM rfl rfl ⟨Nat.zero_le _, Nat.zero_le _⟩ (Nat.le_of_ble_eq_true rfl) dX2_crowd_16 (fun H locs hP hD hS => ?_)
    refine bq_eq (tgt := 32) hx hb hf dX2_crowd_19 (by decide) (fun hf => ?_) (fun hf => ?_)
    · refine lv_bipush (v := (-2)) hx hb dX2_crowd_32 (by decide) ?_
      cases hf
      exact rI X hP hD hS dX2_crowd_34
    · refine lv_aload_n hx hb dX2_crowd_22 rfl (lv_at hl 0 rfl) ?_
      refine gM0 X hP dX2_crowd_23 ?_
      refine lv_iconst (v := 5) hx hb dX2_crowd_26 (by decide) ?_
      obtain ⟨v3, ev3, bv3, hf⟩ := rds hf
      refine lM_cA X hP ev3 bv3 dX2_crowd_27 ?_
      refine lv_iconst (v := 5) hx hb dX2_crowd_28 (by decide) ?_
      refine bc_ne (tgt := 35) hx hb hf dX2_crowd_29 (by decide) (fun hf => ?_) (fun hf => ?_)
      · refine lv_aload_n hx hb dX2_crowd_35 rfl (lv_at hl 0 rfl) ?_
        refine gM0 X hP dX2_crowd_36 ?_
        refine lv_bipush (v := 96) hx hb dX2_crowd_39 (by decide) ?_
        refine lv_aload_n hx hb dX2_crowd_41 rfl (lv_at hl 0 rfl) ?_
        refine gM0 X hP dX2_crowd_42 ?_
        refine lv_iconst (v := 5) hx hb dX2_crowd_45 (by decide) ?_
        obtain ⟨v4, ev4, bv4, hf⟩ := rds hf
        refine lM_cA X hP ev4 bv4 dX2_crowd_46 ?_
        refine lv_iadd hx hb dX2_crowd_47 ?_
        refine lv_iload_n hx hb dX2_crowd_48 rfl (lv_at hl 1 rfl) ?_
        obtain ⟨c5, ec5, bc5, hf⟩ := wrs hf
        refine sM_cA X hP hD hS ec5 bc5 dX2_crowd_49 (fun H locs hP hD hS => ?_)
        refine lv_aload_n hx hb dX2_crowd_50 rfl (lv_at hl 0 rfl) ?_
        refine gM0 X hP dX2_crowd_51 ?_
        refine lv_iconst (v := 5) hx hb dX2_crowd_54 (by decide) ?_
        refine lv_dup2_11 hx hb dX2_crowd_55 rfl rfl ?_
        obtain ⟨v6, ev6, bv6, hf⟩ := rds hf
        refine lM_cA X hP ev6 bv6 dX2_crowd_56 ?_
        refine lv_iconst (v := 1) hx hb dX2_crowd_57 (by decide) ?_
        refine lv_iadd hx hb dX2_crowd_58 ?_
        obtain ⟨v7, ev7, hf⟩ := lts hf
        refine tpi ev7 ?_
        obtain ⟨c8, ec8, bc8, hf⟩ := wrs hf
        refine sM_cA X hP hD hS ec8 bc8 dX2_crowd_59 (fun H locs hP hD hS => ?_)
        refine lv_aload_n hx hb dX2_crowd_60 rfl (lv_at hl 0 rfl) ?_
        refine gM0 X hP dX2_crowd_61 ?_
        refine lv_iconst (v := 5) hx hb dX2_crowd_64 (by decide) ?_
        obtain ⟨v9, ev9, bv9, hf⟩ := rds hf
        refine lM_cA X hP ev9 bv9 dX2_crowd_65 ?_
        cases hf
        exact rI X hP hD hS dX2_crowd_66
      · refine lv_bipush (v := (-2)) hx hb dX2_crowd_32 (by decide) ?_
        cases hf
        exact rI X hP hD hS dX2_crowd_34
  · refine lv_aload_n hx hb dX2_crowd_5 rfl (lv_at hl 0 rfl) ?_
    refine gM0 X hP dX2_crowd_6 ?_
    refine lv_iconst (v := 5) hx hb dX2_crowd_9 (by decide) ?_
    refine lv_iconst (v := 0) hx hb dX2_crowd_10 (by decide) ?_
    obtain ⟨c10, ec10, bc10, hf⟩ := wrs hf
    refine sM_cA X hP hD hS ec10 bc10 dX2_crowd_11 (fun H locs hP hD hS => ?_)
    refine lv_iconst (v := 0) hx hb dX2_crowd_12 (by decide) ?_
    cases hf
    exact rI X hP hD hS dX2_crowd_13
set_option maxHeartbeats 4000000 in
theorem met_M_wasAt {l : Launch} {g : gG} {h : Nat} {ad : Nat → Nat} {sTaped : Int32} {sFault : Int32} {sFaultP : Int32} {sAt : Int32} {sPlace : Int32} {sToken : Int32} {sNumber : Int32} {sWord : Int64} {sText0 : Int32} {sWritten : Int32} {sSort0 : Int32} {sPiled : Int32} {sOpens : Int32} {sWhole : Int32} {sOnce : Int32} {sIsW : Int32} {sDied : Int32} {cA : Nat → Int32} {cIm : Nat → Int32} {cTx : Nat → Int32} {cTp : Nat → Int32} {cPl : Nat → Int32} {cNm : Nat → Int32} {cVa : Nat → Int64} {cTr : Nat → Int32} {cAs : Nat → Int32} {cLi : Nat → Int32} {cSa : Nat → Int32} {cHd : Nat → Int32} {x1 : Int32} {x2 : Int32} {r : Int32} {φ : Nat} (hf : M_wasAt φ cA x1 x2 = some r) : CC l yX2_wasAt (ws_ yX2_wasAt cX2_wasAt 8 (some .int)) ({ frames := 2, cells := 0, slots := 0, locals := 43 } : Room) g [.ref h, .int x1, .int x2] (mW g h ad sTaped sFault sFaultP sAt sPlace sToken sNumber sWord sText0 sWritten sSort0 sPiled sOpens sWhole sOnce sIsW sDied cA cIm cTx cTp cPl cNm cVa cTr cAs cLi cSa cHd) (some (.int r)) (mW g h ad sTaped sFault sFaultP sAt sPlace sToken sNumber sWord sText0 sWritten sSort0 sPiled sOpens sWhole sOnce sIsW sDied cA cIm cTx cTp cPl cNm cVa cTr cAs cLi cSa cHd) 0 0 := by
  refine CC.of RX2 rfl plain_X2 (Nat.le_of_ble_eq_true rfl) (fun p e s m below meth c A ls X hP hD hS hl => ?_)
  have hx := X.1
  have hb := X.2.1
  have hown := X.2.2.2.2.2.1
  have hts := X.2.2.2.2.2.2.1
  have hl : lv_has ls 8 [(0, .ref h), (1, .int x1), (2, .int x2)] := hl
  unfold M_wasAt at hf
  refine lv_iload_n hx hb dX2_wasAt_0 rfl (lv_at hl 2 rfl) ?_
  refine lv_istore_n (lv' := [(3, .int x2), (0, .ref h), (1, .int x1), (2, .int x2)]) hx hb dX2_wasAt_1 rfl hl (by decide) rfl (fun ls hl => ?_)
  refine lv_aload_n hx hb dX2_wasAt_2 rfl (lv_at hl 1 rfl) ?_
  refine gM0 X hP dX2_wasAt_3 ?_
  refine lv_bipush (v := 96) hx hb dX2_wasAt_6 (by decide) ?_
  obtain ⟨v1, ev1, bv1, hf⟩ := rds hf
  refine lM_cA X hP ev1 bv1 dX2_wasAt_8 ?_
  refine lv_iload_n hx hb dX2_wasAt_9 rfl (lv_at hl 3 rfl) ?_
  obtain ⟨v2, k3, hf⟩ := bd1s hf
  have hj4 : ∀ (H : Heap) (locs : List Loc) (ls : Array Slot), va_P g.1 vwCl (mW g h ad sTaped sFault sFaultP sAt sPlace sToken sNumber sWord sText0 sWritten sSort0 sPiled sOpens sWhole sOnce sIsW sDied cA cIm cTx cTp cPl cNm cVa cTr cAs cLi cSa cHd) H → va_D A (mW g h ad sTaped sFault sFaultP sAt sPlace sToken sNumber sWord sText0 sWritten sSort0 sPiled sOpens sWhole sOnce sIsW sDied cA cIm cTx cTp cPl cNm cVa cTr cAs cLi cSa cHd) → va_S A s.heap H locs → lv_has ls 8 [(0, .ref h), (1, .int x1), (3, .int x2)] → W p l e ({ frames := 2, cells := 0, slots := 0, locals := 43 } : Room) s m ([.ref h, .int x1, .int x2] : List Value).toArray below meth c H locs 0 0 (MQ below (QQ g (some (.int r)) (mW g h ad sTaped sFault sFaultP sAt sPlace sToken sNumber sWord sText0 sWritten sSort0 sPiled sOpens sWhole sOnce sIsW sDied cA cIm cTx cTp cPl cNm cVa cTr cAs cLi cSa cHd) A) ([.ref h, .int x1, .int x2] : List Value).toArray s 0 0 A) (F0 m 18 ls [.int v2]) := by
    intro H locs ls hP hD hS hl
    refine lv_istore (lv' := [(4, .int v2), (0, .ref h), (1, .int x1), (3, .int x2)]) hx hb dX2_wasAt_18 hl (by decide) rfl (fun ls hl => ?_)
    refine lv_iload_n hx hb dX2_wasAt_20 rfl (lv_at hl 2 rfl) ?_
    refine lv_istore (lv' := [(5, .int x1), (4, .int v2), (0, .ref h), (1, .int x1), (3, .int x2)]) hx hb dX2_wasAt_21 hl (by decide) rfl (fun ls hl => ?_)
    refine lv_iconst (v := 1) hx hb dX2_wasAt_23 (by decide) ?_
    refine lv_istore (lv' := [(6, .int 1), (5, .int x1), (4, .int v2), (0, .ref h), (1, .int x1), (3, .int x2)]) hx hb dX2_wasAt_24 hl (by decide) rfl (fun ls hl => ?_)
    have hL11 : ∀ (n9 : Nat) (v5 : Int32) (v6 : Int32) (v7 : Int32) (v8 : Int32), M_wasAt_L26 φ cA n9 v5 v6 v7 v8 = some r → ∀ (H : Heap) (locs : List Loc) (ls : Array Slot), va_P g.1 vwCl (mW g h ad sTaped sFault sFaultP sAt sPlace sToken sNumber sWord sText0 sWritten sSort0 sPiled sOpens sWhole sOnce sIsW sDied cA cIm cTx cTp cPl cNm cVa cTr cAs cLi cSa cHd) H → va_D A (mW g h ad sTaped sFault sFaultP sAt sPlace sToken sNumber sWord sText0 sWritten sSort0 sPiled sOpens sWhole sOnce sIsW sDied cA cIm cTx cTp cPl cNm cVa cTr cAs cLi cSa cHd) → va_S A s.heap H locs → lv_has ls 8 [(0, .ref h), (3, .int v5), (4, .int v6), (5, .int v7), (6, .int v8)] → W p l e ({ frames := 2, cells := 0, slots := 0, locals := 43 } : Room) s m ([.ref h, .int x1, .int x2] : List Value).toArray below meth c H locs 0 0 (MQ below (QQ g (some (.int r)) (mW g h ad sTaped sFault sFaultP sAt sPlace sToken sNumber sWord sText0 sWritten sSort0 sPiled sOpens sWhole sOnce sIsW sDied cA cIm cTx cTp cPl cNm cVa cTr cAs cLi cSa cHd) A) ([.ref h, .int x1, .int x2] : List Value).toArray s 0 0 A) (F0 m 26 ls []) := by
      intro n9
      induction n9 with
      | zero =>
        intro v5 v6 v7 v8 hf
        exact nn hf
      | succ n9 ih12 =>
        intro v5 v6 v7 v8 hf H locs ls hP hD hS hl
        rw [M_wasAt_L26] at hf
        refine lv_iload hx hb dX2_wasAt_26 (lv_at hl 4 rfl) ?_
        refine lv_aload_n hx hb dX2_wasAt_28 rfl (lv_at hl 0 rfl) ?_
        refine gM0 X hP dX2_wasAt_29 ?_
        refine lv_iconst (v := 5) hx hb dX2_wasAt_32 (by decide) ?_
        obtain ⟨v14, ev14, bv14, hf⟩ := rds hf
        refine lM_cA X hP ev14 bv14 dX2_wasAt_33 ?_
        refine bc_ge (tgt := 111) hx hb hf dX2_wasAt_34 (by decide) (fun hf => ?_) (fun hf => ?_)
        · refine lv_iload hx hb dX2_wasAt_111 (lv_at hl 2 rfl) ?_
          cases hf
          exact rI X hP hD hS dX2_wasAt_113
        · refine lv_iload hx hb dX2_wasAt_37 (lv_at hl 3 rfl) ?_
          refine lv_bipush (v := 8) hx hb dX2_wasAt_39 (by decide) ?_
          refine lv_irem hx hb dX2_wasAt_41 (by decide) ?_
          obtain ⟨v15, ev15, hf⟩ := lts hf
          refine tpi ev15 ?_
          refine lv_istore (lv' := [(7, .int v15), (0, .ref h), (3, .int v5), (4, .int v6), (5, .int v7), (6, .int v8)]) hx hb dX2_wasAt_42 hl (by decide) rfl (fun ls hl => ?_)
          refine lv_iload hx hb dX2_wasAt_44 (lv_at hl 4 rfl) ?_
          refine lv_bipush (v := 8) hx hb dX2_wasAt_46 (by decide) ?_
          refine lv_idiv hx hb dX2_wasAt_48 (by decide) ?_
          obtain ⟨v16, ev16, hf⟩ := lts hf
          refine tpi ev16 ?_
          refine lv_istore (lv' := [(5, .int v16), (7, .int v15), (0, .ref h), (3, .int v5), (4, .int v6), (6, .int v8)]) hx hb dX2_wasAt_49 hl (by decide) rfl (fun ls hl => ?_)
          refine lv_aload_n hx hb dX2_wasAt_51 rfl (lv_at hl 2 rfl) ?_
          refine lv_iload hx hb dX2_wasAt_52 (lv_at hl 1 rfl) ?_
          obtain ⟨r17, k18, hf⟩ := bd1s hf
          refine cVi (rest := []) X (met_M_isLand k18) gw_X2_X2_isLand dy_X2_isLand ⟨⟨rfl, rfl⟩, Nat.le_of_ble_eq_true rfl, Nat.le_of_ble_eq_true rfl⟩ hP hD hS hl.1 rcM rfl rfl ⟨Nat.zero_le _, Nat.zero_le _⟩ (Nat.le_of_ble_eq_true rfl) dX2_wasAt_54 (fun H locs hP hD hS => ?_)
          refine bq_eq (tgt := 73) hx hb hf dX2_wasAt_57 (by decide) (fun hf => ?_) (fun hf => ?_)
          · refine lv_iconst (v := (-1)) hx hb dX2_wasAt_73 (by decide) ?_
            cases hf
            exact rI X hP hD hS dX2_wasAt_74
          · refine lv_aload_n hx hb dX2_wasAt_60 rfl (lv_at hl 2 rfl) ?_
            refine lv_iload_n hx hb dX2_wasAt_61 rfl (lv_at hl 3 rfl) ?_
            obtain ⟨r19, k20, hf⟩ := bd1s hf
            refine cVi (rest := []) X (met_M_reachOf k20) gw_X2_X2_reachOf dy_X2_reachOf ⟨⟨rfl, rfl⟩, Nat.le_of_ble_eq_true rfl, Nat.le_of_ble_eq_true rfl⟩ hP hD hS hl.1 rcM rfl rfl ⟨Nat.zero_le _, Nat.zero_le _⟩ (Nat.le_of_ble_eq_true rfl) dX2_wasAt_62 (fun H locs hP hD hS => ?_)
            refine lv_iload hx hb dX2_wasAt_65 (lv_at hl 1 rfl) ?_
            obtain ⟨r21, k22, hf⟩ := bd1s hf
            refine cSi (rest := []) X (met_M_isWith (g := g) k22) gs_X2_X2_isWith dy_X2_isWith ⟨⟨rfl, rfl⟩, Nat.le_of_ble_eq_true rfl, Nat.le_of_ble_eq_true rfl⟩ hP hD hS hl.1 rfl rfl ⟨Nat.zero_le _, Nat.zero_le _⟩ (Nat.le_of_ble_eq_true rfl) dX2_wasAt_67 (fun H locs hP hD hS => ?_)
            refine bq_ne (tgt := 75) hx hb hf dX2_wasAt_70 (by decide) (fun hf => ?_) (fun hf => ?_)
            · refine lv_iload hx hb dX2_wasAt_75 (lv_at hl 1 rfl) ?_
              refine lv_istore_n (lv' := [(3, .int v15), (5, .int v16), (7, .int v15), (0, .ref h), (4, .int v6), (6, .int v8)]) hx hb dX2_wasAt_77 rfl hl (by decide) rfl (fun ls hl => ?_)
              refine lv_iload hx hb dX2_wasAt_78 (lv_at hl 4 rfl) ?_
              refine lv_aload_n hx hb dX2_wasAt_80 rfl (lv_at hl 3 rfl) ?_
              refine gM0 X hP dX2_wasAt_81 ?_
              refine lv_bipush (v := 96) hx hb dX2_wasAt_84 (by decide) ?_
              refine lv_iload hx hb dX2_wasAt_86 (lv_at hl 5 rfl) ?_
              refine lv_iadd hx hb dX2_wasAt_88 ?_
              obtain ⟨v23, ev23, bv23, hf⟩ := rds hf
              refine lM_cA X hP ev23 bv23 dX2_wasAt_89 ?_
              refine lv_iload_n hx hb dX2_wasAt_90 rfl (lv_at hl 0 rfl) ?_
              refine bc_ne (tgt := 101) hx hb hf dX2_wasAt_91 (by decide) (fun hf => ?_) (fun hf => ?_)
              · refine lv_iconst (v := 0) hx hb dX2_wasAt_101 (by decide) ?_
                refine lv_ior hx hb dX2_wasAt_102 ?_
                obtain ⟨v24, ev24, hf⟩ := lts hf
                refine tpi ev24 ?_
                refine lv_istore (lv' := [(4, .int v24), (3, .int v15), (5, .int v16), (7, .int v15), (0, .ref h), (6, .int v8)]) hx hb dX2_wasAt_103 hl (by decide) rfl (fun ls hl => ?_)
                obtain ⟨v25, ev25, hf⟩ := lts hf
                refine lv_iinc (v := v25) (lv' := [(6, .int v25), (4, .int v24), (3, .int v15), (5, .int v16), (7, .int v15), (0, .ref h)]) hx hb dX2_wasAt_105 hl (k := 5) rfl (by rw [ev25]; rfl) (by decide) rfl (fun ls hl => ?_)
                refine lv_goto (tgt := 26) hx hb dX2_wasAt_108 (by decide) ?_
                exact ih12 _ _ _ _ hf _ _ _ hP hD hS (lv_sub hl [5, 2, 1, 3, 0] rfl)
              · refine lv_iconst (v := 1) hx hb dX2_wasAt_94 (by decide) ?_
                refine lv_iload hx hb dX2_wasAt_95 (lv_at hl 5 rfl) ?_
                refine lv_ishl hx hb dX2_wasAt_97 ?_
                refine lv_goto (tgt := 102) hx hb dX2_wasAt_98 (by decide) ?_
                refine lv_ior hx hb dX2_wasAt_102 ?_
                obtain ⟨v26, ev26, hf⟩ := lts hf
                refine tpi ev26 ?_
                refine lv_istore (lv' := [(4, .int v26), (3, .int v15), (5, .int v16), (7, .int v15), (0, .ref h), (6, .int v8)]) hx hb dX2_wasAt_103 hl (by decide) rfl (fun ls hl => ?_)
                obtain ⟨v27, ev27, hf⟩ := lts hf
                refine lv_iinc (v := v27) (lv' := [(6, .int v27), (4, .int v26), (3, .int v15), (5, .int v16), (7, .int v15), (0, .ref h)]) hx hb dX2_wasAt_105 hl (k := 5) rfl (by rw [ev27]; rfl) (by decide) rfl (fun ls hl => ?_)
                refine lv_goto (tgt := 26) hx hb dX2_wasAt_108 (by decide) ?_
                exact ih12 _ _ _ _ hf _ _ _ hP hD hS (lv_sub hl [5, 2, 1, 3, 0] rfl)
            · refine lv_iconst (v := (-1)) hx hb dX2_wasAt_73 (by decide) ?_
              cases hf
              exact rI X hP hD hS dX2_wasAt_74
    exact hL11 _ _ _ _ _ hf _ _ _ hP hD hS (lv_sub hl [3, 5, 2, 1, 0] rfl)
  replace hf := k3
  clear k3
  refine bc_ne (tgt := 17) hx hb hf dX2_wasAt_10 (by decide) (fun hf => ?_) (fun hf => ?_)
  · refine lv_iconst (v := 0) hx hb dX2_wasAt_17 (by decide) ?_
    cases hf
    exact hj4 _ _ _ hP hD hS (lv_sub hl [1, 2, 0] rfl)
  · refine lv_iconst (v := 1) hx hb dX2_wasAt_13 (by decide) ?_
    refine lv_goto (tgt := 18) hx hb dX2_wasAt_14 (by decide) ?_
    cases hf
    exact hj4 _ _ _ hP hD hS (lv_sub hl [1, 2, 0] rfl)
set_option maxHeartbeats 4000000 in
theorem met_M_reports {l : Launch} {g : gG} {h : Nat} {ad : Nat → Nat} {sTaped : Int32} {sFault : Int32} {sFaultP : Int32} {sAt : Int32} {sPlace : Int32} {sToken : Int32} {sNumber : Int32} {sWord : Int64} {sText0 : Int32} {sWritten : Int32} {sSort0 : Int32} {sPiled : Int32} {sOpens : Int32} {sWhole : Int32} {sOnce : Int32} {sIsW : Int32} {sDied : Int32} {cA : Nat → Int32} {cIm : Nat → Int32} {cTx : Nat → Int32} {cTp : Nat → Int32} {cPl : Nat → Int32} {cNm : Nat → Int32} {cVa : Nat → Int64} {cTr : Nat → Int32} {cAs : Nat → Int32} {cLi : Nat → Int32} {cSa : Nat → Int32} {cHd : Nat → Int32} {x1 : Int32} {r : Int32} {ncA : Nat → Int32} (hf : M_reports cA x1 = some (r, ncA)) : CC l yX2_reports (ws_ yX2_reports cX2_reports 2 (some .boolean)) ({ frames := 1, cells := 0, slots := 0, locals := 22 } : Room) g [.ref h, .int x1] (mW g h ad sTaped sFault sFaultP sAt sPlace sToken sNumber sWord sText0 sWritten sSort0 sPiled sOpens sWhole sOnce sIsW sDied cA cIm cTx cTp cPl cNm cVa cTr cAs cLi cSa cHd) (some (.int r)) (mW g h ad sTaped sFault sFaultP sAt sPlace sToken sNumber sWord sText0 sWritten sSort0 sPiled sOpens sWhole sOnce sIsW sDied ncA cIm cTx cTp cPl cNm cVa cTr cAs cLi cSa cHd) 0 0 := by
  refine CC.of RX2 rfl plain_X2 (Nat.le_of_ble_eq_true rfl) (fun p e s m below meth c A ls X hP hD hS hl => ?_)
  have hx := X.1
  have hb := X.2.1
  have hown := X.2.2.2.2.2.1
  have hts := X.2.2.2.2.2.2.1
  have hl : lv_has ls 2 [(0, .ref h), (1, .int x1)] := hl
  unfold M_reports at hf
  refine lv_iload_n hx hb dX2_reports_0 rfl (lv_at hl 1 rfl) ?_
  refine lv_iconst (v := 0) hx hb dX2_reports_1 (by decide) ?_
  refine lv_bipush (v := 8) hx hb dX2_reports_2 (by decide) ?_
  obtain ⟨r1, k2, hf⟩ := bd1s hf
  refine cSi (rest := []) X (met_M_isIn (g := g) k2) gs_X2_X2_isIn dy_X2_isIn ⟨⟨rfl, rfl⟩, Nat.le_of_ble_eq_true rfl, Nat.le_of_ble_eq_true rfl⟩ hP hD hS hl.1 rfl rfl ⟨Nat.zero_le _, Nat.zero_le _⟩ (Nat.le_of_ble_eq_true rfl) dX2_reports_4 (fun H locs hP hD hS => ?_)
  refine bq_ne (tgt := 12) hx hb hf dX2_reports_7 (by decide) (fun hf => ?_) (fun hf => ?_)
  · refine lv_aload_n hx hb dX2_reports_12 rfl (lv_at hl 0 rfl) ?_
    refine gM0 X hP dX2_reports_13 ?_
    refine lv_bipush (v := 6) hx hb dX2_reports_16 (by decide) ?_
    refine lv_iload_n hx hb dX2_reports_18 rfl (lv_at hl 1 rfl) ?_
    obtain ⟨c3, ec3, bc3, hf⟩ := wrs hf
    refine sM_cA X hP hD hS ec3 bc3 dX2_reports_19 (fun H locs hP hD hS => ?_)
    refine lv_aload_n hx hb dX2_reports_20 rfl (lv_at hl 0 rfl) ?_
    refine gM0 X hP dX2_reports_21 ?_
    refine lv_bipush (v := 7) hx hb dX2_reports_24 (by decide) ?_
    refine lv_iconst (v := 0) hx hb dX2_reports_26 (by decide) ?_
    obtain ⟨c4, ec4, bc4, hf⟩ := wrs hf
    refine sM_cA X hP hD hS ec4 bc4 dX2_reports_27 (fun H locs hP hD hS => ?_)
    refine lv_iconst (v := 1) hx hb dX2_reports_28 (by decide) ?_
    cases hf
    exact rZ X rfl hP hD hS dX2_reports_29
  · refine lv_iconst (v := 0) hx hb dX2_reports_10 (by decide) ?_
    cases hf
    exact rZ X rfl hP hD hS dX2_reports_11
set_option maxHeartbeats 4000000 in
theorem met_M_unlike {l : Launch} {g : gG} {h : Nat} {ad : Nat → Nat} {sTaped : Int32} {sFault : Int32} {sFaultP : Int32} {sAt : Int32} {sPlace : Int32} {sToken : Int32} {sNumber : Int32} {sWord : Int64} {sText0 : Int32} {sWritten : Int32} {sSort0 : Int32} {sPiled : Int32} {sOpens : Int32} {sWhole : Int32} {sOnce : Int32} {sIsW : Int32} {sDied : Int32} {cA : Nat → Int32} {cIm : Nat → Int32} {cTx : Nat → Int32} {cTp : Nat → Int32} {cPl : Nat → Int32} {cNm : Nat → Int32} {cVa : Nat → Int64} {cTr : Nat → Int32} {cAs : Nat → Int32} {cLi : Nat → Int32} {cSa : Nat → Int32} {cHd : Nat → Int32} {x1 : Int32} {x2 : Int32} {r : Int32} {ncA : Nat → Int32} (hf : M_unlike cA x1 x2 = some (r, ncA)) : CC l yX2_unlike (ws_ yX2_unlike cX2_unlike 3 (some .int)) ({ frames := 1, cells := 0, slots := 0, locals := 22 } : Room) g [.ref h, .int x1, .int x2] (mW g h ad sTaped sFault sFaultP sAt sPlace sToken sNumber sWord sText0 sWritten sSort0 sPiled sOpens sWhole sOnce sIsW sDied cA cIm cTx cTp cPl cNm cVa cTr cAs cLi cSa cHd) (some (.int r)) (mW g h ad sTaped sFault sFaultP sAt sPlace sToken sNumber sWord sText0 sWritten sSort0 sPiled sOpens sWhole sOnce sIsW sDied ncA cIm cTx cTp cPl cNm cVa cTr cAs cLi cSa cHd) 0 0 := by
  refine CC.of RX2 rfl plain_X2 (Nat.le_of_ble_eq_true rfl) (fun p e s m below meth c A ls X hP hD hS hl => ?_)
  have hx := X.1
  have hb := X.2.1
  have hown := X.2.2.2.2.2.1
  have hts := X.2.2.2.2.2.2.1
  have hl : lv_has ls 3 [(0, .ref h), (1, .int x1), (2, .int x2)] := hl
  unfold M_unlike at hf
  refine lv_iload_n hx hb dX2_unlike_0 rfl (lv_at hl 1 rfl) ?_
  refine lv_iconst (v := 0) hx hb dX2_unlike_1 (by decide) ?_
  refine lv_aload_n hx hb dX2_unlike_2 rfl (lv_at hl 0 rfl) ?_
  refine gM0 X hP dX2_unlike_3 ?_
  refine lv_bipush (v := 6) hx hb dX2_unlike_6 (by decide) ?_
  obtain ⟨v1, ev1, bv1, hf⟩ := rds hf
  refine lM_cA X hP ev1 bv1 dX2_unlike_8 ?_
  refine lv_iconst (v := 1) hx hb dX2_unlike_9 (by decide) ?_
  refine lv_isub hx hb dX2_unlike_10 ?_
  obtain ⟨r2, k3, hf⟩ := bd1s hf
  refine cSi (rest := []) X (met_M_isIn (g := g) k3) gs_X2_X2_isIn dy_X2_isIn ⟨⟨rfl, rfl⟩, Nat.le_of_ble_eq_true rfl, Nat.le_of_ble_eq_true rfl⟩ hP hD hS hl.1 rfl rfl ⟨Nat.zero_le _, Nat.zero_le _⟩ (Nat.le_of_ble_eq_true rfl) dX2_unlike_11 (fun H locs hP hD hS => ?_)
  refine bq_eq (tgt := 51) hx hb hf dX2_unlike_14 (by decide) (fun hf => ?_) (fun hf => ?_)
  · refine lv_bipush (v := (-2)) hx hb dX2_unlike_51 (by decide) ?_
    cases hf
    exact rI X hP hD hS dX2_unlike_53
  · refine lv_iload_n hx hb dX2_unlike_17 rfl (lv_at hl 2 rfl) ?_
    refine lv_iconst (v := 0) hx hb dX2_unlike_18 (by decide) ?_
    refine lv_aload_n hx hb dX2_unlike_19 rfl (lv_at hl 0 rfl) ?_
    refine gM0 X hP dX2_unlike_20 ?_
    refine lv_bipush (v := 6) hx hb dX2_unlike_23 (by decide) ?_
    obtain ⟨v4, ev4, bv4, hf⟩ := rds hf
    refine lM_cA X hP ev4 bv4 dX2_unlike_25 ?_
    refine lv_iconst (v := 1) hx hb dX2_unlike_26 (by decide) ?_
    refine lv_isub hx hb dX2_unlike_27 ?_
    obtain ⟨r5, k6, hf⟩ := bd1s hf
    refine cSi (rest := []) X (met_M_isIn (g := g) k6) gs_X2_X2_isIn dy_X2_isIn ⟨⟨rfl, rfl⟩, Nat.le_of_ble_eq_true rfl, Nat.le_of_ble_eq_true rfl⟩ hP hD hS hl.1 rfl rfl ⟨Nat.zero_le _, Nat.zero_le _⟩ (Nat.le_of_ble_eq_true rfl) dX2_unlike_28 (fun H locs hP hD hS => ?_)
    refine bq_eq (tgt := 51) hx hb hf dX2_unlike_31 (by decide) (fun hf => ?_) (fun hf => ?_)
    · refine lv_bipush (v := (-2)) hx hb dX2_unlike_51 (by decide) ?_
      cases hf
      exact rI X hP hD hS dX2_unlike_53
    · refine lv_iload_n hx hb dX2_unlike_34 rfl (lv_at hl 1 rfl) ?_
      refine lv_iload_n hx hb dX2_unlike_35 rfl (lv_at hl 2 rfl) ?_
      refine bc_eq (tgt := 51) hx hb hf dX2_unlike_36 (by decide) (fun hf => ?_) (fun hf => ?_)
      · refine lv_bipush (v := (-2)) hx hb dX2_unlike_51 (by decide) ?_
        cases hf
        exact rI X hP hD hS dX2_unlike_53
      · refine lv_aload_n hx hb dX2_unlike_39 rfl (lv_at hl 0 rfl) ?_
        refine gM0 X hP dX2_unlike_40 ?_
        refine lv_bipush (v := 7) hx hb dX2_unlike_43 (by decide) ?_
        obtain ⟨v7, ev7, bv7, hf⟩ := rds hf
        refine lM_cA X hP ev7 bv7 dX2_unlike_45 ?_
        refine lv_bipush (v := 8) hx hb dX2_unlike_46 (by decide) ?_
        refine bc_ne (tgt := 54) hx hb hf dX2_unlike_48 (by decide) (fun hf => ?_) (fun hf => ?_)
        · refine lv_aload_n hx hb dX2_unlike_54 rfl (lv_at hl 0 rfl) ?_
          refine gM0 X hP dX2_unlike_55 ?_
          refine lv_bipush (v := 101) hx hb dX2_unlike_58 (by decide) ?_
          refine lv_iconst (v := 2) hx hb dX2_unlike_60 (by decide) ?_
          refine lv_aload_n hx hb dX2_unlike_61 rfl (lv_at hl 0 rfl) ?_
          refine gM0 X hP dX2_unlike_62 ?_
          refine lv_bipush (v := 7) hx hb dX2_unlike_65 (by decide) ?_
          obtain ⟨v8, ev8, bv8, hf⟩ := rds hf
          refine lM_cA X hP ev8 bv8 dX2_unlike_67 ?_
          refine lv_imul hx hb dX2_unlike_68 ?_
          refine lv_iadd hx hb dX2_unlike_69 ?_
          refine lv_iload_n hx hb dX2_unlike_70 rfl (lv_at hl 1 rfl) ?_
          obtain ⟨c9, ec9, bc9, hf⟩ := wrs hf
          refine sM_cA X hP hD hS ec9 bc9 dX2_unlike_71 (fun H locs hP hD hS => ?_)
          refine lv_aload_n hx hb dX2_unlike_72 rfl (lv_at hl 0 rfl) ?_
          refine gM0 X hP dX2_unlike_73 ?_
          refine lv_bipush (v := 101) hx hb dX2_unlike_76 (by decide) ?_
          refine lv_iconst (v := 2) hx hb dX2_unlike_78 (by decide) ?_
          refine lv_aload_n hx hb dX2_unlike_79 rfl (lv_at hl 0 rfl) ?_
          refine gM0 X hP dX2_unlike_80 ?_
          refine lv_bipush (v := 7) hx hb dX2_unlike_83 (by decide) ?_
          obtain ⟨v10, ev10, bv10, hf⟩ := rds hf
          refine lM_cA X hP ev10 bv10 dX2_unlike_85 ?_
          refine lv_imul hx hb dX2_unlike_86 ?_
          refine lv_iadd hx hb dX2_unlike_87 ?_
          refine lv_iconst (v := 1) hx hb dX2_unlike_88 (by decide) ?_
          refine lv_iadd hx hb dX2_unlike_89 ?_
          refine lv_iload_n hx hb dX2_unlike_90 rfl (lv_at hl 2 rfl) ?_
          obtain ⟨c11, ec11, bc11, hf⟩ := wrs hf
          refine sM_cA X hP hD hS ec11 bc11 dX2_unlike_91 (fun H locs hP hD hS => ?_)
          refine lv_aload_n hx hb dX2_unlike_92 rfl (lv_at hl 0 rfl) ?_
          refine gM0 X hP dX2_unlike_93 ?_
          refine lv_bipush (v := 7) hx hb dX2_unlike_96 (by decide) ?_
          refine lv_dup2_11 hx hb dX2_unlike_98 rfl rfl ?_
          obtain ⟨v12, ev12, bv12, hf⟩ := rds hf
          refine lM_cA X hP ev12 bv12 dX2_unlike_99 ?_
          refine lv_iconst (v := 1) hx hb dX2_unlike_100 (by decide) ?_
          refine lv_iadd hx hb dX2_unlike_101 ?_
          obtain ⟨v13, ev13, hf⟩ := lts hf
          refine tpi ev13 ?_
          obtain ⟨c14, ec14, bc14, hf⟩ := wrs hf
          refine sM_cA X hP hD hS ec14 bc14 dX2_unlike_102 (fun H locs hP hD hS => ?_)
          refine lv_aload_n hx hb dX2_unlike_103 rfl (lv_at hl 0 rfl) ?_
          refine gM0 X hP dX2_unlike_104 ?_
          refine lv_bipush (v := 7) hx hb dX2_unlike_107 (by decide) ?_
          obtain ⟨v15, ev15, bv15, hf⟩ := rds hf
          refine lM_cA X hP ev15 bv15 dX2_unlike_109 ?_
          cases hf
          exact rI X hP hD hS dX2_unlike_110
        · refine lv_bipush (v := (-2)) hx hb dX2_unlike_51 (by decide) ?_
          cases hf
          exact rI X hP hD hS dX2_unlike_53
set_option maxHeartbeats 4000000 in
theorem met_M_canBe {l : Launch} {g : gG} {h : Nat} {ad : Nat → Nat} {sTaped : Int32} {sFault : Int32} {sFaultP : Int32} {sAt : Int32} {sPlace : Int32} {sToken : Int32} {sNumber : Int32} {sWord : Int64} {sText0 : Int32} {sWritten : Int32} {sSort0 : Int32} {sPiled : Int32} {sOpens : Int32} {sWhole : Int32} {sOnce : Int32} {sIsW : Int32} {sDied : Int32} {cA : Nat → Int32} {cIm : Nat → Int32} {cTx : Nat → Int32} {cTp : Nat → Int32} {cPl : Nat → Int32} {cNm : Nat → Int32} {cVa : Nat → Int64} {cTr : Nat → Int32} {cAs : Nat → Int32} {cLi : Nat → Int32} {cSa : Nat → Int32} {cHd : Nat → Int32} {x1 : Int32} {x2 : Int32} {r : Int32} {φ : Nat} (hf : M_canBe φ cA cHd x1 x2 = some r) : CC l yX2_canBe (ws_ yX2_canBe cX2_canBe 6 (some .boolean)) ({ frames := 0, cells := 0, slots := 0, locals := 0 } : Room) g [.ref h, .int x1, .int x2] (mW g h ad sTaped sFault sFaultP sAt sPlace sToken sNumber sWord sText0 sWritten sSort0 sPiled sOpens sWhole sOnce sIsW sDied cA cIm cTx cTp cPl cNm cVa cTr cAs cLi cSa cHd) (some (.int r)) (mW g h ad sTaped sFault sFaultP sAt sPlace sToken sNumber sWord sText0 sWritten sSort0 sPiled sOpens sWhole sOnce sIsW sDied cA cIm cTx cTp cPl cNm cVa cTr cAs cLi cSa cHd) 0 0 := by
  refine CC.of RX2 rfl plain_X2 (Nat.le_of_ble_eq_true rfl) (fun p e s m below meth c A ls X hP hD hS hl => ?_)
  have hx := X.1
  have hb := X.2.1
  have hown := X.2.2.2.2.2.1
  have hts := X.2.2.2.2.2.2.1
  have hl : lv_has ls 6 [(0, .ref h), (1, .int x1), (2, .int x2)] := hl
  unfold M_canBe at hf
  refine lv_iconst (v := 0) hx hb dX2_canBe_0 (by decide) ?_
  refine lv_istore_n (lv' := [(3, .int 0), (0, .ref h), (1, .int x1), (2, .int x2)]) hx hb dX2_canBe_1 rfl hl (by decide) rfl (fun ls hl => ?_)
  have hL4 : ∀ (n2 : Nat) (v1 : Int32), M_canBe_L2 φ x1 x2 cA cHd n2 v1 = some r → ∀ (H : Heap) (locs : List Loc) (ls : Array Slot), va_P g.1 vwCl (mW g h ad sTaped sFault sFaultP sAt sPlace sToken sNumber sWord sText0 sWritten sSort0 sPiled sOpens sWhole sOnce sIsW sDied cA cIm cTx cTp cPl cNm cVa cTr cAs cLi cSa cHd) H → va_D A (mW g h ad sTaped sFault sFaultP sAt sPlace sToken sNumber sWord sText0 sWritten sSort0 sPiled sOpens sWhole sOnce sIsW sDied cA cIm cTx cTp cPl cNm cVa cTr cAs cLi cSa cHd) → va_S A s.heap H locs → lv_has ls 6 [(0, .ref h), (1, .int x1), (2, .int x2), (3, .int v1)] → W p l e ({ frames := 0, cells := 0, slots := 0, locals := 0 } : Room) s m ([.ref h, .int x1, .int x2] : List Value).toArray below meth c H locs 0 0 (MQ below (QQ g (some (.int r)) (mW g h ad sTaped sFault sFaultP sAt sPlace sToken sNumber sWord sText0 sWritten sSort0 sPiled sOpens sWhole sOnce sIsW sDied cA cIm cTx cTp cPl cNm cVa cTr cAs cLi cSa cHd) A) ([.ref h, .int x1, .int x2] : List Value).toArray s 0 0 A) (F0 m 2 ls []) := by
    intro n2
    induction n2 with
    | zero =>
      intro v1 hf
      exact nn hf
    | succ n2 ih5 =>
      intro v1 hf H locs ls hP hD hS hl
      rw [M_canBe_L2] at hf
      refine lv_iload_n hx hb dX2_canBe_2 rfl (lv_at hl 3 rfl) ?_
      refine lv_aload_n hx hb dX2_canBe_3 rfl (lv_at hl 0 rfl) ?_
      refine gM0 X hP dX2_canBe_4 ?_
      refine lv_bipush (v := 7) hx hb dX2_canBe_7 (by decide) ?_
      obtain ⟨v7, ev7, bv7, hf⟩ := rds hf
      refine lM_cA X hP ev7 bv7 dX2_canBe_9 ?_
      refine bc_ge (tgt := 95) hx hb hf dX2_canBe_10 (by decide) (fun hf => ?_) (fun hf => ?_)
      · refine lv_iconst (v := 1) hx hb dX2_canBe_95 (by decide) ?_
        cases hf
        exact rZ X rfl hP hD hS dX2_canBe_96
      · refine lv_aload_n hx hb dX2_canBe_13 rfl (lv_at hl 0 rfl) ?_
        refine gM0 X hP dX2_canBe_14 ?_
        refine lv_bipush (v := 101) hx hb dX2_canBe_17 (by decide) ?_
        refine lv_iconst (v := 2) hx hb dX2_canBe_19 (by decide) ?_
        refine lv_iload_n hx hb dX2_canBe_20 rfl (lv_at hl 3 rfl) ?_
        refine lv_imul hx hb dX2_canBe_21 ?_
        refine lv_iadd hx hb dX2_canBe_22 ?_
        obtain ⟨v8, ev8, bv8, hf⟩ := rds hf
        refine lM_cA X hP ev8 bv8 dX2_canBe_23 ?_
        refine lv_istore (lv' := [(4, .int v8), (0, .ref h), (1, .int x1), (2, .int x2), (3, .int v1)]) hx hb dX2_canBe_24 hl (by decide) rfl (fun ls hl => ?_)
        refine lv_aload_n hx hb dX2_canBe_26 rfl (lv_at hl 1 rfl) ?_
        refine gM0 X hP dX2_canBe_27 ?_
        refine lv_bipush (v := 101) hx hb dX2_canBe_30 (by decide) ?_
        refine lv_iconst (v := 2) hx hb dX2_canBe_32 (by decide) ?_
        refine lv_iload_n hx hb dX2_canBe_33 rfl (lv_at hl 4 rfl) ?_
        refine lv_imul hx hb dX2_canBe_34 ?_
        refine lv_iadd hx hb dX2_canBe_35 ?_
        refine lv_iconst (v := 1) hx hb dX2_canBe_36 (by decide) ?_
        refine lv_iadd hx hb dX2_canBe_37 ?_
        obtain ⟨v9, ev9, bv9, hf⟩ := rds hf
        refine lM_cA X hP ev9 bv9 dX2_canBe_38 ?_
        refine lv_istore (lv' := [(5, .int v9), (4, .int v8), (0, .ref h), (1, .int x1), (2, .int x2), (3, .int v1)]) hx hb dX2_canBe_39 hl (by decide) rfl (fun ls hl => ?_)
        refine lv_iload hx hb dX2_canBe_41 (lv_at hl 1 rfl) ?_
        refine lv_iload_n hx hb dX2_canBe_43 rfl (lv_at hl 3 rfl) ?_
        obtain ⟨k10, ek10, hf⟩ := jns hf
        have hj11 : k10 = some r → ∀ (H : Heap) (locs : List Loc) (ls : Array Slot), va_P g.1 vwCl (mW g h ad sTaped sFault sFaultP sAt sPlace sToken sNumber sWord sText0 sWritten sSort0 sPiled sOpens sWhole sOnce sIsW sDied cA cIm cTx cTp cPl cNm cVa cTr cAs cLi cSa cHd) H → va_D A (mW g h ad sTaped sFault sFaultP sAt sPlace sToken sNumber sWord sText0 sWritten sSort0 sPiled sOpens sWhole sOnce sIsW sDied cA cIm cTx cTp cPl cNm cVa cTr cAs cLi cSa cHd) → va_S A s.heap H locs → lv_has ls 6 [(0, .ref h), (1, .int x1), (2, .int x2), (3, .int v1), (4, .int v8), (5, .int v9)] → W p l e ({ frames := 0, cells := 0, slots := 0, locals := 0 } : Room) s m ([.ref h, .int x1, .int x2] : List Value).toArray below meth c H locs 0 0 (MQ below (QQ g (some (.int r)) (mW g h ad sTaped sFault sFaultP sAt sPlace sToken sNumber sWord sText0 sWritten sSort0 sPiled sOpens sWhole sOnce sIsW sDied cA cIm cTx cTp cPl cNm cVa cTr cAs cLi cSa cHd) A) ([.ref h, .int x1, .int x2] : List Value).toArray s 0 0 A) (F0 m 64 ls []) := by
          intro hf H locs ls hP hD hS hl
          rw [ek10] at hf
          refine lv_iload hx hb dX2_canBe_64 (lv_at hl 5 rfl) ?_
          refine lv_iload_n hx hb dX2_canBe_66 rfl (lv_at hl 1 rfl) ?_
          refine bc_ne (tgt := 89) hx hb hf dX2_canBe_67 (by decide) (fun hf => ?_) (fun hf => ?_)
          · obtain ⟨v12, ev12, hf⟩ := lts hf
            refine lv_iinc (v := v12) (lv' := [(3, .int v12), (0, .ref h), (1, .int x1), (2, .int x2), (4, .int v8), (5, .int v9)]) hx hb dX2_canBe_89 hl (k := 3) rfl (by rw [ev12]; rfl) (by decide) rfl (fun ls hl => ?_)
            refine lv_goto (tgt := 2) hx hb dX2_canBe_92 (by decide) ?_
            exact ih5 _ hf _ _ _ hP hD hS (lv_sub hl [1, 2, 3, 0] rfl)
          · refine lv_iload hx hb dX2_canBe_70 (lv_at hl 4 rfl) ?_
            refine lv_iload_n hx hb dX2_canBe_72 rfl (lv_at hl 1 rfl) ?_
            refine bc_ge (tgt := 89) hx hb hf dX2_canBe_73 (by decide) (fun hf => ?_) (fun hf => ?_)
            · obtain ⟨v13, ev13, hf⟩ := lts hf
              refine lv_iinc (v := v13) (lv' := [(3, .int v13), (0, .ref h), (1, .int x1), (2, .int x2), (4, .int v8), (5, .int v9)]) hx hb dX2_canBe_89 hl (k := 3) rfl (by rw [ev13]; rfl) (by decide) rfl (fun ls hl => ?_)
              refine lv_goto (tgt := 2) hx hb dX2_canBe_92 (by decide) ?_
              exact ih5 _ hf _ _ _ hP hD hS (lv_sub hl [1, 2, 3, 0] rfl)
            · refine lv_aload_n hx hb dX2_canBe_76 rfl (lv_at hl 0 rfl) ?_
              refine gM28 X hP dX2_canBe_77 ?_
              refine lv_iload hx hb dX2_canBe_80 (lv_at hl 4 rfl) ?_
              obtain ⟨v14, ev14, bv14, hf⟩ := rds hf
              refine lM_cHd X hP ev14 bv14 dX2_canBe_82 ?_
              refine lv_iload_n hx hb dX2_canBe_83 rfl (lv_at hl 2 rfl) ?_
              refine bc_ne (tgt := 89) hx hb hf dX2_canBe_84 (by decide) (fun hf => ?_) (fun hf => ?_)
              · obtain ⟨v15, ev15, hf⟩ := lts hf
                refine lv_iinc (v := v15) (lv' := [(3, .int v15), (0, .ref h), (1, .int x1), (2, .int x2), (4, .int v8), (5, .int v9)]) hx hb dX2_canBe_89 hl (k := 3) rfl (by rw [ev15]; rfl) (by decide) rfl (fun ls hl => ?_)
                refine lv_goto (tgt := 2) hx hb dX2_canBe_92 (by decide) ?_
                exact ih5 _ hf _ _ _ hP hD hS (lv_sub hl [1, 2, 3, 0] rfl)
              · refine lv_iconst (v := 0) hx hb dX2_canBe_87 (by decide) ?_
                cases hf
                exact rZ X rfl hP hD hS dX2_canBe_88
        clear ek10
        refine bc_ne (tgt := 64) hx hb hf dX2_canBe_44 (by decide) (fun hf => ?_) (fun hf => ?_)
        · exact hj11 hf _ _ _ hP hD hS (lv_sub hl [2, 3, 4, 5, 1, 0] rfl)
        · refine lv_iload hx hb dX2_canBe_47 (lv_at hl 0 rfl) ?_
          refine lv_iload_n hx hb dX2_canBe_49 rfl (lv_at hl 3 rfl) ?_
          refine bc_ge (tgt := 64) hx hb hf dX2_canBe_50 (by decide) (fun hf => ?_) (fun hf => ?_)
          · exact hj11 hf _ _ _ hP hD hS (lv_sub hl [2, 3, 4, 5, 1, 0] rfl)
          · refine lv_aload_n hx hb dX2_canBe_53 rfl (lv_at hl 2 rfl) ?_
            refine gM28 X hP dX2_canBe_54 ?_
            refine lv_iload hx hb dX2_canBe_57 (lv_at hl 0 rfl) ?_
            obtain ⟨v16, ev16, bv16, hf⟩ := rds hf
            refine lM_cHd X hP ev16 bv16 dX2_canBe_59 ?_
            refine lv_iload_n hx hb dX2_canBe_60 rfl (lv_at hl 4 rfl) ?_
            refine bc_eq (tgt := 87) hx hb hf dX2_canBe_61 (by decide) (fun hf => ?_) (fun hf => ?_)
            · refine lv_iconst (v := 0) hx hb dX2_canBe_87 (by decide) ?_
              cases hf
              exact rZ X rfl hP hD hS dX2_canBe_88
            · exact hj11 hf _ _ _ hP hD hS (lv_sub hl [2, 3, 4, 5, 1, 0] rfl)
  exact hL4 _ _ hf _ _ _ hP hD hS (lv_sub hl [1, 2, 3, 0] rfl)
set_option maxHeartbeats 4000000 in
theorem met_M_has {l : Launch} {g : gG} {h : Nat} {ad : Nat → Nat} {sTaped : Int32} {sFault : Int32} {sFaultP : Int32} {sAt : Int32} {sPlace : Int32} {sToken : Int32} {sNumber : Int32} {sWord : Int64} {sText0 : Int32} {sWritten : Int32} {sSort0 : Int32} {sPiled : Int32} {sOpens : Int32} {sWhole : Int32} {sOnce : Int32} {sIsW : Int32} {sDied : Int32} {cA : Nat → Int32} {cIm : Nat → Int32} {cTx : Nat → Int32} {cTp : Nat → Int32} {cPl : Nat → Int32} {cNm : Nat → Int32} {cVa : Nat → Int64} {cTr : Nat → Int32} {cAs : Nat → Int32} {cLi : Nat → Int32} {cSa : Nat → Int32} {cHd : Nat → Int32} {x1 : Int32} {x2 : Int32} {x3 : Int32} {x4 : Int32} {r : Int32} {ncA : Nat → Int32} (hf : M_has cA x1 x2 x3 x4 = some (r, ncA)) : CC l yX2_has (ws_ yX2_has cX2_has 5 (some .boolean)) ({ frames := 1, cells := 0, slots := 0, locals := 22 } : Room) g [.ref h, .int x1, .int x2, .int x3, .int x4] (mW g h ad sTaped sFault sFaultP sAt sPlace sToken sNumber sWord sText0 sWritten sSort0 sPiled sOpens sWhole sOnce sIsW sDied cA cIm cTx cTp cPl cNm cVa cTr cAs cLi cSa cHd) (some (.int r)) (mW g h ad sTaped sFault sFaultP sAt sPlace sToken sNumber sWord sText0 sWritten sSort0 sPiled sOpens sWhole sOnce sIsW sDied ncA cIm cTx cTp cPl cNm cVa cTr cAs cLi cSa cHd) 0 0 := by
  refine CC.of RX2 rfl plain_X2 (Nat.le_of_ble_eq_true rfl) (fun p e s m below meth c A ls X hP hD hS hl => ?_)
  have hx := X.1
  have hb := X.2.1
  have hown := X.2.2.2.2.2.1
  have hts := X.2.2.2.2.2.2.1
  have hl : lv_has ls 5 [(0, .ref h), (1, .int x1), (2, .int x2), (3, .int x3), (4, .int x4)] := hl
  unfold M_has at hf
  refine lv_iload_n hx hb dX2_has_0 rfl (lv_at hl 2 rfl) ?_
  refine lv_iconst (v := 0) hx hb dX2_has_1 (by decide) ?_
  refine lv_iconst (v := 1) hx hb dX2_has_2 (by decide) ?_
  obtain ⟨r1, k2, hf⟩ := bd1s hf
  refine cSi (rest := []) X (met_M_isIn (g := g) k2) gs_X2_X2_isIn dy_X2_isIn ⟨⟨rfl, rfl⟩, Nat.le_of_ble_eq_true rfl, Nat.le_of_ble_eq_true rfl⟩ hP hD hS hl.1 rfl rfl ⟨Nat.zero_le _, Nat.zero_le _⟩ (Nat.le_of_ble_eq_true rfl) dX2_has_3 (fun H locs hP hD hS => ?_)
  refine bq_eq (tgt := 29) hx hb hf dX2_has_6 (by decide) (fun hf => ?_) (fun hf => ?_)
  · refine lv_iconst (v := 0) hx hb dX2_has_29 (by decide) ?_
    cases hf
    exact rZ X rfl hP hD hS dX2_has_30
  · refine lv_iload_n hx hb dX2_has_9 rfl (lv_at hl 3 rfl) ?_
    refine lv_iconst (v := 0) hx hb dX2_has_10 (by decide) ?_
    refine lv_iconst (v := 1) hx hb dX2_has_11 (by decide) ?_
    obtain ⟨r3, k4, hf⟩ := bd1s hf
    refine cSi (rest := []) X (met_M_isIn (g := g) k4) gs_X2_X2_isIn dy_X2_isIn ⟨⟨rfl, rfl⟩, Nat.le_of_ble_eq_true rfl, Nat.le_of_ble_eq_true rfl⟩ hP hD hS hl.1 rfl rfl ⟨Nat.zero_le _, Nat.zero_le _⟩ (Nat.le_of_ble_eq_true rfl) dX2_has_12 (fun H locs hP hD hS => ?_)
    refine bq_eq (tgt := 29) hx hb hf dX2_has_15 (by decide) (fun hf => ?_) (fun hf => ?_)
    · refine lv_iconst (v := 0) hx hb dX2_has_29 (by decide) ?_
      cases hf
      exact rZ X rfl hP hD hS dX2_has_30
    · refine lv_iload hx hb dX2_has_18 (lv_at hl 4 rfl) ?_
      refine lv_iconst (v := 0) hx hb dX2_has_20 (by decide) ?_
      refine lv_bipush (v := 99) hx hb dX2_has_21 (by decide) ?_
      obtain ⟨r5, k6, hf⟩ := bd1s hf
      refine cSi (rest := []) X (met_M_isIn (g := g) k6) gs_X2_X2_isIn dy_X2_isIn ⟨⟨rfl, rfl⟩, Nat.le_of_ble_eq_true rfl, Nat.le_of_ble_eq_true rfl⟩ hP hD hS hl.1 rfl rfl ⟨Nat.zero_le _, Nat.zero_le _⟩ (Nat.le_of_ble_eq_true rfl) dX2_has_23 (fun H locs hP hD hS => ?_)
      refine bq_ne (tgt := 31) hx hb hf dX2_has_26 (by decide) (fun hf => ?_) (fun hf => ?_)
      · refine lv_aload_n hx hb dX2_has_31 rfl (lv_at hl 0 rfl) ?_
        refine gM0 X hP dX2_has_32 ?_
        refine lv_bipush (v := 117) hx hb dX2_has_35 (by decide) ?_
        refine lv_iload_n hx hb dX2_has_37 rfl (lv_at hl 1 rfl) ?_
        obtain ⟨v7, k8, hf⟩ := bd1s hf
        have hj9 : ∀ (H : Heap) (locs : List Loc) (ls : Array Slot), va_P g.1 vwCl (mW g h ad sTaped sFault sFaultP sAt sPlace sToken sNumber sWord sText0 sWritten sSort0 sPiled sOpens sWhole sOnce sIsW sDied cA cIm cTx cTp cPl cNm cVa cTr cAs cLi cSa cHd) H → va_D A (mW g h ad sTaped sFault sFaultP sAt sPlace sToken sNumber sWord sText0 sWritten sSort0 sPiled sOpens sWhole sOnce sIsW sDied cA cIm cTx cTp cPl cNm cVa cTr cAs cLi cSa cHd) → va_S A s.heap H locs → lv_has ls 5 [(2, .int x2), (3, .int x3), (4, .int x4)] → W p l e ({ frames := 1, cells := 0, slots := 0, locals := 22 } : Room) s m ([.ref h, .int x1, .int x2, .int x3, .int x4] : List Value).toArray below meth c H locs 0 0 (MQ below (QQ g (some (.int r)) (mW g h ad sTaped sFault sFaultP sAt sPlace sToken sNumber sWord sText0 sWritten sSort0 sPiled sOpens sWhole sOnce sIsW sDied ncA cIm cTx cTp cPl cNm cVa cTr cAs cLi cSa cHd) A) ([.ref h, .int x1, .int x2, .int x3, .int x4] : List Value).toArray s 0 0 A) (F0 m 46 ls [.int v7, .int 117, .ref (ad 0)]) := by
          intro H locs ls hP hD hS hl
          refine lv_iadd hx hb dX2_has_46 ?_
          refine lv_iconst (v := 2) hx hb dX2_has_47 (by decide) ?_
          refine lv_iload_n hx hb dX2_has_48 rfl (lv_at hl 0 rfl) ?_
          refine lv_imul hx hb dX2_has_49 ?_
          refine lv_iadd hx hb dX2_has_50 ?_
          refine lv_iload_n hx hb dX2_has_51 rfl (lv_at hl 1 rfl) ?_
          refine lv_iadd hx hb dX2_has_52 ?_
          refine lv_iload hx hb dX2_has_53 (lv_at hl 2 rfl) ?_
          obtain ⟨c10, ec10, bc10, hf⟩ := wrs hf
          refine sM_cA X hP hD hS ec10 bc10 dX2_has_55 (fun H locs hP hD hS => ?_)
          refine lv_iconst (v := 1) hx hb dX2_has_56 (by decide) ?_
          cases hf
          exact rZ X rfl hP hD hS dX2_has_57
        replace hf := k8
        clear k8
        refine bq_eq (tgt := 45) hx hb hf dX2_has_38 (by decide) (fun hf => ?_) (fun hf => ?_)
        · refine lv_iconst (v := 0) hx hb dX2_has_45 (by decide) ?_
          cases hf
          exact hj9 _ _ _ hP hD hS (lv_sub hl [2, 3, 4] rfl)
        · refine lv_iconst (v := 4) hx hb dX2_has_41 (by decide) ?_
          refine lv_goto (tgt := 46) hx hb dX2_has_42 (by decide) ?_
          cases hf
          exact hj9 _ _ _ hP hD hS (lv_sub hl [2, 3, 4] rfl)
      · refine lv_iconst (v := 0) hx hb dX2_has_29 (by decide) ?_
        cases hf
        exact rZ X rfl hP hD hS dX2_has_30
set_option maxHeartbeats 4000000 in
theorem met_M_rests {l : Launch} {g : gG} {h : Nat} {ad : Nat → Nat} {sTaped : Int32} {sFault : Int32} {sFaultP : Int32} {sAt : Int32} {sPlace : Int32} {sToken : Int32} {sNumber : Int32} {sWord : Int64} {sText0 : Int32} {sWritten : Int32} {sSort0 : Int32} {sPiled : Int32} {sOpens : Int32} {sWhole : Int32} {sOnce : Int32} {sIsW : Int32} {sDied : Int32} {cA : Nat → Int32} {cIm : Nat → Int32} {cTx : Nat → Int32} {cTp : Nat → Int32} {cPl : Nat → Int32} {cNm : Nat → Int32} {cVa : Nat → Int64} {cTr : Nat → Int32} {cAs : Nat → Int32} {cLi : Nat → Int32} {cSa : Nat → Int32} {cHd : Nat → Int32} {r : Int32} {φ : Nat} (hf : M_rests φ cA = some r) : CC l yX2_rests (ws_ yX2_rests cX2_rests 5 (some .int)) ({ frames := 0, cells := 0, slots := 0, locals := 0 } : Room) g [.ref h] (mW g h ad sTaped sFault sFaultP sAt sPlace sToken sNumber sWord sText0 sWritten sSort0 sPiled sOpens sWhole sOnce sIsW sDied cA cIm cTx cTp cPl cNm cVa cTr cAs cLi cSa cHd) (some (.int r)) (mW g h ad sTaped sFault sFaultP sAt sPlace sToken sNumber sWord sText0 sWritten sSort0 sPiled sOpens sWhole sOnce sIsW sDied cA cIm cTx cTp cPl cNm cVa cTr cAs cLi cSa cHd) 0 0 := by
  refine CC.of RX2 rfl plain_X2 (Nat.le_of_ble_eq_true rfl) (fun p e s m below meth c A ls X hP hD hS hl => ?_)
  have hx := X.1
  have hb := X.2.1
  have hown := X.2.2.2.2.2.1
  have hts := X.2.2.2.2.2.2.1
  have hl : lv_has ls 5 [(0, .ref h)] := hl
  unfold M_rests at hf
  refine lv_iconst (v := 0) hx hb dX2_rests_0 (by decide) ?_
  refine lv_istore_n (lv' := [(1, .int 0), (0, .ref h)]) hx hb dX2_rests_1 rfl hl (by decide) rfl (fun ls hl => ?_)
  refine lv_iconst (v := 0) hx hb dX2_rests_2 (by decide) ?_
  refine lv_istore_n (lv' := [(2, .int 0), (1, .int 0), (0, .ref h)]) hx hb dX2_rests_3 rfl hl (by decide) rfl (fun ls hl => ?_)
  obtain ⟨v3, k8, hf⟩ := bd1s hf
  have hE5 : ∀ (H : Heap) (locs : List Loc) (ls : Array Slot), va_P g.1 vwCl (mW g h ad sTaped sFault sFaultP sAt sPlace sToken sNumber sWord sText0 sWritten sSort0 sPiled sOpens sWhole sOnce sIsW sDied cA cIm cTx cTp cPl cNm cVa cTr cAs cLi cSa cHd) H → va_D A (mW g h ad sTaped sFault sFaultP sAt sPlace sToken sNumber sWord sText0 sWritten sSort0 sPiled sOpens sWhole sOnce sIsW sDied cA cIm cTx cTp cPl cNm cVa cTr cAs cLi cSa cHd) → va_S A s.heap H locs → lv_has ls 5 [(1, .int v3)] → W p l e ({ frames := 0, cells := 0, slots := 0, locals := 0 } : Room) s m ([.ref h] : List Value).toArray below meth c H locs 0 0 (MQ below (QQ g (some (.int r)) (mW g h ad sTaped sFault sFaultP sAt sPlace sToken sNumber sWord sText0 sWritten sSort0 sPiled sOpens sWhole sOnce sIsW sDied cA cIm cTx cTp cPl cNm cVa cTr cAs cLi cSa cHd) A) ([.ref h] : List Value).toArray s 0 0 A) (F0 m 116 ls []) := by
    intro H locs ls hP hD hS hl
    refine lv_iload_n hx hb dX2_rests_116 rfl (lv_at hl 0 rfl) ?_
    cases hf
    exact rI X hP hD hS dX2_rests_117
  have hL6 : ∀ (n4 : Nat) (v1 : Int32) (v2 : Int32), M_rests_L4 φ cA n4 v1 v2 = some v3 → ∀ (H : Heap) (locs : List Loc) (ls : Array Slot), va_P g.1 vwCl (mW g h ad sTaped sFault sFaultP sAt sPlace sToken sNumber sWord sText0 sWritten sSort0 sPiled sOpens sWhole sOnce sIsW sDied cA cIm cTx cTp cPl cNm cVa cTr cAs cLi cSa cHd) H → va_D A (mW g h ad sTaped sFault sFaultP sAt sPlace sToken sNumber sWord sText0 sWritten sSort0 sPiled sOpens sWhole sOnce sIsW sDied cA cIm cTx cTp cPl cNm cVa cTr cAs cLi cSa cHd) → va_S A s.heap H locs → lv_has ls 5 [(0, .ref h), (1, .int v1), (2, .int v2)] → W p l e ({ frames := 0, cells := 0, slots := 0, locals := 0 } : Room) s m ([.ref h] : List Value).toArray below meth c H locs 0 0 (MQ below (QQ g (some (.int r)) (mW g h ad sTaped sFault sFaultP sAt sPlace sToken sNumber sWord sText0 sWritten sSort0 sPiled sOpens sWhole sOnce sIsW sDied cA cIm cTx cTp cPl cNm cVa cTr cAs cLi cSa cHd) A) ([.ref h] : List Value).toArray s 0 0 A) (F0 m 4 ls []) := by
    intro n4
    induction n4 with
    | zero =>
      intro v1 v2 hf
      exact nn hf
    | succ n4 ih7 =>
      intro v1 v2 hf H locs ls hP hD hS hl
      rw [M_rests_L4] at hf
      refine lv_iload_n hx hb dX2_rests_4 rfl (lv_at hl 2 rfl) ?_
      refine lv_iconst (v := 2) hx hb dX2_rests_5 (by decide) ?_
      refine bc_ge (tgt := 116) hx hb hf dX2_rests_6 (by decide) (fun hf => ?_) (fun hf => ?_)
      · cases hf
        exact hE5 _ _ _ hP hD hS (lv_sub hl [1] rfl)
      · refine lv_iconst (v := 0) hx hb dX2_rests_9 (by decide) ?_
        refine lv_istore_n (lv' := [(3, .int 0), (0, .ref h), (1, .int v1), (2, .int v2)]) hx hb dX2_rests_10 rfl hl (by decide) rfl (fun ls hl => ?_)
        obtain ⟨v11, k16, hf⟩ := bd1s hf
        have hE13 : ∀ (H : Heap) (locs : List Loc) (ls : Array Slot), va_P g.1 vwCl (mW g h ad sTaped sFault sFaultP sAt sPlace sToken sNumber sWord sText0 sWritten sSort0 sPiled sOpens sWhole sOnce sIsW sDied cA cIm cTx cTp cPl cNm cVa cTr cAs cLi cSa cHd) H → va_D A (mW g h ad sTaped sFault sFaultP sAt sPlace sToken sNumber sWord sText0 sWritten sSort0 sPiled sOpens sWhole sOnce sIsW sDied cA cIm cTx cTp cPl cNm cVa cTr cAs cLi cSa cHd) → va_S A s.heap H locs → lv_has ls 5 [(0, .ref h), (1, .int v11), (2, .int v2)] → W p l e ({ frames := 0, cells := 0, slots := 0, locals := 0 } : Room) s m ([.ref h] : List Value).toArray below meth c H locs 0 0 (MQ below (QQ g (some (.int r)) (mW g h ad sTaped sFault sFaultP sAt sPlace sToken sNumber sWord sText0 sWritten sSort0 sPiled sOpens sWhole sOnce sIsW sDied cA cIm cTx cTp cPl cNm cVa cTr cAs cLi cSa cHd) A) ([.ref h] : List Value).toArray s 0 0 A) (F0 m 110 ls []) := by
          intro H locs ls hP hD hS hl
          obtain ⟨v17, ev17, hf⟩ := lts hf
          refine lv_iinc (v := v17) (lv' := [(2, .int v17), (0, .ref h), (1, .int v11)]) hx hb dX2_rests_110 hl (k := 2) rfl (by rw [ev17]; rfl) (by decide) rfl (fun ls hl => ?_)
          refine lv_goto (tgt := 4) hx hb dX2_rests_113 (by decide) ?_
          exact ih7 _ _ hf _ _ _ hP hD hS (lv_sub hl [1, 2, 0] rfl)
        have hL14 : ∀ (n12 : Nat) (v9 : Int32) (v10 : Int32), M_rests_L11 φ v2 cA n12 v9 v10 = some v11 → ∀ (H : Heap) (locs : List Loc) (ls : Array Slot), va_P g.1 vwCl (mW g h ad sTaped sFault sFaultP sAt sPlace sToken sNumber sWord sText0 sWritten sSort0 sPiled sOpens sWhole sOnce sIsW sDied cA cIm cTx cTp cPl cNm cVa cTr cAs cLi cSa cHd) H → va_D A (mW g h ad sTaped sFault sFaultP sAt sPlace sToken sNumber sWord sText0 sWritten sSort0 sPiled sOpens sWhole sOnce sIsW sDied cA cIm cTx cTp cPl cNm cVa cTr cAs cLi cSa cHd) → va_S A s.heap H locs → lv_has ls 5 [(0, .ref h), (1, .int v9), (2, .int v2), (3, .int v10)] → W p l e ({ frames := 0, cells := 0, slots := 0, locals := 0 } : Room) s m ([.ref h] : List Value).toArray below meth c H locs 0 0 (MQ below (QQ g (some (.int r)) (mW g h ad sTaped sFault sFaultP sAt sPlace sToken sNumber sWord sText0 sWritten sSort0 sPiled sOpens sWhole sOnce sIsW sDied cA cIm cTx cTp cPl cNm cVa cTr cAs cLi cSa cHd) A) ([.ref h] : List Value).toArray s 0 0 A) (F0 m 11 ls []) := by
          intro n12
          induction n12 with
          | zero =>
            intro v9 v10 hf
            exact nn hf
          | succ n12 ih15 =>
            intro v9 v10 hf H locs ls hP hD hS hl
            rw [M_rests_L11] at hf
            refine lv_iload_n hx hb dX2_rests_11 rfl (lv_at hl 3 rfl) ?_
            refine lv_iconst (v := 2) hx hb dX2_rests_12 (by decide) ?_
            refine bc_ge (tgt := 110) hx hb hf dX2_rests_13 (by decide) (fun hf => ?_) (fun hf => ?_)
            · cases hf
              exact hE13 _ _ _ hP hD hS (lv_sub hl [0, 1, 2] rfl)
            · refine lv_aload_n hx hb dX2_rests_16 rfl (lv_at hl 0 rfl) ?_
              refine gM0 X hP dX2_rests_17 ?_
              refine lv_bipush (v := 117) hx hb dX2_rests_20 (by decide) ?_
              refine lv_iconst (v := 2) hx hb dX2_rests_22 (by decide) ?_
              refine lv_iload_n hx hb dX2_rests_23 rfl (lv_at hl 2 rfl) ?_
              refine lv_imul hx hb dX2_rests_24 ?_
              refine lv_iadd hx hb dX2_rests_25 ?_
              refine lv_iload_n hx hb dX2_rests_26 rfl (lv_at hl 3 rfl) ?_
              refine lv_iadd hx hb dX2_rests_27 ?_
              obtain ⟨v18, ev18, bv18, hf⟩ := rds hf
              refine lM_cA X hP ev18 bv18 dX2_rests_28 ?_
              refine lv_aload_n hx hb dX2_rests_29 rfl (lv_at hl 0 rfl) ?_
              refine gM0 X hP dX2_rests_30 ?_
              refine lv_bipush (v := 117) hx hb dX2_rests_33 (by decide) ?_
              refine lv_iconst (v := 2) hx hb dX2_rests_35 (by decide) ?_
              refine lv_iconst (v := 1) hx hb dX2_rests_36 (by decide) ?_
              refine lv_iload_n hx hb dX2_rests_37 rfl (lv_at hl 2 rfl) ?_
              refine lv_isub hx hb dX2_rests_38 ?_
              refine lv_imul hx hb dX2_rests_39 ?_
              refine lv_iadd hx hb dX2_rests_40 ?_
              refine lv_iload_n hx hb dX2_rests_41 rfl (lv_at hl 3 rfl) ?_
              refine lv_iadd hx hb dX2_rests_42 ?_
              obtain ⟨v19, ev19, bv19, hf⟩ := rds hf
              refine lM_cA X hP ev19 bv19 dX2_rests_43 ?_
              obtain ⟨v20, k21, hf⟩ := bd1s hf
              have hj22 : ∀ (H : Heap) (locs : List Loc) (ls : Array Slot), va_P g.1 vwCl (mW g h ad sTaped sFault sFaultP sAt sPlace sToken sNumber sWord sText0 sWritten sSort0 sPiled sOpens sWhole sOnce sIsW sDied cA cIm cTx cTp cPl cNm cVa cTr cAs cLi cSa cHd) H → va_D A (mW g h ad sTaped sFault sFaultP sAt sPlace sToken sNumber sWord sText0 sWritten sSort0 sPiled sOpens sWhole sOnce sIsW sDied cA cIm cTx cTp cPl cNm cVa cTr cAs cLi cSa cHd) → va_S A s.heap H locs → lv_has ls 5 [(0, .ref h), (1, .int v9), (2, .int v2), (3, .int v10)] → W p l e ({ frames := 0, cells := 0, slots := 0, locals := 0 } : Room) s m ([.ref h] : List Value).toArray below meth c H locs 0 0 (MQ below (QQ g (some (.int r)) (mW g h ad sTaped sFault sFaultP sAt sPlace sToken sNumber sWord sText0 sWritten sSort0 sPiled sOpens sWhole sOnce sIsW sDied cA cIm cTx cTp cPl cNm cVa cTr cAs cLi cSa cHd) A) ([.ref h] : List Value).toArray s 0 0 A) (F0 m 83 ls [.int v20]) := by
                intro H locs ls hP hD hS hl
                refine lv_istore (lv' := [(4, .int v20), (0, .ref h), (1, .int v9), (2, .int v2), (3, .int v10)]) hx hb dX2_rests_83 hl (by decide) rfl (fun ls hl => ?_)
                refine lv_iload_n hx hb dX2_rests_85 rfl (lv_at hl 2 rfl) ?_
                refine lv_iload hx hb dX2_rests_86 (lv_at hl 0 rfl) ?_
                refine bq_eq (tgt := 101) hx hb hf dX2_rests_88 (by decide) (fun hf => ?_) (fun hf => ?_)
                · refine lv_iconst (v := 0) hx hb dX2_rests_101 (by decide) ?_
                  refine lv_ior hx hb dX2_rests_102 ?_
                  obtain ⟨v23, ev23, hf⟩ := lts hf
                  refine tpi ev23 ?_
                  refine lv_istore_n (lv' := [(1, .int v23), (4, .int v20), (0, .ref h), (2, .int v2), (3, .int v10)]) hx hb dX2_rests_103 rfl hl (by decide) rfl (fun ls hl => ?_)
                  obtain ⟨v24, ev24, hf⟩ := lts hf
                  refine lv_iinc (v := v24) (lv' := [(3, .int v24), (1, .int v23), (4, .int v20), (0, .ref h), (2, .int v2)]) hx hb dX2_rests_104 hl (k := 4) rfl (by rw [ev24]; rfl) (by decide) rfl (fun ls hl => ?_)
                  refine lv_goto (tgt := 11) hx hb dX2_rests_107 (by decide) ?_
                  exact ih15 _ _ hf _ _ _ hP hD hS (lv_sub hl [3, 1, 4, 0] rfl)
                · refine lv_iconst (v := 1) hx hb dX2_rests_91 (by decide) ?_
                  refine lv_iload_n hx hb dX2_rests_92 rfl (lv_at hl 3 rfl) ?_
                  refine lv_iconst (v := 2) hx hb dX2_rests_93 (by decide) ?_
                  refine lv_iload_n hx hb dX2_rests_94 rfl (lv_at hl 4 rfl) ?_
                  refine lv_imul hx hb dX2_rests_95 ?_
                  refine lv_iadd hx hb dX2_rests_96 ?_
                  refine lv_ishl hx hb dX2_rests_97 ?_
                  refine lv_goto (tgt := 102) hx hb dX2_rests_98 (by decide) ?_
                  refine lv_ior hx hb dX2_rests_102 ?_
                  obtain ⟨v25, ev25, hf⟩ := lts hf
                  refine tpi ev25 ?_
                  refine lv_istore_n (lv' := [(1, .int v25), (4, .int v20), (0, .ref h), (2, .int v2), (3, .int v10)]) hx hb dX2_rests_103 rfl hl (by decide) rfl (fun ls hl => ?_)
                  obtain ⟨v26, ev26, hf⟩ := lts hf
                  refine lv_iinc (v := v26) (lv' := [(3, .int v26), (1, .int v25), (4, .int v20), (0, .ref h), (2, .int v2)]) hx hb dX2_rests_104 hl (k := 4) rfl (by rw [ev26]; rfl) (by decide) rfl (fun ls hl => ?_)
                  refine lv_goto (tgt := 11) hx hb dX2_rests_107 (by decide) ?_
                  exact ih15 _ _ hf _ _ _ hP hD hS (lv_sub hl [3, 1, 4, 0] rfl)
              replace hf := k21
              clear k21
              refine bc_lt (tgt := 82) hx hb hf dX2_rests_44 (by decide) (fun hf => ?_) (fun hf => ?_)
              · refine lv_iconst (v := 0) hx hb dX2_rests_82 (by decide) ?_
                cases hf
                exact hj22 _ _ _ hP hD hS (lv_sub hl [0, 1, 2, 3] rfl)
              · refine lv_aload_n hx hb dX2_rests_47 rfl (lv_at hl 0 rfl) ?_
                refine gM0 X hP dX2_rests_48 ?_
                refine lv_bipush (v := 121) hx hb dX2_rests_51 (by decide) ?_
                refine lv_iconst (v := 2) hx hb dX2_rests_53 (by decide) ?_
                refine lv_iload_n hx hb dX2_rests_54 rfl (lv_at hl 2 rfl) ?_
                refine lv_imul hx hb dX2_rests_55 ?_
                refine lv_iadd hx hb dX2_rests_56 ?_
                refine lv_iload_n hx hb dX2_rests_57 rfl (lv_at hl 3 rfl) ?_
                refine lv_iadd hx hb dX2_rests_58 ?_
                obtain ⟨v27, ev27, bv27, hf⟩ := rds hf
                refine lM_cA X hP ev27 bv27 dX2_rests_59 ?_
                refine lv_aload_n hx hb dX2_rests_60 rfl (lv_at hl 0 rfl) ?_
                refine gM0 X hP dX2_rests_61 ?_
                refine lv_bipush (v := 121) hx hb dX2_rests_64 (by decide) ?_
                refine lv_iconst (v := 2) hx hb dX2_rests_66 (by decide) ?_
                refine lv_iload_n hx hb dX2_rests_67 rfl (lv_at hl 2 rfl) ?_
                refine lv_imul hx hb dX2_rests_68 ?_
                refine lv_iadd hx hb dX2_rests_69 ?_
                refine lv_iconst (v := 1) hx hb dX2_rests_70 (by decide) ?_
                refine lv_iadd hx hb dX2_rests_71 ?_
                refine lv_iload_n hx hb dX2_rests_72 rfl (lv_at hl 3 rfl) ?_
                refine lv_isub hx hb dX2_rests_73 ?_
                obtain ⟨v28, ev28, bv28, hf⟩ := rds hf
                refine lM_cA X hP ev28 bv28 dX2_rests_74 ?_
                refine bc_lt (tgt := 82) hx hb hf dX2_rests_75 (by decide) (fun hf => ?_) (fun hf => ?_)
                · refine lv_iconst (v := 0) hx hb dX2_rests_82 (by decide) ?_
                  cases hf
                  exact hj22 _ _ _ hP hD hS (lv_sub hl [0, 1, 2, 3] rfl)
                · refine lv_iconst (v := 1) hx hb dX2_rests_78 (by decide) ?_
                  refine lv_goto (tgt := 83) hx hb dX2_rests_79 (by decide) ?_
                  cases hf
                  exact hj22 _ _ _ hP hD hS (lv_sub hl [0, 1, 2, 3] rfl)
        exact hL14 _ _ _ k16 _ _ _ hP hD hS (lv_sub hl [1, 2, 3, 0] rfl)
  exact hL6 _ _ _ k8 _ _ _ hP hD hS (lv_sub hl [2, 1, 0] rfl)
theorem gs_X2_X2_common : GoodIn lw_all (va_wsS RX2 445 yX2_common (ws_ yX2_common cX2_common 5 (some .int))) := lw_S q1966 q1967 q148 q1968
theorem dy_X2_common : Dy yX2_common RX2 2 := by decide +kernel
set_option maxHeartbeats 4000000 in
theorem met_M_mixed {l : Launch} {g : gG} {h : Nat} {ad : Nat → Nat} {sTaped : Int32} {sFault : Int32} {sFaultP : Int32} {sAt : Int32} {sPlace : Int32} {sToken : Int32} {sNumber : Int32} {sWord : Int64} {sText0 : Int32} {sWritten : Int32} {sSort0 : Int32} {sPiled : Int32} {sOpens : Int32} {sWhole : Int32} {sOnce : Int32} {sIsW : Int32} {sDied : Int32} {cA : Nat → Int32} {cIm : Nat → Int32} {cTx : Nat → Int32} {cTp : Nat → Int32} {cPl : Nat → Int32} {cNm : Nat → Int32} {cVa : Nat → Int64} {cTr : Nat → Int32} {cAs : Nat → Int32} {cLi : Nat → Int32} {cSa : Nat → Int32} {cHd : Nat → Int32} {x1 : Int32} {r : Int32} {φ : Nat} (hf : M_mixed φ cA x1 = some r) : CC l yX2_mixed (ws_ yX2_mixed cX2_mixed 4 (some .int)) ({ frames := 1, cells := 0, slots := 0, locals := 24 } : Room) g [.ref h, .int x1] (mW g h ad sTaped sFault sFaultP sAt sPlace sToken sNumber sWord sText0 sWritten sSort0 sPiled sOpens sWhole sOnce sIsW sDied cA cIm cTx cTp cPl cNm cVa cTr cAs cLi cSa cHd) (some (.int r)) (mW g h ad sTaped sFault sFaultP sAt sPlace sToken sNumber sWord sText0 sWritten sSort0 sPiled sOpens sWhole sOnce sIsW sDied cA cIm cTx cTp cPl cNm cVa cTr cAs cLi cSa cHd) 0 0 := by
  refine CC.of RX2 rfl plain_X2 (Nat.le_of_ble_eq_true rfl) (fun p e s m below meth c A ls X hP hD hS hl => ?_)
  have hx := X.1
  have hb := X.2.1
  have hown := X.2.2.2.2.2.1
  have hts := X.2.2.2.2.2.2.1
  have hl : lv_has ls 4 [(0, .ref h), (1, .int x1)] := hl
  unfold M_mixed at hf
  refine lv_aload_n hx hb dX2_mixed_0 rfl (lv_at hl 0 rfl) ?_
  refine gM0 X hP dX2_mixed_1 ?_
  refine lv_bipush (v := 124) hx hb dX2_mixed_4 (by decide) ?_
  obtain ⟨v1, ev1, bv1, hf⟩ := rds hf
  refine lM_cA X hP ev1 bv1 dX2_mixed_6 ?_
  refine lv_aload_n hx hb dX2_mixed_7 rfl (lv_at hl 0 rfl) ?_
  refine gM0 X hP dX2_mixed_8 ?_
  refine lv_bipush (v := 123) hx hb dX2_mixed_11 (by decide) ?_
  obtain ⟨v2, ev2, bv2, hf⟩ := rds hf
  refine lM_cA X hP ev2 bv2 dX2_mixed_13 ?_
  refine lv_isub hx hb dX2_mixed_14 ?_
  obtain ⟨v3, ev3, hf⟩ := lts hf
  refine tpi ev3 ?_
  refine lv_istore_n (lv' := [(2, .int v3), (0, .ref h), (1, .int x1)]) hx hb dX2_mixed_15 rfl hl (by decide) rfl (fun ls hl => ?_)
  refine lv_aload_n hx hb dX2_mixed_16 rfl (lv_at hl 1 rfl) ?_
  refine gM0 X hP dX2_mixed_17 ?_
  refine lv_bipush (v := 121) hx hb dX2_mixed_20 (by decide) ?_
  obtain ⟨v4, ev4, bv4, hf⟩ := rds hf
  refine lM_cA X hP ev4 bv4 dX2_mixed_22 ?_
  refine lv_aload_n hx hb dX2_mixed_23 rfl (lv_at hl 1 rfl) ?_
  refine gM0 X hP dX2_mixed_24 ?_
  refine lv_bipush (v := 123) hx hb dX2_mixed_27 (by decide) ?_
  obtain ⟨v5, ev5, bv5, hf⟩ := rds hf
  refine lM_cA X hP ev5 bv5 dX2_mixed_29 ?_
  refine lv_isub hx hb dX2_mixed_30 ?_
  refine lv_aload_n hx hb dX2_mixed_31 rfl (lv_at hl 1 rfl) ?_
  refine gM0 X hP dX2_mixed_32 ?_
  refine lv_bipush (v := 122) hx hb dX2_mixed_35 (by decide) ?_
  obtain ⟨v6, ev6, bv6, hf⟩ := rds hf
  refine lM_cA X hP ev6 bv6 dX2_mixed_37 ?_
  refine lv_isub hx hb dX2_mixed_38 ?_
  refine lv_aload_n hx hb dX2_mixed_39 rfl (lv_at hl 1 rfl) ?_
  refine gM0 X hP dX2_mixed_40 ?_
  refine lv_bipush (v := 124) hx hb dX2_mixed_43 (by decide) ?_
  obtain ⟨v7, ev7, bv7, hf⟩ := rds hf
  refine lM_cA X hP ev7 bv7 dX2_mixed_45 ?_
  refine lv_iadd hx hb dX2_mixed_46 ?_
  obtain ⟨v8, ev8, hf⟩ := lts hf
  refine tpi ev8 ?_
  refine lv_istore_n (lv' := [(3, .int v8), (2, .int v3), (0, .ref h), (1, .int x1)]) hx hb dX2_mixed_47 rfl hl (by decide) rfl (fun ls hl => ?_)
  refine lv_iload_n hx hb dX2_mixed_48 rfl (lv_at hl 0 rfl) ?_
  obtain ⟨v9, v10, k11, hf⟩ := bd2s hf
  have hj12 : ∀ (H : Heap) (locs : List Loc) (ls : Array Slot), va_P g.1 vwCl (mW g h ad sTaped sFault sFaultP sAt sPlace sToken sNumber sWord sText0 sWritten sSort0 sPiled sOpens sWhole sOnce sIsW sDied cA cIm cTx cTp cPl cNm cVa cTr cAs cLi cSa cHd) H → va_D A (mW g h ad sTaped sFault sFaultP sAt sPlace sToken sNumber sWord sText0 sWritten sSort0 sPiled sOpens sWhole sOnce sIsW sDied cA cIm cTx cTp cPl cNm cVa cTr cAs cLi cSa cHd) → va_S A s.heap H locs → lv_has ls 4 [(1, .int x1), (2, .int v9), (3, .int v10)] → W p l e ({ frames := 1, cells := 0, slots := 0, locals := 24 } : Room) s m ([.ref h, .int x1] : List Value).toArray below meth c H locs 0 0 (MQ below (QQ g (some (.int r)) (mW g h ad sTaped sFault sFaultP sAt sPlace sToken sNumber sWord sText0 sWritten sSort0 sPiled sOpens sWhole sOnce sIsW sDied cA cIm cTx cTp cPl cNm cVa cTr cAs cLi cSa cHd) A) ([.ref h, .int x1] : List Value).toArray s 0 0 A) (F0 m 58 ls []) := by
    intro H locs ls hP hD hS hl
    refine lv_iload_n hx hb dX2_mixed_58 rfl (lv_at hl 1 rfl) ?_
    refine bq_le (tgt := 67) hx hb hf dX2_mixed_59 (by decide) (fun hf => ?_) (fun hf => ?_)
    · refine lv_iconst (v := (-1)) hx hb dX2_mixed_67 (by decide) ?_
      cases hf
      exact rI X hP hD hS dX2_mixed_68
    · refine lv_iload_n hx hb dX2_mixed_62 rfl (lv_at hl 1 rfl) ?_
      refine lv_iload_n hx hb dX2_mixed_63 rfl (lv_at hl 2 rfl) ?_
      refine bc_lt (tgt := 69) hx hb hf dX2_mixed_64 (by decide) (fun hf => ?_) (fun hf => ?_)
      · refine lv_iload_n hx hb dX2_mixed_69 rfl (lv_at hl 0 rfl) ?_
        refine bq_eq (tgt := 77) hx hb hf dX2_mixed_70 (by decide) (fun hf => ?_) (fun hf => ?_)
        · refine lv_iload_n hx hb dX2_mixed_77 rfl (lv_at hl 1 rfl) ?_
          refine lv_iload_n hx hb dX2_mixed_78 rfl (lv_at hl 1 rfl) ?_
          refine lv_iload_n hx hb dX2_mixed_79 rfl (lv_at hl 2 rfl) ?_
          obtain ⟨r13, k14, hf⟩ := bd1s hf
          refine cSi (rest := [.int v9]) X (met_M_common (g := g) k14) gs_X2_X2_common dy_X2_common ⟨⟨rfl, rfl⟩, Nat.le_of_ble_eq_true rfl, Nat.le_of_ble_eq_true rfl⟩ hP hD hS hl.1 rfl rfl ⟨Nat.zero_le _, Nat.zero_le _⟩ (Nat.le_of_ble_eq_true rfl) dX2_mixed_80 (fun H locs hP hD hS => ?_)
          obtain ⟨z15, hf⟩ := nzs hf
          refine lv_idiv hx hb dX2_mixed_83 z15 ?_
          cases hf
          exact rI X hP hD hS dX2_mixed_84
        · refine lv_iload_n hx hb dX2_mixed_73 rfl (lv_at hl 2 rfl) ?_
          refine lv_goto (tgt := 78) hx hb dX2_mixed_74 (by decide) ?_
          refine lv_iload_n hx hb dX2_mixed_78 rfl (lv_at hl 1 rfl) ?_
          refine lv_iload_n hx hb dX2_mixed_79 rfl (lv_at hl 2 rfl) ?_
          obtain ⟨r16, k17, hf⟩ := bd1s hf
          refine cSi (rest := [.int v10]) X (met_M_common (g := g) k17) gs_X2_X2_common dy_X2_common ⟨⟨rfl, rfl⟩, Nat.le_of_ble_eq_true rfl, Nat.le_of_ble_eq_true rfl⟩ hP hD hS hl.1 rfl rfl ⟨Nat.zero_le _, Nat.zero_le _⟩ (Nat.le_of_ble_eq_true rfl) dX2_mixed_80 (fun H locs hP hD hS => ?_)
          obtain ⟨z18, hf⟩ := nzs hf
          refine lv_idiv hx hb dX2_mixed_83 z18 ?_
          cases hf
          exact rI X hP hD hS dX2_mixed_84
      · refine lv_iconst (v := (-1)) hx hb dX2_mixed_67 (by decide) ?_
        cases hf
        exact rI X hP hD hS dX2_mixed_68
  replace hf := k11
  clear k11
  refine bq_ge (tgt := 58) hx hb hf dX2_mixed_49 (by decide) (fun hf => ?_) (fun hf => ?_)
  · cases hf
    exact hj12 _ _ _ hP hD hS (lv_sub hl [3, 1, 0] rfl)
  · refine lv_iload_n hx hb dX2_mixed_52 rfl (lv_at hl 1 rfl) ?_
    refine lv_ineg hx hb dX2_mixed_53 ?_
    obtain ⟨v19, ev19, hf⟩ := lts hf
    refine tpi ev19 ?_
    refine lv_istore_n (lv' := [(2, .int v19), (3, .int v8), (0, .ref h), (1, .int x1)]) hx hb dX2_mixed_54 rfl hl (by decide) rfl (fun ls hl => ?_)
    refine lv_iload_n hx hb dX2_mixed_55 rfl (lv_at hl 1 rfl) ?_
    refine lv_ineg hx hb dX2_mixed_56 ?_
    obtain ⟨v20, ev20, hf⟩ := lts hf
    refine tpi ev20 ?_
    refine lv_istore_n (lv' := [(3, .int v20), (2, .int v19), (0, .ref h), (1, .int x1)]) hx hb dX2_mixed_57 rfl hl (by decide) rfl (fun ls hl => ?_)
    cases hf
    exact hj12 _ _ _ hP hD hS (lv_sub hl [3, 1, 0] rfl)
set_option maxHeartbeats 4000000 in
theorem met_M_paid {l : Launch} {g : gG} {h : Nat} {ad : Nat → Nat} {sTaped : Int32} {sFault : Int32} {sFaultP : Int32} {sAt : Int32} {sPlace : Int32} {sToken : Int32} {sNumber : Int32} {sWord : Int64} {sText0 : Int32} {sWritten : Int32} {sSort0 : Int32} {sPiled : Int32} {sOpens : Int32} {sWhole : Int32} {sOnce : Int32} {sIsW : Int32} {sDied : Int32} {cA : Nat → Int32} {cIm : Nat → Int32} {cTx : Nat → Int32} {cTp : Nat → Int32} {cPl : Nat → Int32} {cNm : Nat → Int32} {cVa : Nat → Int64} {cTr : Nat → Int32} {cAs : Nat → Int32} {cLi : Nat → Int32} {cSa : Nat → Int32} {cHd : Nat → Int32} {x1 : Int32} {x2 : Int32} {r : Int32} {ncA : Nat → Int32} (hf : M_paid cA x1 x2 = some (r, ncA)) : CC l yX2_paid (ws_ yX2_paid cX2_paid 3 (some .int)) ({ frames := 2, cells := 0, slots := 0, locals := 43 } : Room) g [.ref h, .int x1, .int x2] (mW g h ad sTaped sFault sFaultP sAt sPlace sToken sNumber sWord sText0 sWritten sSort0 sPiled sOpens sWhole sOnce sIsW sDied cA cIm cTx cTp cPl cNm cVa cTr cAs cLi cSa cHd) (some (.int r)) (mW g h ad sTaped sFault sFaultP sAt sPlace sToken sNumber sWord sText0 sWritten sSort0 sPiled sOpens sWhole sOnce sIsW sDied ncA cIm cTx cTp cPl cNm cVa cTr cAs cLi cSa cHd) 0 0 := by
  refine CC.of RX2 rfl plain_X2 (Nat.le_of_ble_eq_true rfl) (fun p e s m below meth c A ls X hP hD hS hl => ?_)
  have hx := X.1
  have hb := X.2.1
  have hown := X.2.2.2.2.2.1
  have hts := X.2.2.2.2.2.2.1
  have hl : lv_has ls 3 [(0, .ref h), (1, .int x1), (2, .int x2)] := hl
  unfold M_paid at hf
  refine lv_iload_n hx hb dX2_paid_0 rfl (lv_at hl 1 rfl) ?_
  refine lv_iconst (v := (-1)) hx hb dX2_paid_1 (by decide) ?_
  refine bc_ne (tgt := 15) hx hb hf dX2_paid_2 (by decide) (fun hf => ?_) (fun hf => ?_)
  · refine lv_aload_n hx hb dX2_paid_15 rfl (lv_at hl 0 rfl) ?_
    refine lv_iload_n hx hb dX2_paid_16 rfl (lv_at hl 1 rfl) ?_
    obtain ⟨r1, k2, hf⟩ := bd1s hf
    refine cVi (rest := []) X (met_M_isPerson k2) gw_X2_X2_isPerson dy_X2_isPerson ⟨⟨rfl, rfl⟩, Nat.le_of_ble_eq_true rfl, Nat.le_of_ble_eq_true rfl⟩ hP hD hS hl.1 rcM rfl rfl ⟨Nat.zero_le _, Nat.zero_le _⟩ (Nat.le_of_ble_eq_true rfl) dX2_paid_17 (fun H locs hP hD hS => ?_)
    refine bq_eq (tgt := 46) hx hb hf dX2_paid_20 (by decide) (fun hf => ?_) (fun hf => ?_)
    · refine lv_bipush (v := (-2)) hx hb dX2_paid_46 (by decide) ?_
      cases hf
      exact rI X hP hD hS dX2_paid_48
    · refine lv_iload_n hx hb dX2_paid_23 rfl (lv_at hl 2 rfl) ?_
      refine lv_iconst (v := 0) hx hb dX2_paid_24 (by decide) ?_
      refine lv_sipush (v := 9999) hx hb dX2_paid_25 (by decide) ?_
      obtain ⟨r3, k4, hf⟩ := bd1s hf
      refine cSi (rest := []) X (met_M_isIn (g := g) k4) gs_X2_X2_isIn dy_X2_isIn ⟨⟨rfl, rfl⟩, Nat.le_of_ble_eq_true rfl, Nat.le_of_ble_eq_true rfl⟩ hP hD hS hl.1 rfl rfl ⟨Nat.zero_le _, Nat.zero_le _⟩ (Nat.le_of_ble_eq_true rfl) dX2_paid_28 (fun H locs hP hD hS => ?_)
      refine bq_eq (tgt := 46) hx hb hf dX2_paid_31 (by decide) (fun hf => ?_) (fun hf => ?_)
      · refine lv_bipush (v := (-2)) hx hb dX2_paid_46 (by decide) ?_
        cases hf
        exact rI X hP hD hS dX2_paid_48
      · refine lv_aload_n hx hb dX2_paid_34 rfl (lv_at hl 0 rfl) ?_
        refine gM0 X hP dX2_paid_35 ?_
        refine lv_bipush (v := 8) hx hb dX2_paid_38 (by decide) ?_
        obtain ⟨v5, ev5, bv5, hf⟩ := rds hf
        refine lM_cA X hP ev5 bv5 dX2_paid_40 ?_
        refine lv_bipush (v := 8) hx hb dX2_paid_41 (by decide) ?_
        refine bc_ne (tgt := 49) hx hb hf dX2_paid_43 (by decide) (fun hf => ?_) (fun hf => ?_)
        · refine lv_aload_n hx hb dX2_paid_49 rfl (lv_at hl 0 rfl) ?_
          refine gM0 X hP dX2_paid_50 ?_
          refine lv_bipush (v := 125) hx hb dX2_paid_53 (by decide) ?_
          refine lv_iconst (v := 2) hx hb dX2_paid_55 (by decide) ?_
          refine lv_aload_n hx hb dX2_paid_56 rfl (lv_at hl 0 rfl) ?_
          refine gM0 X hP dX2_paid_57 ?_
          refine lv_bipush (v := 8) hx hb dX2_paid_60 (by decide) ?_
          obtain ⟨v6, ev6, bv6, hf⟩ := rds hf
          refine lM_cA X hP ev6 bv6 dX2_paid_62 ?_
          refine lv_imul hx hb dX2_paid_63 ?_
          refine lv_iadd hx hb dX2_paid_64 ?_
          refine lv_iload_n hx hb dX2_paid_65 rfl (lv_at hl 1 rfl) ?_
          obtain ⟨c7, ec7, bc7, hf⟩ := wrs hf
          refine sM_cA X hP hD hS ec7 bc7 dX2_paid_66 (fun H locs hP hD hS => ?_)
          refine lv_aload_n hx hb dX2_paid_67 rfl (lv_at hl 0 rfl) ?_
          refine gM0 X hP dX2_paid_68 ?_
          refine lv_bipush (v := 125) hx hb dX2_paid_71 (by decide) ?_
          refine lv_iconst (v := 2) hx hb dX2_paid_73 (by decide) ?_
          refine lv_aload_n hx hb dX2_paid_74 rfl (lv_at hl 0 rfl) ?_
          refine gM0 X hP dX2_paid_75 ?_
          refine lv_bipush (v := 8) hx hb dX2_paid_78 (by decide) ?_
          obtain ⟨v8, ev8, bv8, hf⟩ := rds hf
          refine lM_cA X hP ev8 bv8 dX2_paid_80 ?_
          refine lv_imul hx hb dX2_paid_81 ?_
          refine lv_iadd hx hb dX2_paid_82 ?_
          refine lv_iconst (v := 1) hx hb dX2_paid_83 (by decide) ?_
          refine lv_iadd hx hb dX2_paid_84 ?_
          refine lv_iload_n hx hb dX2_paid_85 rfl (lv_at hl 2 rfl) ?_
          obtain ⟨c9, ec9, bc9, hf⟩ := wrs hf
          refine sM_cA X hP hD hS ec9 bc9 dX2_paid_86 (fun H locs hP hD hS => ?_)
          refine lv_aload_n hx hb dX2_paid_87 rfl (lv_at hl 0 rfl) ?_
          refine gM0 X hP dX2_paid_88 ?_
          refine lv_bipush (v := 8) hx hb dX2_paid_91 (by decide) ?_
          refine lv_dup2_11 hx hb dX2_paid_93 rfl rfl ?_
          obtain ⟨v10, ev10, bv10, hf⟩ := rds hf
          refine lM_cA X hP ev10 bv10 dX2_paid_94 ?_
          refine lv_iconst (v := 1) hx hb dX2_paid_95 (by decide) ?_
          refine lv_iadd hx hb dX2_paid_96 ?_
          obtain ⟨v11, ev11, hf⟩ := lts hf
          refine tpi ev11 ?_
          obtain ⟨c12, ec12, bc12, hf⟩ := wrs hf
          refine sM_cA X hP hD hS ec12 bc12 dX2_paid_97 (fun H locs hP hD hS => ?_)
          refine lv_aload_n hx hb dX2_paid_98 rfl (lv_at hl 0 rfl) ?_
          refine gM0 X hP dX2_paid_99 ?_
          refine lv_bipush (v := 8) hx hb dX2_paid_102 (by decide) ?_
          obtain ⟨v13, ev13, bv13, hf⟩ := rds hf
          refine lM_cA X hP ev13 bv13 dX2_paid_104 ?_
          cases hf
          exact rI X hP hD hS dX2_paid_105
        · refine lv_bipush (v := (-2)) hx hb dX2_paid_46 (by decide) ?_
          cases hf
          exact rI X hP hD hS dX2_paid_48
  · refine lv_aload_n hx hb dX2_paid_5 rfl (lv_at hl 0 rfl) ?_
    refine gM0 X hP dX2_paid_6 ?_
    refine lv_bipush (v := 8) hx hb dX2_paid_9 (by decide) ?_
    refine lv_iconst (v := 0) hx hb dX2_paid_11 (by decide) ?_
    obtain ⟨c14, ec14, bc14, hf⟩ := wrs hf
    refine sM_cA X hP hD hS ec14 bc14 dX2_paid_12 (fun H locs hP hD hS => ?_)
    refine lv_iconst (v := 0) hx hb dX2_paid_13 (by decide) ?_
    cases hf
    exact rI X hP hD hS dX2_paid_14
set_option maxHeartbeats 4000000 in
theorem met_M_about {l : Launch} {g : gG} {h : Nat} {ad : Nat → Nat} {sTaped : Int32} {sFault : Int32} {sFaultP : Int32} {sAt : Int32} {sPlace : Int32} {sToken : Int32} {sNumber : Int32} {sWord : Int64} {sText0 : Int32} {sWritten : Int32} {sSort0 : Int32} {sPiled : Int32} {sOpens : Int32} {sWhole : Int32} {sOnce : Int32} {sIsW : Int32} {sDied : Int32} {cA : Nat → Int32} {cIm : Nat → Int32} {cTx : Nat → Int32} {cTp : Nat → Int32} {cPl : Nat → Int32} {cNm : Nat → Int32} {cVa : Nat → Int64} {cTr : Nat → Int32} {cAs : Nat → Int32} {cLi : Nat → Int32} {cSa : Nat → Int32} {cHd : Nat → Int32} {x1 : Int32} {r : Int32} (hf : M_about sTaped cA x1 = some r) : CC l yX2_about (ws_ yX2_about cX2_about 2 (some .int)) ({ frames := 1, cells := 0, slots := 0, locals := 22 } : Room) g [.ref h, .int x1] (mW g h ad sTaped sFault sFaultP sAt sPlace sToken sNumber sWord sText0 sWritten sSort0 sPiled sOpens sWhole sOnce sIsW sDied cA cIm cTx cTp cPl cNm cVa cTr cAs cLi cSa cHd) (some (.int r)) (mW g h ad sTaped sFault sFaultP sAt sPlace sToken sNumber sWord sText0 sWritten sSort0 sPiled sOpens sWhole sOnce sIsW sDied cA cIm cTx cTp cPl cNm cVa cTr cAs cLi cSa cHd) 0 0 := by
  refine CC.of RX2 rfl plain_X2 (Nat.le_of_ble_eq_true rfl) (fun p e s m below meth c A ls X hP hD hS hl => ?_)
  have hx := X.1
  have hb := X.2.1
  have hown := X.2.2.2.2.2.1
  have hts := X.2.2.2.2.2.2.1
  have hl : lv_has ls 2 [(0, .ref h), (1, .int x1)] := hl
  unfold M_about at hf
  refine lv_iload_n hx hb dX2_about_0 rfl (lv_at hl 1 rfl) ?_
  refine lv_iconst (v := 0) hx hb dX2_about_1 (by decide) ?_
  refine lv_bipush (v := 8) hx hb dX2_about_2 (by decide) ?_
  obtain ⟨r1, k2, hf⟩ := bd1s hf
  refine cSi (rest := []) X (met_M_isIn (g := g) k2) gs_X2_X2_isIn dy_X2_isIn ⟨⟨rfl, rfl⟩, Nat.le_of_ble_eq_true rfl, Nat.le_of_ble_eq_true rfl⟩ hP hD hS hl.1 rfl rfl ⟨Nat.zero_le _, Nat.zero_le _⟩ (Nat.le_of_ble_eq_true rfl) dX2_about_4 (fun H locs hP hD hS => ?_)
  refine bq_eq (tgt := 19) hx hb hf dX2_about_7 (by decide) (fun hf => ?_) (fun hf => ?_)
  · refine lv_iload_n hx hb dX2_about_19 rfl (lv_at hl 1 rfl) ?_
    refine lv_bipush (v := 9) hx hb dX2_about_20 (by decide) ?_
    refine bc_ne (tgt := 32) hx hb hf dX2_about_22 (by decide) (fun hf => ?_) (fun hf => ?_)
    · refine lv_bipush (v := (-2)) hx hb dX2_about_32 (by decide) ?_
      cases hf
      exact rI X hP hD hS dX2_about_34
    · refine lv_aload_n hx hb dX2_about_25 rfl (lv_at hl 0 rfl) ?_
      refine gM4 X hP dX2_about_26 ?_
      refine lv_goto (tgt := 34) hx hb dX2_about_29 (by decide) ?_
      cases hf
      exact rI X hP hD hS dX2_about_34
  · refine lv_aload_n hx hb dX2_about_10 rfl (lv_at hl 0 rfl) ?_
    refine gM0 X hP dX2_about_11 ?_
    refine lv_iload_n hx hb dX2_about_14 rfl (lv_at hl 1 rfl) ?_
    obtain ⟨v3, ev3, bv3, hf⟩ := rds hf
    refine lM_cA X hP ev3 bv3 dX2_about_15 ?_
    refine lv_goto (tgt := 34) hx hb dX2_about_16 (by decide) ?_
    cases hf
    exact rI X hP hD hS dX2_about_34
set_option maxHeartbeats 4000000 in
theorem met_M_land {l : Launch} {g : gG} {h : Nat} {ad : Nat → Nat} {sTaped : Int32} {sFault : Int32} {sFaultP : Int32} {sAt : Int32} {sPlace : Int32} {sToken : Int32} {sNumber : Int32} {sWord : Int64} {sText0 : Int32} {sWritten : Int32} {sSort0 : Int32} {sPiled : Int32} {sOpens : Int32} {sWhole : Int32} {sOnce : Int32} {sIsW : Int32} {sDied : Int32} {cA : Nat → Int32} {cIm : Nat → Int32} {cTx : Nat → Int32} {cTp : Nat → Int32} {cPl : Nat → Int32} {cNm : Nat → Int32} {cVa : Nat → Int64} {cTr : Nat → Int32} {cAs : Nat → Int32} {cLi : Nat → Int32} {cSa : Nat → Int32} {cHd : Nat → Int32} {x1 : Int32} {r : Int32} {ncA : Nat → Int32} (hf : M_land cA x1 = some (r, ncA)) : CC l yX2_land (ws_ yX2_land cX2_land 2 (some .int)) ({ frames := 1, cells := 0, slots := 0, locals := 22 } : Room) g [.ref h, .int x1] (mW g h ad sTaped sFault sFaultP sAt sPlace sToken sNumber sWord sText0 sWritten sSort0 sPiled sOpens sWhole sOnce sIsW sDied cA cIm cTx cTp cPl cNm cVa cTr cAs cLi cSa cHd) (some (.int r)) (mW g h ad sTaped sFault sFaultP sAt sPlace sToken sNumber sWord sText0 sWritten sSort0 sPiled sOpens sWhole sOnce sIsW sDied ncA cIm cTx cTp cPl cNm cVa cTr cAs cLi cSa cHd) 0 0 := by
  refine CC.of RX2 rfl plain_X2 (Nat.le_of_ble_eq_true rfl) (fun p e s m below meth c A ls X hP hD hS hl => ?_)
  have hx := X.1
  have hb := X.2.1
  have hown := X.2.2.2.2.2.1
  have hts := X.2.2.2.2.2.2.1
  have hl : lv_has ls 2 [(0, .ref h), (1, .int x1)] := hl
  unfold M_land at hf
  refine lv_iload_n hx hb dX2_land_0 rfl (lv_at hl 1 rfl) ?_
  refine lv_iconst (v := 0) hx hb dX2_land_1 (by decide) ?_
  refine lv_bipush (v := 9) hx hb dX2_land_2 (by decide) ?_
  obtain ⟨r1, k2, hf⟩ := bd1s hf
  refine cSi (rest := []) X (met_M_isIn (g := g) k2) gs_X2_X2_isIn dy_X2_isIn ⟨⟨rfl, rfl⟩, Nat.le_of_ble_eq_true rfl, Nat.le_of_ble_eq_true rfl⟩ hP hD hS hl.1 rfl rfl ⟨Nat.zero_le _, Nat.zero_le _⟩ (Nat.le_of_ble_eq_true rfl) dX2_land_4 (fun H locs hP hD hS => ?_)
  refine bq_eq (tgt := 21) hx hb hf dX2_land_7 (by decide) (fun hf => ?_) (fun hf => ?_)
  · refine lv_iconst (v := (-1)) hx hb dX2_land_21 (by decide) ?_
    cases hf
    exact rI X hP hD hS dX2_land_22
  · refine lv_aload_n hx hb dX2_land_10 rfl (lv_at hl 0 rfl) ?_
    refine gM0 X hP dX2_land_11 ?_
    refine lv_iconst (v := 0) hx hb dX2_land_14 (by decide) ?_
    obtain ⟨v3, ev3, bv3, hf⟩ := rds hf
    refine lM_cA X hP ev3 bv3 dX2_land_15 ?_
    refine lv_bipush (v := 8) hx hb dX2_land_16 (by decide) ?_
    refine bc_ne (tgt := 23) hx hb hf dX2_land_18 (by decide) (fun hf => ?_) (fun hf => ?_)
    · refine lv_aload_n hx hb dX2_land_23 rfl (lv_at hl 0 rfl) ?_
      refine gM0 X hP dX2_land_24 ?_
      refine lv_bipush (v := 80) hx hb dX2_land_27 (by decide) ?_
      refine lv_aload_n hx hb dX2_land_29 rfl (lv_at hl 0 rfl) ?_
      refine gM0 X hP dX2_land_30 ?_
      refine lv_iconst (v := 0) hx hb dX2_land_33 (by decide) ?_
      obtain ⟨v4, ev4, bv4, hf⟩ := rds hf
      refine lM_cA X hP ev4 bv4 dX2_land_34 ?_
      refine lv_iadd hx hb dX2_land_35 ?_
      refine lv_iload_n hx hb dX2_land_36 rfl (lv_at hl 1 rfl) ?_
      obtain ⟨c5, ec5, bc5, hf⟩ := wrs hf
      refine sM_cA X hP hD hS ec5 bc5 dX2_land_37 (fun H locs hP hD hS => ?_)
      refine lv_aload_n hx hb dX2_land_38 rfl (lv_at hl 0 rfl) ?_
      refine gM0 X hP dX2_land_39 ?_
      refine lv_bipush (v := 88) hx hb dX2_land_42 (by decide) ?_
      refine lv_aload_n hx hb dX2_land_44 rfl (lv_at hl 0 rfl) ?_
      refine gM0 X hP dX2_land_45 ?_
      refine lv_iconst (v := 0) hx hb dX2_land_48 (by decide) ?_
      obtain ⟨v6, ev6, bv6, hf⟩ := rds hf
      refine lM_cA X hP ev6 bv6 dX2_land_49 ?_
      refine lv_iadd hx hb dX2_land_50 ?_
      refine lv_iconst (v := 0) hx hb dX2_land_51 (by decide) ?_
      obtain ⟨c7, ec7, bc7, hf⟩ := wrs hf
      refine sM_cA X hP hD hS ec7 bc7 dX2_land_52 (fun H locs hP hD hS => ?_)
      refine lv_aload_n hx hb dX2_land_53 rfl (lv_at hl 0 rfl) ?_
      refine gM0 X hP dX2_land_54 ?_
      refine lv_iconst (v := 0) hx hb dX2_land_57 (by decide) ?_
      refine lv_dup2_11 hx hb dX2_land_58 rfl rfl ?_
      obtain ⟨v8, ev8, bv8, hf⟩ := rds hf
      refine lM_cA X hP ev8 bv8 dX2_land_59 ?_
      refine lv_iconst (v := 1) hx hb dX2_land_60 (by decide) ?_
      refine lv_iadd hx hb dX2_land_61 ?_
      obtain ⟨v9, ev9, hf⟩ := lts hf
      refine tpi ev9 ?_
      obtain ⟨c10, ec10, bc10, hf⟩ := wrs hf
      refine sM_cA X hP hD hS ec10 bc10 dX2_land_62 (fun H locs hP hD hS => ?_)
      refine lv_aload_n hx hb dX2_land_63 rfl (lv_at hl 0 rfl) ?_
      refine gM0 X hP dX2_land_64 ?_
      refine lv_iconst (v := 0) hx hb dX2_land_67 (by decide) ?_
      obtain ⟨v11, ev11, bv11, hf⟩ := rds hf
      refine lM_cA X hP ev11 bv11 dX2_land_68 ?_
      refine lv_iconst (v := 1) hx hb dX2_land_69 (by decide) ?_
      refine lv_isub hx hb dX2_land_70 ?_
      cases hf
      exact rI X hP hD hS dX2_land_71
    · refine lv_iconst (v := (-1)) hx hb dX2_land_21 (by decide) ?_
      cases hf
      exact rI X hP hD hS dX2_land_22
set_option maxHeartbeats 4000000 in
theorem met_M_road {l : Launch} {g : gG} {h : Nat} {ad : Nat → Nat} {sTaped : Int32} {sFault : Int32} {sFaultP : Int32} {sAt : Int32} {sPlace : Int32} {sToken : Int32} {sNumber : Int32} {sWord : Int64} {sText0 : Int32} {sWritten : Int32} {sSort0 : Int32} {sPiled : Int32} {sOpens : Int32} {sWhole : Int32} {sOnce : Int32} {sIsW : Int32} {sDied : Int32} {cA : Nat → Int32} {cIm : Nat → Int32} {cTx : Nat → Int32} {cTp : Nat → Int32} {cPl : Nat → Int32} {cNm : Nat → Int32} {cVa : Nat → Int64} {cTr : Nat → Int32} {cAs : Nat → Int32} {cLi : Nat → Int32} {cSa : Nat → Int32} {cHd : Nat → Int32} {x1 : Int32} {x2 : Int32} {r : Int32} {ncA : Nat → Int32} (hf : M_road cA x1 x2 = some (r, ncA)) : CC l yX2_road (ws_ yX2_road cX2_road 3 (some .boolean)) ({ frames := 2, cells := 0, slots := 0, locals := 43 } : Room) g [.ref h, .int x1, .int x2] (mW g h ad sTaped sFault sFaultP sAt sPlace sToken sNumber sWord sText0 sWritten sSort0 sPiled sOpens sWhole sOnce sIsW sDied cA cIm cTx cTp cPl cNm cVa cTr cAs cLi cSa cHd) (some (.int r)) (mW g h ad sTaped sFault sFaultP sAt sPlace sToken sNumber sWord sText0 sWritten sSort0 sPiled sOpens sWhole sOnce sIsW sDied ncA cIm cTx cTp cPl cNm cVa cTr cAs cLi cSa cHd) 0 0 := by
  refine CC.of RX2 rfl plain_X2 (Nat.le_of_ble_eq_true rfl) (fun p e s m below meth c A ls X hP hD hS hl => ?_)
  have hx := X.1
  have hb := X.2.1
  have hown := X.2.2.2.2.2.1
  have hts := X.2.2.2.2.2.2.1
  have hl : lv_has ls 3 [(0, .ref h), (1, .int x1), (2, .int x2)] := hl
  unfold M_road at hf
  refine lv_aload_n hx hb dX2_road_0 rfl (lv_at hl 0 rfl) ?_
  refine lv_iload_n hx hb dX2_road_1 rfl (lv_at hl 1 rfl) ?_
  obtain ⟨r1, k2, hf⟩ := bd1s hf
  refine cVi (rest := []) X (met_M_isLand k2) gw_X2_X2_isLand dy_X2_isLand ⟨⟨rfl, rfl⟩, Nat.le_of_ble_eq_true rfl, Nat.le_of_ble_eq_true rfl⟩ hP hD hS hl.1 rcM rfl rfl ⟨Nat.zero_le _, Nat.zero_le _⟩ (Nat.le_of_ble_eq_true rfl) dX2_road_2 (fun H locs hP hD hS => ?_)
  refine bq_eq (tgt := 37) hx hb hf dX2_road_5 (by decide) (fun hf => ?_) (fun hf => ?_)
  · refine lv_iconst (v := 0) hx hb dX2_road_37 (by decide) ?_
    cases hf
    exact rZ X rfl hP hD hS dX2_road_38
  · refine lv_aload_n hx hb dX2_road_8 rfl (lv_at hl 0 rfl) ?_
    refine lv_iload_n hx hb dX2_road_9 rfl (lv_at hl 2 rfl) ?_
    obtain ⟨r3, k4, hf⟩ := bd1s hf
    refine cVi (rest := []) X (met_M_isLand k4) gw_X2_X2_isLand dy_X2_isLand ⟨⟨rfl, rfl⟩, Nat.le_of_ble_eq_true rfl, Nat.le_of_ble_eq_true rfl⟩ hP hD hS hl.1 rcM rfl rfl ⟨Nat.zero_le _, Nat.zero_le _⟩ (Nat.le_of_ble_eq_true rfl) dX2_road_10 (fun H locs hP hD hS => ?_)
    refine bq_eq (tgt := 37) hx hb hf dX2_road_13 (by decide) (fun hf => ?_) (fun hf => ?_)
    · refine lv_iconst (v := 0) hx hb dX2_road_37 (by decide) ?_
      cases hf
      exact rZ X rfl hP hD hS dX2_road_38
    · refine lv_iload_n hx hb dX2_road_16 rfl (lv_at hl 1 rfl) ?_
      refine lv_iload_n hx hb dX2_road_17 rfl (lv_at hl 2 rfl) ?_
      refine bc_eq (tgt := 37) hx hb hf dX2_road_18 (by decide) (fun hf => ?_) (fun hf => ?_)
      · refine lv_iconst (v := 0) hx hb dX2_road_37 (by decide) ?_
        cases hf
        exact rZ X rfl hP hD hS dX2_road_38
      · refine lv_aload_n hx hb dX2_road_21 rfl (lv_at hl 0 rfl) ?_
        refine gM0 X hP dX2_road_22 ?_
        refine lv_bipush (v := 88) hx hb dX2_road_25 (by decide) ?_
        refine lv_iload_n hx hb dX2_road_27 rfl (lv_at hl 1 rfl) ?_
        refine lv_iadd hx hb dX2_road_28 ?_
        obtain ⟨v5, ev5, bv5, hf⟩ := rds hf
        refine lM_cA X hP ev5 bv5 dX2_road_29 ?_
        refine lv_iload_n hx hb dX2_road_30 rfl (lv_at hl 2 rfl) ?_
        obtain ⟨r6, k7, hf⟩ := bd1s hf
        refine cSi (rest := []) X (met_M_isWith (g := g) k7) gs_X2_X2_isWith dy_X2_isWith ⟨⟨rfl, rfl⟩, Nat.le_of_ble_eq_true rfl, Nat.le_of_ble_eq_true rfl⟩ hP hD hS hl.1 rfl rfl ⟨Nat.zero_le _, Nat.zero_le _⟩ (Nat.le_of_ble_eq_true rfl) dX2_road_31 (fun H locs hP hD hS => ?_)
        refine bq_eq (tgt := 39) hx hb hf dX2_road_34 (by decide) (fun hf => ?_) (fun hf => ?_)
        · refine lv_aload_n hx hb dX2_road_39 rfl (lv_at hl 0 rfl) ?_
          refine gM0 X hP dX2_road_40 ?_
          refine lv_bipush (v := 88) hx hb dX2_road_43 (by decide) ?_
          refine lv_iload_n hx hb dX2_road_45 rfl (lv_at hl 1 rfl) ?_
          refine lv_iadd hx hb dX2_road_46 ?_
          obtain ⟨v8, ev8, hf⟩ := lts hf
          refine tpi ev8 ?_
          refine lv_dup2_11 hx hb dX2_road_47 rfl rfl ?_
          obtain ⟨v9, ev9, bv9, hf⟩ := rds hf
          refine lM_cA X hP ev9 bv9 dX2_road_48 ?_
          refine lv_iconst (v := 1) hx hb dX2_road_49 (by decide) ?_
          refine lv_iload_n hx hb dX2_road_50 rfl (lv_at hl 2 rfl) ?_
          refine lv_ishl hx hb dX2_road_51 ?_
          refine lv_ior hx hb dX2_road_52 ?_
          obtain ⟨v10, ev10, hf⟩ := lts hf
          refine tpi ev10 ?_
          obtain ⟨c11, ec11, bc11, hf⟩ := wrs hf
          refine sM_cA X hP hD hS ec11 bc11 dX2_road_53 (fun H locs hP hD hS => ?_)
          refine lv_aload_n hx hb dX2_road_54 rfl (lv_at hl 0 rfl) ?_
          refine gM0 X hP dX2_road_55 ?_
          refine lv_bipush (v := 88) hx hb dX2_road_58 (by decide) ?_
          refine lv_iload_n hx hb dX2_road_60 rfl (lv_at hl 2 rfl) ?_
          refine lv_iadd hx hb dX2_road_61 ?_
          obtain ⟨v12, ev12, hf⟩ := lts hf
          refine tpi ev12 ?_
          refine lv_dup2_11 hx hb dX2_road_62 rfl rfl ?_
          obtain ⟨v13, ev13, bv13, hf⟩ := rds hf
          refine lM_cA X hP ev13 bv13 dX2_road_63 ?_
          refine lv_iconst (v := 1) hx hb dX2_road_64 (by decide) ?_
          refine lv_iload_n hx hb dX2_road_65 rfl (lv_at hl 1 rfl) ?_
          refine lv_ishl hx hb dX2_road_66 ?_
          refine lv_ior hx hb dX2_road_67 ?_
          obtain ⟨v14, ev14, hf⟩ := lts hf
          refine tpi ev14 ?_
          obtain ⟨c15, ec15, bc15, hf⟩ := wrs hf
          refine sM_cA X hP hD hS ec15 bc15 dX2_road_68 (fun H locs hP hD hS => ?_)
          refine lv_iconst (v := 1) hx hb dX2_road_69 (by decide) ?_
          cases hf
          exact rZ X rfl hP hD hS dX2_road_70
        · refine lv_iconst (v := 0) hx hb dX2_road_37 (by decide) ?_
          cases hf
          exact rZ X rfl hP hD hS dX2_road_38
set_option maxHeartbeats 4000000 in
theorem met_M_begin {l : Launch} {g : gG} {h : Nat} {ad : Nat → Nat} {sTaped : Int32} {sFault : Int32} {sFaultP : Int32} {sAt : Int32} {sPlace : Int32} {sToken : Int32} {sNumber : Int32} {sWord : Int64} {sText0 : Int32} {sWritten : Int32} {sSort0 : Int32} {sPiled : Int32} {sOpens : Int32} {sWhole : Int32} {sOnce : Int32} {sIsW : Int32} {sDied : Int32} {cA : Nat → Int32} {cIm : Nat → Int32} {cTx : Nat → Int32} {cTp : Nat → Int32} {cPl : Nat → Int32} {cNm : Nat → Int32} {cVa : Nat → Int64} {cTr : Nat → Int32} {cAs : Nat → Int32} {cLi : Nat → Int32} {cSa : Nat → Int32} {cHd : Nat → Int32} {x1 : Int32} {ncA : Nat → Int32} {φ : Nat} (hf : M_begin φ cA x1 = some ncA) : CC l yX2_begin (ws_ yX2_begin cX2_begin 3 none) ({ frames := 1, cells := 0, slots := 0, locals := 23 } : Room) g [.ref h, .int x1] (mW g h ad sTaped sFault sFaultP sAt sPlace sToken sNumber sWord sText0 sWritten sSort0 sPiled sOpens sWhole sOnce sIsW sDied cA cIm cTx cTp cPl cNm cVa cTr cAs cLi cSa cHd) none (mW g h ad sTaped sFault sFaultP sAt sPlace sToken sNumber sWord sText0 sWritten sSort0 sPiled sOpens sWhole sOnce sIsW sDied ncA cIm cTx cTp cPl cNm cVa cTr cAs cLi cSa cHd) 0 0 := by
  refine CC.of RX2 rfl plain_X2 (Nat.le_of_ble_eq_true rfl) (fun p e s m below meth c A ls X hP hD hS hl => ?_)
  have hx := X.1
  have hb := X.2.1
  have hown := X.2.2.2.2.2.1
  have hts := X.2.2.2.2.2.2.1
  have hl : lv_has ls 3 [(0, .ref h), (1, .int x1)] := hl
  unfold M_begin at hf
  refine lv_iconst (v := 0) hx hb dX2_begin_0 (by decide) ?_
  refine lv_istore_n (lv' := [(2, .int 0), (0, .ref h), (1, .int x1)]) hx hb dX2_begin_1 rfl hl (by decide) rfl (fun ls hl => ?_)
  obtain ⟨c3, k8, hf⟩ := bd1s hf
  have hE5 : ∀ (H : Heap) (locs : List Loc) (ls : Array Slot), va_P g.1 vwCl (mW g h ad sTaped sFault sFaultP sAt sPlace sToken sNumber sWord sText0 sWritten sSort0 sPiled sOpens sWhole sOnce sIsW sDied c3 cIm cTx cTp cPl cNm cVa cTr cAs cLi cSa cHd) H → va_D A (mW g h ad sTaped sFault sFaultP sAt sPlace sToken sNumber sWord sText0 sWritten sSort0 sPiled sOpens sWhole sOnce sIsW sDied c3 cIm cTx cTp cPl cNm cVa cTr cAs cLi cSa cHd) → va_S A s.heap H locs → lv_has ls 3 [(0, .ref h), (1, .int x1)] → W p l e ({ frames := 1, cells := 0, slots := 0, locals := 23 } : Room) s m ([.ref h, .int x1] : List Value).toArray below meth c H locs 0 0 (MQ below (QQ g none (mW g h ad sTaped sFault sFaultP sAt sPlace sToken sNumber sWord sText0 sWritten sSort0 sPiled sOpens sWhole sOnce sIsW sDied ncA cIm cTx cTp cPl cNm cVa cTr cAs cLi cSa cHd) A) ([.ref h, .int x1] : List Value).toArray s 0 0 A) (F0 m 28 ls []) := by
    intro H locs ls hP hD hS hl
    refine lv_iconst (v := 3) hx hb dX2_begin_28 (by decide) ?_
    refine lv_istore_n (lv' := [(2, .int 3), (0, .ref h), (1, .int x1)]) hx hb dX2_begin_29 rfl hl (by decide) rfl (fun ls hl => ?_)
    obtain ⟨c11, k16, hf⟩ := bd1s hf
    have hE13 : ∀ (H : Heap) (locs : List Loc) (ls : Array Slot), va_P g.1 vwCl (mW g h ad sTaped sFault sFaultP sAt sPlace sToken sNumber sWord sText0 sWritten sSort0 sPiled sOpens sWhole sOnce sIsW sDied c11 cIm cTx cTp cPl cNm cVa cTr cAs cLi cSa cHd) H → va_D A (mW g h ad sTaped sFault sFaultP sAt sPlace sToken sNumber sWord sText0 sWritten sSort0 sPiled sOpens sWhole sOnce sIsW sDied c11 cIm cTx cTp cPl cNm cVa cTr cAs cLi cSa cHd) → va_S A s.heap H locs → lv_has ls 3 [] → W p l e ({ frames := 1, cells := 0, slots := 0, locals := 23 } : Room) s m ([.ref h, .int x1] : List Value).toArray below meth c H locs 0 0 (MQ below (QQ g none (mW g h ad sTaped sFault sFaultP sAt sPlace sToken sNumber sWord sText0 sWritten sSort0 sPiled sOpens sWhole sOnce sIsW sDied ncA cIm cTx cTp cPl cNm cVa cTr cAs cLi cSa cHd) A) ([.ref h, .int x1] : List Value).toArray s 0 0 A) (F0 m 49 ls []) := by
      intro H locs ls hP hD hS hl
      cases hf
      exact rV X hP hD hS dX2_begin_49
    have hL14 : ∀ (n12 : Nat) (v9 : Int32) (c10 : Nat → Int32), M_begin_L30 φ x1 n12 v9 c10 = some c11 → ∀ (H : Heap) (locs : List Loc) (ls : Array Slot), va_P g.1 vwCl (mW g h ad sTaped sFault sFaultP sAt sPlace sToken sNumber sWord sText0 sWritten sSort0 sPiled sOpens sWhole sOnce sIsW sDied c10 cIm cTx cTp cPl cNm cVa cTr cAs cLi cSa cHd) H → va_D A (mW g h ad sTaped sFault sFaultP sAt sPlace sToken sNumber sWord sText0 sWritten sSort0 sPiled sOpens sWhole sOnce sIsW sDied c10 cIm cTx cTp cPl cNm cVa cTr cAs cLi cSa cHd) → va_S A s.heap H locs → lv_has ls 3 [(0, .ref h), (1, .int x1), (2, .int v9)] → W p l e ({ frames := 1, cells := 0, slots := 0, locals := 23 } : Room) s m ([.ref h, .int x1] : List Value).toArray below meth c H locs 0 0 (MQ below (QQ g none (mW g h ad sTaped sFault sFaultP sAt sPlace sToken sNumber sWord sText0 sWritten sSort0 sPiled sOpens sWhole sOnce sIsW sDied ncA cIm cTx cTp cPl cNm cVa cTr cAs cLi cSa cHd) A) ([.ref h, .int x1] : List Value).toArray s 0 0 A) (F0 m 30 ls []) := by
      intro n12
      induction n12 with
      | zero =>
        intro v9 c10 hf
        exact nn hf
      | succ n12 ih15 =>
        intro v9 c10 hf H locs ls hP hD hS hl
        rw [M_begin_L30] at hf
        refine lv_iload_n hx hb dX2_begin_30 rfl (lv_at hl 2 rfl) ?_
        refine lv_bipush (v := 6) hx hb dX2_begin_31 (by decide) ?_
        refine bc_gt (tgt := 49) hx hb hf dX2_begin_33 (by decide) (fun hf => ?_) (fun hf => ?_)
        · cases hf
          exact hE13 _ _ _ hP hD hS (lv_sub hl [] rfl)
        · refine lv_aload_n hx hb dX2_begin_36 rfl (lv_at hl 0 rfl) ?_
          refine lv_iload_n hx hb dX2_begin_37 rfl (lv_at hl 1 rfl) ?_
          refine lv_iload_n hx hb dX2_begin_38 rfl (lv_at hl 2 rfl) ?_
          refine lv_iconst (v := 0) hx hb dX2_begin_39 (by decide) ?_
          obtain ⟨c17, k18, hf⟩ := bd1s hf
          refine cVv (rest := []) X (met_M_put k18) gw_X2_X2_put dy_X2_put ⟨⟨rfl, rfl⟩, Nat.le_of_ble_eq_true rfl, Nat.le_of_ble_eq_true rfl⟩ hP hD hS hl.1 rcM rfl rfl ⟨Nat.zero_le _, Nat.zero_le _⟩ (Nat.le_of_ble_eq_true rfl) dX2_begin_40 (fun H locs hP hD hS => ?_)
          obtain ⟨v19, ev19, hf⟩ := lts hf
          refine lv_iinc (v := v19) (lv' := [(2, .int v19), (0, .ref h), (1, .int x1)]) hx hb dX2_begin_43 hl (k := 2) rfl (by rw [ev19]; rfl) (by decide) rfl (fun ls hl => ?_)
          refine lv_goto (tgt := 30) hx hb dX2_begin_46 (by decide) ?_
          exact ih15 _ _ hf _ _ _ hP hD hS (lv_sub hl [1, 2, 0] rfl)
    exact hL14 _ _ _ k16 _ _ _ hP hD hS (lv_sub hl [1, 2, 0] rfl)
  have hL6 : ∀ (n4 : Nat) (v1 : Int32) (c2 : Nat → Int32), M_begin_L2 φ x1 n4 v1 c2 = some c3 → ∀ (H : Heap) (locs : List Loc) (ls : Array Slot), va_P g.1 vwCl (mW g h ad sTaped sFault sFaultP sAt sPlace sToken sNumber sWord sText0 sWritten sSort0 sPiled sOpens sWhole sOnce sIsW sDied c2 cIm cTx cTp cPl cNm cVa cTr cAs cLi cSa cHd) H → va_D A (mW g h ad sTaped sFault sFaultP sAt sPlace sToken sNumber sWord sText0 sWritten sSort0 sPiled sOpens sWhole sOnce sIsW sDied c2 cIm cTx cTp cPl cNm cVa cTr cAs cLi cSa cHd) → va_S A s.heap H locs → lv_has ls 3 [(0, .ref h), (1, .int x1), (2, .int v1)] → W p l e ({ frames := 1, cells := 0, slots := 0, locals := 23 } : Room) s m ([.ref h, .int x1] : List Value).toArray below meth c H locs 0 0 (MQ below (QQ g none (mW g h ad sTaped sFault sFaultP sAt sPlace sToken sNumber sWord sText0 sWritten sSort0 sPiled sOpens sWhole sOnce sIsW sDied ncA cIm cTx cTp cPl cNm cVa cTr cAs cLi cSa cHd) A) ([.ref h, .int x1] : List Value).toArray s 0 0 A) (F0 m 2 ls []) := by
    intro n4
    induction n4 with
    | zero =>
      intro v1 c2 hf
      exact nn hf
    | succ n4 ih7 =>
      intro v1 c2 hf H locs ls hP hD hS hl
      rw [M_begin_L2] at hf
      refine lv_iload_n hx hb dX2_begin_2 rfl (lv_at hl 2 rfl) ?_
      refine lv_iconst (v := 3) hx hb dX2_begin_3 (by decide) ?_
      refine bc_ge (tgt := 28) hx hb hf dX2_begin_4 (by decide) (fun hf => ?_) (fun hf => ?_)
      · cases hf
        exact hE5 _ _ _ hP hD hS (lv_sub hl [0, 1] rfl)
      · refine lv_aload_n hx hb dX2_begin_7 rfl (lv_at hl 0 rfl) ?_
        refine lv_iload_n hx hb dX2_begin_8 rfl (lv_at hl 1 rfl) ?_
        refine lv_iload_n hx hb dX2_begin_9 rfl (lv_at hl 2 rfl) ?_
        refine lv_aload_n hx hb dX2_begin_10 rfl (lv_at hl 0 rfl) ?_
        refine lv_iload_n hx hb dX2_begin_11 rfl (lv_at hl 1 rfl) ?_
        refine lv_bipush (v := 8) hx hb dX2_begin_12 (by decide) ?_
        refine lv_iload_n hx hb dX2_begin_14 rfl (lv_at hl 2 rfl) ?_
        refine lv_iadd hx hb dX2_begin_15 ?_
        obtain ⟨r20, k21, hf⟩ := bd1s hf
        refine cVi (rest := [.int v1, .int x1, .ref h]) X (met_M_get k21) gw_X2_X2_get dy_X2_get ⟨⟨rfl, rfl⟩, Nat.le_of_ble_eq_true rfl, Nat.le_of_ble_eq_true rfl⟩ hP hD hS hl.1 rcM rfl rfl ⟨Nat.zero_le _, Nat.zero_le _⟩ (Nat.le_of_ble_eq_true rfl) dX2_begin_16 (fun H locs hP hD hS => ?_)
        obtain ⟨c22, k23, hf⟩ := bd1s hf
        refine cVv (rest := []) X (met_M_put k23) gw_X2_X2_put dy_X2_put ⟨⟨rfl, rfl⟩, Nat.le_of_ble_eq_true rfl, Nat.le_of_ble_eq_true rfl⟩ hP hD hS hl.1 rcM rfl rfl ⟨Nat.zero_le _, Nat.zero_le _⟩ (Nat.le_of_ble_eq_true rfl) dX2_begin_19 (fun H locs hP hD hS => ?_)
        obtain ⟨v24, ev24, hf⟩ := lts hf
        refine lv_iinc (v := v24) (lv' := [(2, .int v24), (0, .ref h), (1, .int x1)]) hx hb dX2_begin_22 hl (k := 2) rfl (by rw [ev24]; rfl) (by decide) rfl (fun ls hl => ?_)
        refine lv_goto (tgt := 2) hx hb dX2_begin_25 (by decide) ?_
        exact ih7 _ _ hf _ _ _ hP hD hS (lv_sub hl [1, 2, 0] rfl)
  exact hL6 _ _ _ k8 _ _ _ hP hD hS (lv_sub hl [1, 2, 0] rfl)
theorem gw_X2_X2_four : GoodIn lw_all (wsV RX2 93 RX2 yX2_four (ws_ yX2_four cX2_four 3 none)) := lw_V q1529 q1531 qs68 q148 q1532
theorem dy_X2_four : Dy yX2_four RX2 1 := by decide +kernel
set_option maxHeartbeats 4000000 in
theorem met_M_feed {l : Launch} {g : gG} {h : Nat} {ad : Nat → Nat} {sTaped : Int32} {sFault : Int32} {sFaultP : Int32} {sAt : Int32} {sPlace : Int32} {sToken : Int32} {sNumber : Int32} {sWord : Int64} {sText0 : Int32} {sWritten : Int32} {sSort0 : Int32} {sPiled : Int32} {sOpens : Int32} {sWhole : Int32} {sOnce : Int32} {sIsW : Int32} {sDied : Int32} {cA : Nat → Int32} {cIm : Nat → Int32} {cTx : Nat → Int32} {cTp : Nat → Int32} {cPl : Nat → Int32} {cNm : Nat → Int32} {cVa : Nat → Int64} {cTr : Nat → Int32} {cAs : Nat → Int32} {cLi : Nat → Int32} {cSa : Nat → Int32} {cHd : Nat → Int32} {x1 : Int32} {x2 : Int32} {x3 : Int32} {x4 : Int32} {x5 : Int32} {r : Int32} {nsTaped : Int32} {ncTp : Nat → Int32} {φ : Nat} (hf : M_feed φ sTaped cTp x1 x2 x3 x4 x5 = some (r, nsTaped, ncTp)) : CC l yX2_feed (ws_ yX2_feed cX2_feed 6 (some .int)) ({ frames := 1, cells := 0, slots := 0, locals := 22 } : Room) g [.ref h, .int x1, .int x2, .int x3, .int x4, .int x5] (mW g h ad sTaped sFault sFaultP sAt sPlace sToken sNumber sWord sText0 sWritten sSort0 sPiled sOpens sWhole sOnce sIsW sDied cA cIm cTx cTp cPl cNm cVa cTr cAs cLi cSa cHd) (some (.int r)) (mW g h ad nsTaped sFault sFaultP sAt sPlace sToken sNumber sWord sText0 sWritten sSort0 sPiled sOpens sWhole sOnce sIsW sDied cA cIm cTx ncTp cPl cNm cVa cTr cAs cLi cSa cHd) 0 0 := by
  refine CC.of RX2 rfl plain_X2 (Nat.le_of_ble_eq_true rfl) (fun p e s m below meth c A ls X hP hD hS hl => ?_)
  have hx := X.1
  have hb := X.2.1
  have hown := X.2.2.2.2.2.1
  have hts := X.2.2.2.2.2.2.1
  have hl : lv_has ls 6 [(0, .ref h), (1, .int x1), (2, .int x2), (3, .int x3), (4, .int x4), (5, .int x5)] := hl
  unfold M_feed at hf
  refine lv_aload_n hx hb dX2_feed_0 rfl (lv_at hl 0 rfl) ?_
  refine gM4 X hP dX2_feed_1 ?_
  refine lv_bipush (v := 20) hx hb dX2_feed_4 (by decide) ?_
  refine lv_iadd hx hb dX2_feed_6 ?_
  refine lv_sipush (v := 300) hx hb dX2_feed_7 (by decide) ?_
  refine bc_le (tgt := 15) hx hb hf dX2_feed_10 (by decide) (fun hf => ?_) (fun hf => ?_)
  · refine lv_aload_n hx hb dX2_feed_15 rfl (lv_at hl 0 rfl) ?_
    refine lv_iload_n hx hb dX2_feed_16 rfl (lv_at hl 1 rfl) ?_
    obtain ⟨c1, c2, k3, hf⟩ := bd2s hf
    refine cVv (rest := []) X (met_M_four k3) gw_X2_X2_four dy_X2_four ⟨⟨rfl, rfl⟩, Nat.le_of_ble_eq_true rfl, Nat.le_of_ble_eq_true rfl⟩ hP hD hS hl.1 rcM rfl rfl ⟨Nat.zero_le _, Nat.zero_le _⟩ (Nat.le_of_ble_eq_true rfl) dX2_feed_17 (fun H locs hP hD hS => ?_)
    refine lv_aload_n hx hb dX2_feed_20 rfl (lv_at hl 0 rfl) ?_
    refine lv_iload_n hx hb dX2_feed_21 rfl (lv_at hl 2 rfl) ?_
    obtain ⟨c4, c5, k6, hf⟩ := bd2s hf
    refine cVv (rest := []) X (met_M_four k6) gw_X2_X2_four dy_X2_four ⟨⟨rfl, rfl⟩, Nat.le_of_ble_eq_true rfl, Nat.le_of_ble_eq_true rfl⟩ hP hD hS hl.1 rcM rfl rfl ⟨Nat.zero_le _, Nat.zero_le _⟩ (Nat.le_of_ble_eq_true rfl) dX2_feed_22 (fun H locs hP hD hS => ?_)
    refine lv_aload_n hx hb dX2_feed_25 rfl (lv_at hl 0 rfl) ?_
    refine lv_iload_n hx hb dX2_feed_26 rfl (lv_at hl 3 rfl) ?_
    obtain ⟨c7, c8, k9, hf⟩ := bd2s hf
    refine cVv (rest := []) X (met_M_four k9) gw_X2_X2_four dy_X2_four ⟨⟨rfl, rfl⟩, Nat.le_of_ble_eq_true rfl, Nat.le_of_ble_eq_true rfl⟩ hP hD hS hl.1 rcM rfl rfl ⟨Nat.zero_le _, Nat.zero_le _⟩ (Nat.le_of_ble_eq_true rfl) dX2_feed_27 (fun H locs hP hD hS => ?_)
    refine lv_aload_n hx hb dX2_feed_30 rfl (lv_at hl 0 rfl) ?_
    refine lv_iload hx hb dX2_feed_31 (lv_at hl 4 rfl) ?_
    obtain ⟨c10, c11, k12, hf⟩ := bd2s hf
    refine cVv (rest := []) X (met_M_four k12) gw_X2_X2_four dy_X2_four ⟨⟨rfl, rfl⟩, Nat.le_of_ble_eq_true rfl, Nat.le_of_ble_eq_true rfl⟩ hP hD hS hl.1 rcM rfl rfl ⟨Nat.zero_le _, Nat.zero_le _⟩ (Nat.le_of_ble_eq_true rfl) dX2_feed_33 (fun H locs hP hD hS => ?_)
    refine lv_aload_n hx hb dX2_feed_36 rfl (lv_at hl 0 rfl) ?_
    refine lv_iload hx hb dX2_feed_37 (lv_at hl 5 rfl) ?_
    obtain ⟨c13, c14, k15, hf⟩ := bd2s hf
    refine cVv (rest := []) X (met_M_four k15) gw_X2_X2_four dy_X2_four ⟨⟨rfl, rfl⟩, Nat.le_of_ble_eq_true rfl, Nat.le_of_ble_eq_true rfl⟩ hP hD hS hl.1 rcM rfl rfl ⟨Nat.zero_le _, Nat.zero_le _⟩ (Nat.le_of_ble_eq_true rfl) dX2_feed_39 (fun H locs hP hD hS => ?_)
    refine lv_aload_n hx hb dX2_feed_42 rfl (lv_at hl 0 rfl) ?_
    refine gM4 X hP dX2_feed_43 ?_
    cases hf
    exact rI X hP hD hS dX2_feed_46
  · refine lv_iconst (v := (-1)) hx hb dX2_feed_13 (by decide) ?_
    cases hf
    exact rI X hP hD hS dX2_feed_14
theorem gw_X2_X2_byteAt : GoodIn lw_all (wsV RX2 99 RX2 yX2_byteAt (ws_ yX2_byteAt cX2_byteAt 2 (some .int))) := lw_V q1549 q1551 qs71 q148 q1552
theorem dy_X2_byteAt : Dy yX2_byteAt RX2 1 := by decide +kernel
theorem gs_X2_X2_isFigure : GoodIn lw_all (va_wsS RX2 109 yX2_isFigure (ws_ yX2_isFigure cX2_isFigure 1 (some .boolean))) := lw_S q1553 q1554 q148 q1555
theorem dy_X2_isFigure : Dy yX2_isFigure RX2 1 := by decide +kernel
theorem gs_X2_X2_isLetterByte : GoodIn lw_all (va_wsS RX2 116 yX2_isLetterByte (ws_ yX2_isLetterByte cX2_isLetterByte 1 (some .boolean))) := lw_S q1557 q1558 q148 q1559
theorem dy_X2_isLetterByte : Dy yX2_isLetterByte RX2 1 := by decide +kernel
theorem gs_X2_X2_isSign : GoodIn lw_all (va_wsS RX2 125 yX2_isSign (ws_ yX2_isSign cX2_isSign 1 (some .boolean))) := lw_S q1561 q1562 q148 q1563
theorem dy_X2_isSign : Dy yX2_isSign RX2 1 := by decide +kernel
set_option maxHeartbeats 4000000 in
theorem met_M_nextToken {l : Launch} {g : gG} {h : Nat} {ad : Nat → Nat} {sTaped : Int32} {sFault : Int32} {sFaultP : Int32} {sAt : Int32} {sPlace : Int32} {sToken : Int32} {sNumber : Int32} {sWord : Int64} {sText0 : Int32} {sWritten : Int32} {sSort0 : Int32} {sPiled : Int32} {sOpens : Int32} {sWhole : Int32} {sOnce : Int32} {sIsW : Int32} {sDied : Int32} {cA : Nat → Int32} {cIm : Nat → Int32} {cTx : Nat → Int32} {cTp : Nat → Int32} {cPl : Nat → Int32} {cNm : Nat → Int32} {cVa : Nat → Int64} {cTr : Nat → Int32} {cAs : Nat → Int32} {cLi : Nat → Int32} {cSa : Nat → Int32} {cHd : Nat → Int32} {nsAt : Int32} {nsPlace : Int32} {nsToken : Int32} {nsNumber : Int32} {nsWord : Int64} {φ : Nat} (hf : M_nextToken φ sTaped sAt sPlace sToken sNumber sWord cTp = some (nsAt, nsPlace, nsToken, nsNumber, nsWord)) : CC l yX2_nextToken (ws_ yX2_nextToken cX2_nextToken 2 none) ({ frames := 1, cells := 0, slots := 0, locals := 21 } : Room) g [.ref h] (mW g h ad sTaped sFault sFaultP sAt sPlace sToken sNumber sWord sText0 sWritten sSort0 sPiled sOpens sWhole sOnce sIsW sDied cA cIm cTx cTp cPl cNm cVa cTr cAs cLi cSa cHd) none (mW g h ad sTaped sFault sFaultP nsAt nsPlace nsToken nsNumber nsWord sText0 sWritten sSort0 sPiled sOpens sWhole sOnce sIsW sDied cA cIm cTx cTp cPl cNm cVa cTr cAs cLi cSa cHd) 0 0 := by
  refine CC.of RX2 rfl plain_X2 (Nat.le_of_ble_eq_true rfl) (fun p e s m below meth c A ls X hP hD hS hl => ?_)
  have hx := X.1
  have hb := X.2.1
  have hown := X.2.2.2.2.2.1
  have hts := X.2.2.2.2.2.2.1
  have hl : lv_has ls 2 [(0, .ref h)] := hl
  unfold M_nextToken at hf
  obtain ⟨c2, k7, hf⟩ := bd1s hf
  have hE4 : ∀ (H : Heap) (locs : List Loc) (ls : Array Slot), va_P g.1 vwCl (mW g h ad sTaped sFault sFaultP c2 sPlace sToken sNumber sWord sText0 sWritten sSort0 sPiled sOpens sWhole sOnce sIsW sDied cA cIm cTx cTp cPl cNm cVa cTr cAs cLi cSa cHd) H → va_D A (mW g h ad sTaped sFault sFaultP c2 sPlace sToken sNumber sWord sText0 sWritten sSort0 sPiled sOpens sWhole sOnce sIsW sDied cA cIm cTx cTp cPl cNm cVa cTr cAs cLi cSa cHd) → va_S A s.heap H locs → lv_has ls 2 [(0, .ref h)] → W p l e ({ frames := 1, cells := 0, slots := 0, locals := 21 } : Room) s m ([.ref h] : List Value).toArray below meth c H locs 0 0 (MQ below (QQ g none (mW g h ad sTaped sFault sFaultP nsAt nsPlace nsToken nsNumber nsWord sText0 sWritten sSort0 sPiled sOpens sWhole sOnce sIsW sDied cA cIm cTx cTp cPl cNm cVa cTr cAs cLi cSa cHd) A) ([.ref h] : List Value).toArray s 0 0 A) (F0 m 39 ls []) := by
    intro H locs ls hP hD hS hl
    refine lv_aload_n hx hb dX2_nextToken_39 rfl (lv_at hl 0 rfl) ?_
    refine lv_aload_n hx hb dX2_nextToken_40 rfl (lv_at hl 0 rfl) ?_
    refine gM7 X hP dX2_nextToken_41 ?_
    refine pM8 X hP hD hS dX2_nextToken_44 (fun H locs hP hD hS => ?_)
    refine lv_aload_n hx hb dX2_nextToken_47 rfl (lv_at hl 0 rfl) ?_
    refine lv_aload_n hx hb dX2_nextToken_48 rfl (lv_at hl 0 rfl) ?_
    refine gM7 X hP dX2_nextToken_49 ?_
    obtain ⟨r8, k9, hf⟩ := bd1s hf
    refine cVi (rest := []) X (met_M_byteAt k9) gw_X2_X2_byteAt dy_X2_byteAt ⟨⟨rfl, rfl⟩, Nat.le_of_ble_eq_true rfl, Nat.le_of_ble_eq_true rfl⟩ hP hD hS hl.1 rcM rfl rfl ⟨Nat.zero_le _, Nat.zero_le _⟩ (Nat.le_of_ble_eq_true rfl) dX2_nextToken_52 (fun H locs hP hD hS => ?_)
    refine lv_istore_n (lv' := [(1, .int r8), (0, .ref h)]) hx hb dX2_nextToken_55 rfl hl (by decide) rfl (fun ls hl => ?_)
    refine lv_iload_n hx hb dX2_nextToken_56 rfl (lv_at hl 0 rfl) ?_
    refine bq_ge (tgt := 68) hx hb hf dX2_nextToken_57 (by decide) (fun hf => ?_) (fun hf => ?_)
    · refine lv_iload_n hx hb dX2_nextToken_68 rfl (lv_at hl 0 rfl) ?_
      obtain ⟨r10, k11, hf⟩ := bd1s hf
      refine cSi (rest := []) X (met_M_isFigure (g := g) k11) gs_X2_X2_isFigure dy_X2_isFigure ⟨⟨rfl, rfl⟩, Nat.le_of_ble_eq_true rfl, Nat.le_of_ble_eq_true rfl⟩ hP hD hS hl.1 rfl rfl ⟨Nat.zero_le _, Nat.zero_le _⟩ (Nat.le_of_ble_eq_true rfl) dX2_nextToken_69 (fun H locs hP hD hS => ?_)
      refine bq_eq (tgt := 151) hx hb hf dX2_nextToken_72 (by decide) (fun hf => ?_) (fun hf => ?_)
      · refine lv_iload_n hx hb dX2_nextToken_151 rfl (lv_at hl 0 rfl) ?_
        obtain ⟨r12, k13, hf⟩ := bd1s hf
        refine cSi (rest := []) X (met_M_isLetterByte (g := g) k13) gs_X2_X2_isLetterByte dy_X2_isLetterByte ⟨⟨rfl, rfl⟩, Nat.le_of_ble_eq_true rfl, Nat.le_of_ble_eq_true rfl⟩ hP hD hS hl.1 rfl rfl ⟨Nat.zero_le _, Nat.zero_le _⟩ (Nat.le_of_ble_eq_true rfl) dX2_nextToken_152 (fun H locs hP hD hS => ?_)
        refine bq_eq (tgt := 234) hx hb hf dX2_nextToken_155 (by decide) (fun hf => ?_) (fun hf => ?_)
        · refine lv_aload_n hx hb dX2_nextToken_234 rfl (lv_at hl 1 rfl) ?_
          refine lv_iload_n hx hb dX2_nextToken_235 rfl (lv_at hl 0 rfl) ?_
          obtain ⟨r14, k15, hf⟩ := bd1s hf
          refine cSi (rest := [.ref h]) X (met_M_isSign (g := g) k15) gs_X2_X2_isSign dy_X2_isSign ⟨⟨rfl, rfl⟩, Nat.le_of_ble_eq_true rfl, Nat.le_of_ble_eq_true rfl⟩ hP hD hS hl.1 rfl rfl ⟨Nat.zero_le _, Nat.zero_le _⟩ (Nat.le_of_ble_eq_true rfl) dX2_nextToken_236 (fun H locs hP hD hS => ?_)
          obtain ⟨v16, k17, hf⟩ := bd1s hf
          have hj18 : ∀ (H : Heap) (locs : List Loc) (ls : Array Slot), va_P g.1 vwCl (mW g h ad sTaped sFault sFaultP c2 c2 sToken sNumber sWord sText0 sWritten sSort0 sPiled sOpens sWhole sOnce sIsW sDied cA cIm cTx cTp cPl cNm cVa cTr cAs cLi cSa cHd) H → va_D A (mW g h ad sTaped sFault sFaultP c2 c2 sToken sNumber sWord sText0 sWritten sSort0 sPiled sOpens sWhole sOnce sIsW sDied cA cIm cTx cTp cPl cNm cVa cTr cAs cLi cSa cHd) → va_S A s.heap H locs → lv_has ls 2 [(0, .ref h), (1, .int r8)] → W p l e ({ frames := 1, cells := 0, slots := 0, locals := 21 } : Room) s m ([.ref h] : List Value).toArray below meth c H locs 0 0 (MQ below (QQ g none (mW g h ad sTaped sFault sFaultP nsAt nsPlace nsToken nsNumber nsWord sText0 sWritten sSort0 sPiled sOpens sWhole sOnce sIsW sDied cA cIm cTx cTp cPl cNm cVa cTr cAs cLi cSa cHd) A) ([.ref h] : List Value).toArray s 0 0 A) (F0 m 247 ls [.int v16, .ref h]) := by
            intro H locs ls hP hD hS hl
            refine pM9 X hP hD hS dX2_nextToken_247 (fun H locs hP hD hS => ?_)
            refine lv_aload_n hx hb dX2_nextToken_250 rfl (lv_at hl 0 rfl) ?_
            refine lv_dup hx hb dX2_nextToken_251 rfl ?_
            refine gM7 X hP dX2_nextToken_252 ?_
            refine lv_iconst (v := 1) hx hb dX2_nextToken_255 (by decide) ?_
            refine lv_iadd hx hb dX2_nextToken_256 ?_
            obtain ⟨v19, ev19, hf⟩ := lts hf
            refine tpi ev19 ?_
            refine pM7 X hP hD hS dX2_nextToken_257 (fun H locs hP hD hS => ?_)
            refine lv_iload_n hx hb dX2_nextToken_260 rfl (lv_at hl 1 rfl) ?_
            refine lv_bipush (v := 60) hx hb dX2_nextToken_261 (by decide) ?_
            obtain ⟨k20, ek20, hf⟩ := jns hf
            have hj21 : k20 = some (nsAt, nsPlace, nsToken, nsNumber, nsWord) → ∀ (H : Heap) (locs : List Loc) (ls : Array Slot), va_P g.1 vwCl (mW g h ad sTaped sFault sFaultP v19 c2 v16 sNumber sWord sText0 sWritten sSort0 sPiled sOpens sWhole sOnce sIsW sDied cA cIm cTx cTp cPl cNm cVa cTr cAs cLi cSa cHd) H → va_D A (mW g h ad sTaped sFault sFaultP v19 c2 v16 sNumber sWord sText0 sWritten sSort0 sPiled sOpens sWhole sOnce sIsW sDied cA cIm cTx cTp cPl cNm cVa cTr cAs cLi cSa cHd) → va_S A s.heap H locs → lv_has ls 2 [(0, .ref h), (1, .int r8)] → W p l e ({ frames := 1, cells := 0, slots := 0, locals := 21 } : Room) s m ([.ref h] : List Value).toArray below meth c H locs 0 0 (MQ below (QQ g none (mW g h ad sTaped sFault sFaultP nsAt nsPlace nsToken nsNumber nsWord sText0 sWritten sSort0 sPiled sOpens sWhole sOnce sIsW sDied cA cIm cTx cTp cPl cNm cVa cTr cAs cLi cSa cHd) A) ([.ref h] : List Value).toArray s 0 0 A) (F0 m 272 ls []) := by
              intro hf H locs ls hP hD hS hl
              rw [ek20] at hf
              refine lv_aload_n hx hb dX2_nextToken_272 rfl (lv_at hl 0 rfl) ?_
              refine lv_aload_n hx hb dX2_nextToken_273 rfl (lv_at hl 0 rfl) ?_
              refine gM7 X hP dX2_nextToken_274 ?_
              obtain ⟨r22, k23, hf⟩ := bd1s hf
              refine cVi (rest := []) X (met_M_byteAt k23) gw_X2_X2_byteAt dy_X2_byteAt ⟨⟨rfl, rfl⟩, Nat.le_of_ble_eq_true rfl, Nat.le_of_ble_eq_true rfl⟩ hP hD hS hl.1 rcM rfl rfl ⟨Nat.zero_le _, Nat.zero_le _⟩ (Nat.le_of_ble_eq_true rfl) dX2_nextToken_277 (fun H locs hP hD hS => ?_)
              refine lv_bipush (v := 61) hx hb dX2_nextToken_280 (by decide) ?_
              refine bc_ne (tgt := 310) hx hb hf dX2_nextToken_282 (by decide) (fun hf => ?_) (fun hf => ?_)
              · cases hf
                exact rV X hP hD hS dX2_nextToken_310
              · refine lv_aload_n hx hb dX2_nextToken_285 rfl (lv_at hl 0 rfl) ?_
                refine lv_iload_n hx hb dX2_nextToken_286 rfl (lv_at hl 1 rfl) ?_
                refine lv_bipush (v := 60) hx hb dX2_nextToken_287 (by decide) ?_
                obtain ⟨v24, k25, hf⟩ := bd1s hf
                have hj26 : ∀ (H : Heap) (locs : List Loc) (ls : Array Slot), va_P g.1 vwCl (mW g h ad sTaped sFault sFaultP v19 c2 v16 sNumber sWord sText0 sWritten sSort0 sPiled sOpens sWhole sOnce sIsW sDied cA cIm cTx cTp cPl cNm cVa cTr cAs cLi cSa cHd) H → va_D A (mW g h ad sTaped sFault sFaultP v19 c2 v16 sNumber sWord sText0 sWritten sSort0 sPiled sOpens sWhole sOnce sIsW sDied cA cIm cTx cTp cPl cNm cVa cTr cAs cLi cSa cHd) → va_S A s.heap H locs → lv_has ls 2 [(0, .ref h)] → W p l e ({ frames := 1, cells := 0, slots := 0, locals := 21 } : Room) s m ([.ref h] : List Value).toArray below meth c H locs 0 0 (MQ below (QQ g none (mW g h ad sTaped sFault sFaultP nsAt nsPlace nsToken nsNumber nsWord sText0 sWritten sSort0 sPiled sOpens sWhole sOnce sIsW sDied cA cIm cTx cTp cPl cNm cVa cTr cAs cLi cSa cHd) A) ([.ref h] : List Value).toArray s 0 0 A) (F0 m 297 ls [.int v24, .ref h]) := by
                  intro H locs ls hP hD hS hl
                  refine pM9 X hP hD hS dX2_nextToken_297 (fun H locs hP hD hS => ?_)
                  refine lv_aload_n hx hb dX2_nextToken_300 rfl (lv_at hl 0 rfl) ?_
                  refine lv_dup hx hb dX2_nextToken_301 rfl ?_
                  refine gM7 X hP dX2_nextToken_302 ?_
                  refine lv_iconst (v := 1) hx hb dX2_nextToken_305 (by decide) ?_
                  refine lv_iadd hx hb dX2_nextToken_306 ?_
                  obtain ⟨v27, ev27, hf⟩ := lts hf
                  refine tpi ev27 ?_
                  refine pM7 X hP hD hS dX2_nextToken_307 (fun H locs hP hD hS => ?_)
                  cases hf
                  exact rV X hP hD hS dX2_nextToken_310
                replace hf := k25
                clear k25
                refine bc_ne (tgt := 296) hx hb hf dX2_nextToken_289 (by decide) (fun hf => ?_) (fun hf => ?_)
                · refine lv_iconst (v := 5) hx hb dX2_nextToken_296 (by decide) ?_
                  cases hf
                  exact hj26 _ _ _ hP hD hS (lv_sub hl [0] rfl)
                · refine lv_iconst (v := 4) hx hb dX2_nextToken_292 (by decide) ?_
                  refine lv_goto (tgt := 297) hx hb dX2_nextToken_293 (by decide) ?_
                  cases hf
                  exact hj26 _ _ _ hP hD hS (lv_sub hl [0] rfl)
            clear ek20
            refine bc_eq (tgt := 272) hx hb hf dX2_nextToken_263 (by decide) (fun hf => ?_) (fun hf => ?_)
            · exact hj21 hf _ _ _ hP hD hS (lv_sub hl [0, 1] rfl)
            · refine lv_iload_n hx hb dX2_nextToken_266 rfl (lv_at hl 1 rfl) ?_
              refine lv_bipush (v := 62) hx hb dX2_nextToken_267 (by decide) ?_
              refine bc_ne (tgt := 310) hx hb hf dX2_nextToken_269 (by decide) (fun hf => ?_) (fun hf => ?_)
              · cases hf
                exact rV X hP hD hS dX2_nextToken_310
              · exact hj21 hf _ _ _ hP hD hS (lv_sub hl [0, 1] rfl)
          replace hf := k17
          clear k17
          refine bq_eq (tgt := 246) hx hb hf dX2_nextToken_239 (by decide) (fun hf => ?_) (fun hf => ?_)
          · refine lv_iconst (v := 3) hx hb dX2_nextToken_246 (by decide) ?_
            cases hf
            exact hj18 _ _ _ hP hD hS (lv_sub hl [1, 0] rfl)
          · refine lv_iload_n hx hb dX2_nextToken_242 rfl (lv_at hl 0 rfl) ?_
            refine lv_goto (tgt := 247) hx hb dX2_nextToken_243 (by decide) ?_
            cases hf
            exact hj18 _ _ _ hP hD hS (lv_sub hl [1, 0] rfl)
        · refine lv_aload_n hx hb dX2_nextToken_158 rfl (lv_at hl 1 rfl) ?_
          refine lv_iconst (v := 2) hx hb dX2_nextToken_159 (by decide) ?_
          refine pM9 X hP hD hS dX2_nextToken_160 (fun H locs hP hD hS => ?_)
          refine lv_aload_n hx hb dX2_nextToken_163 rfl (lv_at hl 1 rfl) ?_
          refine lv_lconst (v := 0) hx hb dX2_nextToken_164 (by decide) ?_
          refine pM11 X hP hD hS dX2_nextToken_165 (fun H locs hP hD hS => ?_)
          obtain ⟨c30, c31, k36, hf⟩ := bd2s hf
          have hE33 : ∀ (H : Heap) (locs : List Loc) (ls : Array Slot), va_P g.1 vwCl (mW g h ad sTaped sFault sFaultP c30 c2 2 sNumber c31 sText0 sWritten sSort0 sPiled sOpens sWhole sOnce sIsW sDied cA cIm cTx cTp cPl cNm cVa cTr cAs cLi cSa cHd) H → va_D A (mW g h ad sTaped sFault sFaultP c30 c2 2 sNumber c31 sText0 sWritten sSort0 sPiled sOpens sWhole sOnce sIsW sDied cA cIm cTx cTp cPl cNm cVa cTr cAs cLi cSa cHd) → va_S A s.heap H locs → lv_has ls 2 [] → W p l e ({ frames := 1, cells := 0, slots := 0, locals := 21 } : Room) s m ([.ref h] : List Value).toArray below meth c H locs 0 0 (MQ below (QQ g none (mW g h ad sTaped sFault sFaultP nsAt nsPlace nsToken nsNumber nsWord sText0 sWritten sSort0 sPiled sOpens sWhole sOnce sIsW sDied cA cIm cTx cTp cPl cNm cVa cTr cAs cLi cSa cHd) A) ([.ref h] : List Value).toArray s 0 0 A) (F0 m 310 ls []) := by
            intro H locs ls hP hD hS hl
            cases hf
            exact rV X hP hD hS dX2_nextToken_310
          have hL34 : ∀ (n32 : Nat) (c28 : Int32) (c29 : Int64), M_nextToken_L168 φ sTaped cTp n32 c28 c29 = some (c30, c31) → ∀ (H : Heap) (locs : List Loc) (ls : Array Slot), va_P g.1 vwCl (mW g h ad sTaped sFault sFaultP c28 c2 2 sNumber c29 sText0 sWritten sSort0 sPiled sOpens sWhole sOnce sIsW sDied cA cIm cTx cTp cPl cNm cVa cTr cAs cLi cSa cHd) H → va_D A (mW g h ad sTaped sFault sFaultP c28 c2 2 sNumber c29 sText0 sWritten sSort0 sPiled sOpens sWhole sOnce sIsW sDied cA cIm cTx cTp cPl cNm cVa cTr cAs cLi cSa cHd) → va_S A s.heap H locs → lv_has ls 2 [(0, .ref h)] → W p l e ({ frames := 1, cells := 0, slots := 0, locals := 21 } : Room) s m ([.ref h] : List Value).toArray below meth c H locs 0 0 (MQ below (QQ g none (mW g h ad sTaped sFault sFaultP nsAt nsPlace nsToken nsNumber nsWord sText0 sWritten sSort0 sPiled sOpens sWhole sOnce sIsW sDied cA cIm cTx cTp cPl cNm cVa cTr cAs cLi cSa cHd) A) ([.ref h] : List Value).toArray s 0 0 A) (F0 m 168 ls []) := by
            intro n32
            induction n32 with
            | zero =>
              intro c28 c29 hf
              exact nn hf
            | succ n32 ih35 =>
              intro c28 c29 hf H locs ls hP hD hS hl
              rw [M_nextToken_L168] at hf
              refine lv_aload_n hx hb dX2_nextToken_168 rfl (lv_at hl 0 rfl) ?_
              refine lv_aload_n hx hb dX2_nextToken_169 rfl (lv_at hl 0 rfl) ?_
              refine gM7 X hP dX2_nextToken_170 ?_
              obtain ⟨r37, k38, hf⟩ := bd1s hf
              refine cVi (rest := []) X (met_M_byteAt k38) gw_X2_X2_byteAt dy_X2_byteAt ⟨⟨rfl, rfl⟩, Nat.le_of_ble_eq_true rfl, Nat.le_of_ble_eq_true rfl⟩ hP hD hS hl.1 rcM rfl rfl ⟨Nat.zero_le _, Nat.zero_le _⟩ (Nat.le_of_ble_eq_true rfl) dX2_nextToken_173 (fun H locs hP hD hS => ?_)
              obtain ⟨r39, k40, hf⟩ := bd1s hf
              refine cSi (rest := []) X (met_M_isLetterByte (g := g) k40) gs_X2_X2_isLetterByte dy_X2_isLetterByte ⟨⟨rfl, rfl⟩, Nat.le_of_ble_eq_true rfl, Nat.le_of_ble_eq_true rfl⟩ hP hD hS hl.1 rfl rfl ⟨Nat.zero_le _, Nat.zero_le _⟩ (Nat.le_of_ble_eq_true rfl) dX2_nextToken_176 (fun H locs hP hD hS => ?_)
              refine bq_eq (tgt := 310) hx hb hf dX2_nextToken_179 (by decide) (fun hf => ?_) (fun hf => ?_)
              · cases hf
                exact hE33 _ _ _ hP hD hS (lv_sub hl [] rfl)
              · refine lv_aload_n hx hb dX2_nextToken_182 rfl (lv_at hl 0 rfl) ?_
                refine lv_aload_n hx hb dX2_nextToken_183 rfl (lv_at hl 0 rfl) ?_
                refine gM11 X hP dX2_nextToken_184 ?_
                refine lv_bipush (v := 48) hx hb dX2_nextToken_187 (by decide) ?_
                refine lv_lshr hx hb dX2_nextToken_189 rfl ?_
                refine lv_lconst (v := 0) hx hb dX2_nextToken_190 (by decide) ?_
                refine W.lcmp hx hb dX2_nextToken_191 ?_
                obtain ⟨v41, k42, hf⟩ := bd1s hf
                have hj43 : ∀ (H : Heap) (locs : List Loc) (ls : Array Slot), va_P g.1 vwCl (mW g h ad sTaped sFault sFaultP c28 c2 2 sNumber c29 sText0 sWritten sSort0 sPiled sOpens sWhole sOnce sIsW sDied cA cIm cTx cTp cPl cNm cVa cTr cAs cLi cSa cHd) H → va_D A (mW g h ad sTaped sFault sFaultP c28 c2 2 sNumber c29 sText0 sWritten sSort0 sPiled sOpens sWhole sOnce sIsW sDied cA cIm cTx cTp cPl cNm cVa cTr cAs cLi cSa cHd) → va_S A s.heap H locs → lv_has ls 2 [(0, .ref h)] → W p l e ({ frames := 1, cells := 0, slots := 0, locals := 21 } : Room) s m ([.ref h] : List Value).toArray below meth c H locs 0 0 (MQ below (QQ g none (mW g h ad sTaped sFault sFaultP nsAt nsPlace nsToken nsNumber nsWord sText0 sWritten sSort0 sPiled sOpens sWhole sOnce sIsW sDied cA cIm cTx cTp cPl cNm cVa cTr cAs cLi cSa cHd) A) ([.ref h] : List Value).toArray s 0 0 A) (F0 m 218 ls [.long v41, .ref h]) := by
                  intro H locs ls hP hD hS hl
                  refine pM11 X hP hD hS dX2_nextToken_218 (fun H locs hP hD hS => ?_)
                  refine lv_aload_n hx hb dX2_nextToken_221 rfl (lv_at hl 0 rfl) ?_
                  refine lv_dup hx hb dX2_nextToken_222 rfl ?_
                  refine gM7 X hP dX2_nextToken_223 ?_
                  refine lv_iconst (v := 1) hx hb dX2_nextToken_226 (by decide) ?_
                  refine lv_iadd hx hb dX2_nextToken_227 ?_
                  obtain ⟨v44, ev44, hf⟩ := lts hf
                  refine tpi ev44 ?_
                  refine pM7 X hP hD hS dX2_nextToken_228 (fun H locs hP hD hS => ?_)
                  refine lv_goto (tgt := 168) hx hb dX2_nextToken_231 (by decide) ?_
                  exact ih35 _ _ hf _ _ _ hP hD hS (lv_sub hl [0] rfl)
                replace hf := k42
                clear k42
                refine bq_eq (tgt := 201) hx hb hf dX2_nextToken_192 (by decide) (fun hf => ?_) (fun hf => ?_)
                · refine lv_aload_n hx hb dX2_nextToken_201 rfl (lv_at hl 0 rfl) ?_
                  refine gM11 X hP dX2_nextToken_202 ?_
                  refine lv_bipush (v := 8) hx hb dX2_nextToken_205 (by decide) ?_
                  refine lv_lshl hx hb dX2_nextToken_207 rfl ?_
                  refine lv_aload_n hx hb dX2_nextToken_208 rfl (lv_at hl 0 rfl) ?_
                  refine lv_aload_n hx hb dX2_nextToken_209 rfl (lv_at hl 0 rfl) ?_
                  refine gM7 X hP dX2_nextToken_210 ?_
                  obtain ⟨r45, k46, hf⟩ := bd1s hf
                  refine cVi (rest := [.long (c29 <<< ((8 : Int32).toInt64 &&& 63)), .ref h]) X (met_M_byteAt k46) gw_X2_X2_byteAt dy_X2_byteAt ⟨⟨rfl, rfl⟩, Nat.le_of_ble_eq_true rfl, Nat.le_of_ble_eq_true rfl⟩ hP hD hS hl.1 rcM rfl rfl ⟨Nat.zero_le _, Nat.zero_le _⟩ (Nat.le_of_ble_eq_true rfl) dX2_nextToken_213 (fun H locs hP hD hS => ?_)
                  refine lv_i2l hx hb dX2_nextToken_216 rfl ?_
                  refine lv_lor hx hb dX2_nextToken_217 ?_
                  cases hf
                  exact hj43 _ _ _ hP hD hS (lv_sub hl [0] rfl)
                · refine lv_ldc2 (v := 1152921504606846976) hx hb hown (hts _ q1560) dX2_nextToken_195 ?_
                  refine lv_goto (tgt := 218) hx hb dX2_nextToken_198 (by decide) ?_
                  cases hf
                  exact hj43 _ _ _ hP hD hS (lv_sub hl [0] rfl)
          exact hL34 _ _ _ k36 _ _ _ hP hD hS (lv_sub hl [1] rfl)
      · refine lv_aload_n hx hb dX2_nextToken_75 rfl (lv_at hl 1 rfl) ?_
        refine lv_iconst (v := 1) hx hb dX2_nextToken_76 (by decide) ?_
        refine pM9 X hP hD hS dX2_nextToken_77 (fun H locs hP hD hS => ?_)
        refine lv_aload_n hx hb dX2_nextToken_80 rfl (lv_at hl 1 rfl) ?_
        refine lv_iconst (v := 0) hx hb dX2_nextToken_81 (by decide) ?_
        refine pM10 X hP hD hS dX2_nextToken_82 (fun H locs hP hD hS => ?_)
        obtain ⟨c49, c50, k55, hf⟩ := bd2s hf
        have hE52 : ∀ (H : Heap) (locs : List Loc) (ls : Array Slot), va_P g.1 vwCl (mW g h ad sTaped sFault sFaultP c49 c2 1 c50 sWord sText0 sWritten sSort0 sPiled sOpens sWhole sOnce sIsW sDied cA cIm cTx cTp cPl cNm cVa cTr cAs cLi cSa cHd) H → va_D A (mW g h ad sTaped sFault sFaultP c49 c2 1 c50 sWord sText0 sWritten sSort0 sPiled sOpens sWhole sOnce sIsW sDied cA cIm cTx cTp cPl cNm cVa cTr cAs cLi cSa cHd) → va_S A s.heap H locs → lv_has ls 2 [] → W p l e ({ frames := 1, cells := 0, slots := 0, locals := 21 } : Room) s m ([.ref h] : List Value).toArray below meth c H locs 0 0 (MQ below (QQ g none (mW g h ad sTaped sFault sFaultP nsAt nsPlace nsToken nsNumber nsWord sText0 sWritten sSort0 sPiled sOpens sWhole sOnce sIsW sDied cA cIm cTx cTp cPl cNm cVa cTr cAs cLi cSa cHd) A) ([.ref h] : List Value).toArray s 0 0 A) (F0 m 310 ls []) := by
          intro H locs ls hP hD hS hl
          cases hf
          exact rV X hP hD hS dX2_nextToken_310
        have hL53 : ∀ (n51 : Nat) (c47 : Int32) (c48 : Int32), M_nextToken_L85 φ sTaped cTp n51 c47 c48 = some (c49, c50) → ∀ (H : Heap) (locs : List Loc) (ls : Array Slot), va_P g.1 vwCl (mW g h ad sTaped sFault sFaultP c47 c2 1 c48 sWord sText0 sWritten sSort0 sPiled sOpens sWhole sOnce sIsW sDied cA cIm cTx cTp cPl cNm cVa cTr cAs cLi cSa cHd) H → va_D A (mW g h ad sTaped sFault sFaultP c47 c2 1 c48 sWord sText0 sWritten sSort0 sPiled sOpens sWhole sOnce sIsW sDied cA cIm cTx cTp cPl cNm cVa cTr cAs cLi cSa cHd) → va_S A s.heap H locs → lv_has ls 2 [(0, .ref h)] → W p l e ({ frames := 1, cells := 0, slots := 0, locals := 21 } : Room) s m ([.ref h] : List Value).toArray below meth c H locs 0 0 (MQ below (QQ g none (mW g h ad sTaped sFault sFaultP nsAt nsPlace nsToken nsNumber nsWord sText0 sWritten sSort0 sPiled sOpens sWhole sOnce sIsW sDied cA cIm cTx cTp cPl cNm cVa cTr cAs cLi cSa cHd) A) ([.ref h] : List Value).toArray s 0 0 A) (F0 m 85 ls []) := by
          intro n51
          induction n51 with
          | zero =>
            intro c47 c48 hf
            exact nn hf
          | succ n51 ih54 =>
            intro c47 c48 hf H locs ls hP hD hS hl
            rw [M_nextToken_L85] at hf
            refine lv_aload_n hx hb dX2_nextToken_85 rfl (lv_at hl 0 rfl) ?_
            refine lv_aload_n hx hb dX2_nextToken_86 rfl (lv_at hl 0 rfl) ?_
            refine gM7 X hP dX2_nextToken_87 ?_
            obtain ⟨r56, k57, hf⟩ := bd1s hf
            refine cVi (rest := []) X (met_M_byteAt k57) gw_X2_X2_byteAt dy_X2_byteAt ⟨⟨rfl, rfl⟩, Nat.le_of_ble_eq_true rfl, Nat.le_of_ble_eq_true rfl⟩ hP hD hS hl.1 rcM rfl rfl ⟨Nat.zero_le _, Nat.zero_le _⟩ (Nat.le_of_ble_eq_true rfl) dX2_nextToken_90 (fun H locs hP hD hS => ?_)
            obtain ⟨r58, k59, hf⟩ := bd1s hf
            refine cSi (rest := []) X (met_M_isFigure (g := g) k59) gs_X2_X2_isFigure dy_X2_isFigure ⟨⟨rfl, rfl⟩, Nat.le_of_ble_eq_true rfl, Nat.le_of_ble_eq_true rfl⟩ hP hD hS hl.1 rfl rfl ⟨Nat.zero_le _, Nat.zero_le _⟩ (Nat.le_of_ble_eq_true rfl) dX2_nextToken_93 (fun H locs hP hD hS => ?_)
            refine bq_eq (tgt := 310) hx hb hf dX2_nextToken_96 (by decide) (fun hf => ?_) (fun hf => ?_)
            · cases hf
              exact hE52 _ _ _ hP hD hS (lv_sub hl [] rfl)
            · refine lv_aload_n hx hb dX2_nextToken_99 rfl (lv_at hl 0 rfl) ?_
              refine lv_aload_n hx hb dX2_nextToken_100 rfl (lv_at hl 0 rfl) ?_
              refine gM10 X hP dX2_nextToken_101 ?_
              refine lv_ldc (v := 99999) hx hb hown (hts _ q1556) dX2_nextToken_104 ?_
              obtain ⟨v60, k61, hf⟩ := bd1s hf
              have hj62 : ∀ (H : Heap) (locs : List Loc) (ls : Array Slot), va_P g.1 vwCl (mW g h ad sTaped sFault sFaultP c47 c2 1 c48 sWord sText0 sWritten sSort0 sPiled sOpens sWhole sOnce sIsW sDied cA cIm cTx cTp cPl cNm cVa cTr cAs cLi cSa cHd) H → va_D A (mW g h ad sTaped sFault sFaultP c47 c2 1 c48 sWord sText0 sWritten sSort0 sPiled sOpens sWhole sOnce sIsW sDied cA cIm cTx cTp cPl cNm cVa cTr cAs cLi cSa cHd) → va_S A s.heap H locs → lv_has ls 2 [(0, .ref h)] → W p l e ({ frames := 1, cells := 0, slots := 0, locals := 21 } : Room) s m ([.ref h] : List Value).toArray below meth c H locs 0 0 (MQ below (QQ g none (mW g h ad sTaped sFault sFaultP nsAt nsPlace nsToken nsNumber nsWord sText0 sWritten sSort0 sPiled sOpens sWhole sOnce sIsW sDied cA cIm cTx cTp cPl cNm cVa cTr cAs cLi cSa cHd) A) ([.ref h] : List Value).toArray s 0 0 A) (F0 m 135 ls [.int v60, .ref h]) := by
                intro H locs ls hP hD hS hl
                refine pM10 X hP hD hS dX2_nextToken_135 (fun H locs hP hD hS => ?_)
                refine lv_aload_n hx hb dX2_nextToken_138 rfl (lv_at hl 0 rfl) ?_
                refine lv_dup hx hb dX2_nextToken_139 rfl ?_
                refine gM7 X hP dX2_nextToken_140 ?_
                refine lv_iconst (v := 1) hx hb dX2_nextToken_143 (by decide) ?_
                refine lv_iadd hx hb dX2_nextToken_144 ?_
                obtain ⟨v63, ev63, hf⟩ := lts hf
                refine tpi ev63 ?_
                refine pM7 X hP hD hS dX2_nextToken_145 (fun H locs hP hD hS => ?_)
                refine lv_goto (tgt := 85) hx hb dX2_nextToken_148 (by decide) ?_
                exact ih54 _ _ hf _ _ _ hP hD hS (lv_sub hl [0] rfl)
              replace hf := k61
              clear k61
              refine bc_le (tgt := 116) hx hb hf dX2_nextToken_106 (by decide) (fun hf => ?_) (fun hf => ?_)
              · refine lv_bipush (v := 10) hx hb dX2_nextToken_116 (by decide) ?_
                refine lv_aload_n hx hb dX2_nextToken_118 rfl (lv_at hl 0 rfl) ?_
                refine gM10 X hP dX2_nextToken_119 ?_
                refine lv_imul hx hb dX2_nextToken_122 ?_
                refine lv_aload_n hx hb dX2_nextToken_123 rfl (lv_at hl 0 rfl) ?_
                refine lv_aload_n hx hb dX2_nextToken_124 rfl (lv_at hl 0 rfl) ?_
                refine gM7 X hP dX2_nextToken_125 ?_
                obtain ⟨r64, k65, hf⟩ := bd1s hf
                refine cVi (rest := [.int (10 * c48), .ref h]) X (met_M_byteAt k65) gw_X2_X2_byteAt dy_X2_byteAt ⟨⟨rfl, rfl⟩, Nat.le_of_ble_eq_true rfl, Nat.le_of_ble_eq_true rfl⟩ hP hD hS hl.1 rcM rfl rfl ⟨Nat.zero_le _, Nat.zero_le _⟩ (Nat.le_of_ble_eq_true rfl) dX2_nextToken_128 (fun H locs hP hD hS => ?_)
                refine lv_iadd hx hb dX2_nextToken_131 ?_
                refine lv_bipush (v := 48) hx hb dX2_nextToken_132 (by decide) ?_
                refine lv_isub hx hb dX2_nextToken_134 ?_
                cases hf
                exact hj62 _ _ _ hP hD hS (lv_sub hl [0] rfl)
              · refine lv_aload_n hx hb dX2_nextToken_109 rfl (lv_at hl 0 rfl) ?_
                refine gM10 X hP dX2_nextToken_110 ?_
                refine lv_goto (tgt := 135) hx hb dX2_nextToken_113 (by decide) ?_
                cases hf
                exact hj62 _ _ _ hP hD hS (lv_sub hl [0] rfl)
        exact hL53 _ _ _ k55 _ _ _ hP hD hS (lv_sub hl [1] rfl)
    · refine lv_aload_n hx hb dX2_nextToken_60 rfl (lv_at hl 1 rfl) ?_
      refine lv_iconst (v := 0) hx hb dX2_nextToken_61 (by decide) ?_
      refine pM9 X hP hD hS dX2_nextToken_62 (fun H locs hP hD hS => ?_)
      refine lv_goto (tgt := 310) hx hb dX2_nextToken_65 (by decide) ?_
      cases hf
      exact rV X hP hD hS dX2_nextToken_310
  have hL5 : ∀ (n3 : Nat) (c1 : Int32), M_nextToken_L0 φ sTaped cTp n3 c1 = some c2 → ∀ (H : Heap) (locs : List Loc) (ls : Array Slot), va_P g.1 vwCl (mW g h ad sTaped sFault sFaultP c1 sPlace sToken sNumber sWord sText0 sWritten sSort0 sPiled sOpens sWhole sOnce sIsW sDied cA cIm cTx cTp cPl cNm cVa cTr cAs cLi cSa cHd) H → va_D A (mW g h ad sTaped sFault sFaultP c1 sPlace sToken sNumber sWord sText0 sWritten sSort0 sPiled sOpens sWhole sOnce sIsW sDied cA cIm cTx cTp cPl cNm cVa cTr cAs cLi cSa cHd) → va_S A s.heap H locs → lv_has ls 2 [(0, .ref h)] → W p l e ({ frames := 1, cells := 0, slots := 0, locals := 21 } : Room) s m ([.ref h] : List Value).toArray below meth c H locs 0 0 (MQ below (QQ g none (mW g h ad sTaped sFault sFaultP nsAt nsPlace nsToken nsNumber nsWord sText0 sWritten sSort0 sPiled sOpens sWhole sOnce sIsW sDied cA cIm cTx cTp cPl cNm cVa cTr cAs cLi cSa cHd) A) ([.ref h] : List Value).toArray s 0 0 A) (F0 m 0 ls []) := by
    intro n3
    induction n3 with
    | zero =>
      intro c1 hf
      exact nn hf
    | succ n3 ih6 =>
      intro c1 hf H locs ls hP hD hS hl
      rw [M_nextToken_L0] at hf
      refine lv_aload_n hx hb dX2_nextToken_0 rfl (lv_at hl 0 rfl) ?_
      refine lv_aload_n hx hb dX2_nextToken_1 rfl (lv_at hl 0 rfl) ?_
      refine gM7 X hP dX2_nextToken_2 ?_
      obtain ⟨r66, k67, hf⟩ := bd1s hf
      refine cVi (rest := []) X (met_M_byteAt k67) gw_X2_X2_byteAt dy_X2_byteAt ⟨⟨rfl, rfl⟩, Nat.le_of_ble_eq_true rfl, Nat.le_of_ble_eq_true rfl⟩ hP hD hS hl.1 rcM rfl rfl ⟨Nat.zero_le _, Nat.zero_le _⟩ (Nat.le_of_ble_eq_true rfl) dX2_nextToken_5 (fun H locs hP hD hS => ?_)
      refine lv_bipush (v := 32) hx hb dX2_nextToken_8 (by decide) ?_
      refine bc_eq (tgt := 26) hx hb hf dX2_nextToken_10 (by decide) (fun hf => ?_) (fun hf => ?_)
      · refine lv_aload_n hx hb dX2_nextToken_26 rfl (lv_at hl 0 rfl) ?_
        refine lv_dup hx hb dX2_nextToken_27 rfl ?_
        refine gM7 X hP dX2_nextToken_28 ?_
        refine lv_iconst (v := 1) hx hb dX2_nextToken_31 (by decide) ?_
        refine lv_iadd hx hb dX2_nextToken_32 ?_
        obtain ⟨v68, ev68, hf⟩ := lts hf
        refine tpi ev68 ?_
        refine pM7 X hP hD hS dX2_nextToken_33 (fun H locs hP hD hS => ?_)
        refine lv_goto (tgt := 0) hx hb dX2_nextToken_36 (by decide) ?_
        exact ih6 _ hf _ _ _ hP hD hS (lv_sub hl [0] rfl)
      · refine lv_aload_n hx hb dX2_nextToken_13 rfl (lv_at hl 0 rfl) ?_
        refine lv_aload_n hx hb dX2_nextToken_14 rfl (lv_at hl 0 rfl) ?_
        refine gM7 X hP dX2_nextToken_15 ?_
        obtain ⟨r69, k70, hf⟩ := bd1s hf
        refine cVi (rest := []) X (met_M_byteAt k70) gw_X2_X2_byteAt dy_X2_byteAt ⟨⟨rfl, rfl⟩, Nat.le_of_ble_eq_true rfl, Nat.le_of_ble_eq_true rfl⟩ hP hD hS hl.1 rcM rfl rfl ⟨Nat.zero_le _, Nat.zero_le _⟩ (Nat.le_of_ble_eq_true rfl) dX2_nextToken_18 (fun H locs hP hD hS => ?_)
        refine lv_bipush (v := 10) hx hb dX2_nextToken_21 (by decide) ?_
        refine bc_ne (tgt := 39) hx hb hf dX2_nextToken_23 (by decide) (fun hf => ?_) (fun hf => ?_)
        · cases hf
          exact hE4 _ _ _ hP hD hS (lv_sub hl [0] rfl)
        · refine lv_aload_n hx hb dX2_nextToken_26 rfl (lv_at hl 0 rfl) ?_
          refine lv_dup hx hb dX2_nextToken_27 rfl ?_
          refine gM7 X hP dX2_nextToken_28 ?_
          refine lv_iconst (v := 1) hx hb dX2_nextToken_31 (by decide) ?_
          refine lv_iadd hx hb dX2_nextToken_32 ?_
          obtain ⟨v71, ev71, hf⟩ := lts hf
          refine tpi ev71 ?_
          refine pM7 X hP hD hS dX2_nextToken_33 (fun H locs hP hD hS => ?_)
          refine lv_goto (tgt := 0) hx hb dX2_nextToken_36 (by decide) ?_
          exact ih6 _ hf _ _ _ hP hD hS (lv_sub hl [0] rfl)
  exact hL5 _ _ k7 _ _ _ hP hD hS (lv_sub hl [0] rfl)
theorem gs_X2_X2_w2 : GoodIn lw_all (va_wsS RX2 128 yX2_w2 (ws_ yX2_w2 cX2_w2 2 (some .long))) := lw_S q1582 q1583 q148 q1584
theorem dy_X2_w2 : Dy yX2_w2 RX2 2 := by decide +kernel
set_option maxHeartbeats 4000000 in
theorem met_M_w3 {l : Launch} {g : gG} {x0 : Int32} {x1 : Int32} {x2 : Int32} {r : Int64} (hf : M_w3 x0 x1 x2 = some r) : CC l yX2_w3 (ws_ yX2_w3 cX2_w3 3 (some .long)) ({ frames := 1, cells := 0, slots := 0, locals := 21 } : Room) g [.int x0, .int x1, .int x2] ([] : va_W) (some (.long r)) ([] : va_W) 0 0 := by
  refine CC.of RX2 rfl plain_X2 (Nat.le_of_ble_eq_true rfl) (fun p e s m below meth c A ls X hP hD hS hl => ?_)
  have hx := X.1
  have hb := X.2.1
  have hown := X.2.2.2.2.2.1
  have hts := X.2.2.2.2.2.2.1
  have hl : lv_has ls 3 [(0, .int x0), (1, .int x1), (2, .int x2)] := hl
  unfold M_w3 at hf
  refine lv_iload_n hx hb dX2_w3_0 rfl (lv_at hl 0 rfl) ?_
  refine lv_iload_n hx hb dX2_w3_1 rfl (lv_at hl 1 rfl) ?_
  obtain ⟨r1, k2, hf⟩ := bd1s hf
  refine cSl (rest := []) X (met_M_w2 (g := g) k2) gs_X2_X2_w2 dy_X2_w2 ⟨⟨rfl, rfl⟩, Nat.le_of_ble_eq_true rfl, Nat.le_of_ble_eq_true rfl⟩ hP hD hS hl.1 rfl rfl ⟨Nat.zero_le _, Nat.zero_le _⟩ (Nat.le_of_ble_eq_true rfl) dX2_w3_2 (fun H locs hP hD hS => ?_)
  refine lv_bipush (v := 8) hx hb dX2_w3_5 (by decide) ?_
  refine lv_lshl hx hb dX2_w3_7 rfl ?_
  refine lv_iload_n hx hb dX2_w3_8 rfl (lv_at hl 2 rfl) ?_
  refine lv_i2l hx hb dX2_w3_9 rfl ?_
  refine lv_lor hx hb dX2_w3_10 ?_
  cases hf
  exact rL X hP hD hS dX2_w3_11
theorem gw_X2_X2_nextToken : GoodIn lw_all (wsV RX2 177 RX2 yX2_nextToken (ws_ yX2_nextToken cX2_nextToken 2 none)) := lw_V q1545 q1547 qs70 q148 q1548
theorem dy_X2_nextToken : Dy yX2_nextToken RX2 0 := by decide +kernel
set_option maxHeartbeats 4000000 in
theorem met_M_figure {l : Launch} {g : gG} {h : Nat} {ad : Nat → Nat} {sTaped : Int32} {sFault : Int32} {sFaultP : Int32} {sAt : Int32} {sPlace : Int32} {sToken : Int32} {sNumber : Int32} {sWord : Int64} {sText0 : Int32} {sWritten : Int32} {sSort0 : Int32} {sPiled : Int32} {sOpens : Int32} {sWhole : Int32} {sOnce : Int32} {sIsW : Int32} {sDied : Int32} {cA : Nat → Int32} {cIm : Nat → Int32} {cTx : Nat → Int32} {cTp : Nat → Int32} {cPl : Nat → Int32} {cNm : Nat → Int32} {cVa : Nat → Int64} {cTr : Nat → Int32} {cAs : Nat → Int32} {cLi : Nat → Int32} {cSa : Nat → Int32} {cHd : Nat → Int32} {x1 : Int32} {x2 : Int32} {x3 : Int32} {r : Int32} {nsAt : Int32} {nsPlace : Int32} {nsToken : Int32} {nsNumber : Int32} {nsWord : Int64} {ncTx : Nat → Int32} {φ : Nat} (hf : M_figure φ sTaped sAt sPlace sToken sNumber sWord cTx cTp x1 x2 x3 = some (r, nsAt, nsPlace, nsToken, nsNumber, nsWord, ncTx)) : CC l yX2_figure (ws_ yX2_figure cX2_figure 4 (some .int)) ({ frames := 2, cells := 0, slots := 0, locals := 42 } : Room) g [.ref h, .int x1, .int x2, .int x3] (mW g h ad sTaped sFault sFaultP sAt sPlace sToken sNumber sWord sText0 sWritten sSort0 sPiled sOpens sWhole sOnce sIsW sDied cA cIm cTx cTp cPl cNm cVa cTr cAs cLi cSa cHd) (some (.int r)) (mW g h ad sTaped sFault sFaultP nsAt nsPlace nsToken nsNumber nsWord sText0 sWritten sSort0 sPiled sOpens sWhole sOnce sIsW sDied cA cIm ncTx cTp cPl cNm cVa cTr cAs cLi cSa cHd) 0 0 := by
  refine CC.of RX2 rfl plain_X2 (Nat.le_of_ble_eq_true rfl) (fun p e s m below meth c A ls X hP hD hS hl => ?_)
  have hx := X.1
  have hb := X.2.1
  have hown := X.2.2.2.2.2.1
  have hts := X.2.2.2.2.2.2.1
  have hl : lv_has ls 4 [(0, .ref h), (1, .int x1), (2, .int x2), (3, .int x3)] := hl
  unfold M_figure at hf
  refine lv_aload_n hx hb dX2_figure_0 rfl (lv_at hl 0 rfl) ?_
  refine gM9 X hP dX2_figure_1 ?_
  refine lv_iconst (v := 1) hx hb dX2_figure_4 (by decide) ?_
  refine bc_eq (tgt := 10) hx hb hf dX2_figure_5 (by decide) (fun hf => ?_) (fun hf => ?_)
  · refine lv_aload_n hx hb dX2_figure_10 rfl (lv_at hl 0 rfl) ?_
    refine gM10 X hP dX2_figure_11 ?_
    refine lv_iload_n hx hb dX2_figure_14 rfl (lv_at hl 2 rfl) ?_
    refine lv_iload_n hx hb dX2_figure_15 rfl (lv_at hl 3 rfl) ?_
    obtain ⟨r1, k2, hf⟩ := bd1s hf
    refine cSi (rest := []) X (met_M_isIn (g := g) k2) gs_X2_X2_isIn dy_X2_isIn ⟨⟨rfl, rfl⟩, Nat.le_of_ble_eq_true rfl, Nat.le_of_ble_eq_true rfl⟩ hP hD hS hl.1 rfl rfl ⟨Nat.zero_le _, Nat.zero_le _⟩ (Nat.le_of_ble_eq_true rfl) dX2_figure_16 (fun H locs hP hD hS => ?_)
    refine bq_ne (tgt := 24) hx hb hf dX2_figure_19 (by decide) (fun hf => ?_) (fun hf => ?_)
    · refine lv_aload_n hx hb dX2_figure_24 rfl (lv_at hl 0 rfl) ?_
      refine gM2 X hP dX2_figure_25 ?_
      refine lv_iload_n hx hb dX2_figure_28 rfl (lv_at hl 1 rfl) ?_
      refine lv_aload_n hx hb dX2_figure_29 rfl (lv_at hl 0 rfl) ?_
      refine gM10 X hP dX2_figure_30 ?_
      obtain ⟨c3, ec3, bc3, hf⟩ := wrs hf
      refine sM_cTx X hP hD hS ec3 bc3 dX2_figure_33 (fun H locs hP hD hS => ?_)
      refine lv_aload_n hx hb dX2_figure_34 rfl (lv_at hl 0 rfl) ?_
      obtain ⟨c4, c5, c6, c7, c8, k9, hf⟩ := bd5s hf
      refine cVv (rest := []) X (met_M_nextToken k9) gw_X2_X2_nextToken dy_X2_nextToken ⟨⟨rfl, rfl⟩, Nat.le_of_ble_eq_true rfl, Nat.le_of_ble_eq_true rfl⟩ hP hD hS hl.1 rcM rfl rfl ⟨Nat.zero_le _, Nat.zero_le _⟩ (Nat.le_of_ble_eq_true rfl) dX2_figure_35 (fun H locs hP hD hS => ?_)
      refine lv_iconst (v := 0) hx hb dX2_figure_38 (by decide) ?_
      cases hf
      exact rI X hP hD hS dX2_figure_39
    · refine lv_iconst (v := 2) hx hb dX2_figure_22 (by decide) ?_
      cases hf
      exact rI X hP hD hS dX2_figure_23
  · refine lv_iconst (v := 1) hx hb dX2_figure_8 (by decide) ?_
    cases hf
    exact rI X hP hD hS dX2_figure_9
theorem gw_X2_X2_isWord : GoodIn lw_all (wsV RX2 195 RX2 yX2_isWord (ws_ yX2_isWord cX2_isWord 3 (some .boolean))) := lw_V q1588 q1590 qs75 q148 q1591
theorem dy_X2_isWord : Dy yX2_isWord RX2 1 := by decide +kernel
theorem gw_X2_X2_figure : GoodIn lw_all (wsV RX2 221 RX2 yX2_figure (ws_ yX2_figure cX2_figure 4 (some .int))) := lw_V q1599 q1601 qs77 q148 q1602
theorem dy_X2_figure : Dy yX2_figure RX2 3 := by decide +kernel
set_option maxHeartbeats 4000000 in
theorem met_M_worded {l : Launch} {g : gG} {h : Nat} {ad : Nat → Nat} {sTaped : Int32} {sFault : Int32} {sFaultP : Int32} {sAt : Int32} {sPlace : Int32} {sToken : Int32} {sNumber : Int32} {sWord : Int64} {sText0 : Int32} {sWritten : Int32} {sSort0 : Int32} {sPiled : Int32} {sOpens : Int32} {sWhole : Int32} {sOnce : Int32} {sIsW : Int32} {sDied : Int32} {cA : Nat → Int32} {cIm : Nat → Int32} {cTx : Nat → Int32} {cTp : Nat → Int32} {cPl : Nat → Int32} {cNm : Nat → Int32} {cVa : Nat → Int64} {cTr : Nat → Int32} {cAs : Nat → Int32} {cLi : Nat → Int32} {cSa : Nat → Int32} {cHd : Nat → Int32} {x1 : Int64} {x3 : Int32} {x4 : Int32} {r : Int32} {nsAt : Int32} {nsPlace : Int32} {nsToken : Int32} {nsNumber : Int32} {nsWord : Int64} {ncTx : Nat → Int32} {φ : Nat} (hf : M_worded φ sTaped sAt sPlace sToken sNumber sWord cTx cTp x1 x3 x4 = some (r, nsAt, nsPlace, nsToken, nsNumber, nsWord, ncTx)) : CC l yX2_worded (ws_ yX2_worded cX2_worded 5 (some .int)) ({ frames := 3, cells := 0, slots := 0, locals := 65 } : Room) g [.ref h, .long x1, .int x3, .int x4] (mW g h ad sTaped sFault sFaultP sAt sPlace sToken sNumber sWord sText0 sWritten sSort0 sPiled sOpens sWhole sOnce sIsW sDied cA cIm cTx cTp cPl cNm cVa cTr cAs cLi cSa cHd) (some (.int r)) (mW g h ad sTaped sFault sFaultP nsAt nsPlace nsToken nsNumber nsWord sText0 sWritten sSort0 sPiled sOpens sWhole sOnce sIsW sDied cA cIm ncTx cTp cPl cNm cVa cTr cAs cLi cSa cHd) 0 0 := by
  refine CC.of RX2 rfl plain_X2 (Nat.le_of_ble_eq_true rfl) (fun p e s m below meth c A ls X hP hD hS hl => ?_)
  have hx := X.1
  have hb := X.2.1
  have hown := X.2.2.2.2.2.1
  have hts := X.2.2.2.2.2.2.1
  have hl : lv_has ls 5 [(0, .ref h), (1, .long x1), (3, .int x3), (4, .int x4)] := hl
  unfold M_worded at hf
  refine lv_aload_n hx hb dX2_worded_0 rfl (lv_at hl 0 rfl) ?_
  refine lv_lload_n hx hb dX2_worded_1 rfl (lv_at hl 1 rfl) ?_
  obtain ⟨r1, k2, hf⟩ := bd1s hf
  refine cVi (rest := []) X (met_M_isWord k2) gw_X2_X2_isWord dy_X2_isWord ⟨⟨rfl, rfl⟩, Nat.le_of_ble_eq_true rfl, Nat.le_of_ble_eq_true rfl⟩ hP hD hS hl.1 rcM rfl rfl ⟨Nat.zero_le _, Nat.zero_le _⟩ (Nat.le_of_ble_eq_true rfl) dX2_worded_2 (fun H locs hP hD hS => ?_)
  refine bq_ne (tgt := 10) hx hb hf dX2_worded_5 (by decide) (fun hf => ?_) (fun hf => ?_)
  · refine lv_aload_n hx hb dX2_worded_10 rfl (lv_at hl 0 rfl) ?_
    obtain ⟨c3, c4, c5, c6, c7, k8, hf⟩ := bd5s hf
    refine cVv (rest := []) X (met_M_nextToken k8) gw_X2_X2_nextToken dy_X2_nextToken ⟨⟨rfl, rfl⟩, Nat.le_of_ble_eq_true rfl, Nat.le_of_ble_eq_true rfl⟩ hP hD hS hl.1 rcM rfl rfl ⟨Nat.zero_le _, Nat.zero_le _⟩ (Nat.le_of_ble_eq_true rfl) dX2_worded_11 (fun H locs hP hD hS => ?_)
    refine lv_aload_n hx hb dX2_worded_14 rfl (lv_at hl 0 rfl) ?_
    refine lv_iload_n hx hb dX2_worded_15 rfl (lv_at hl 2 rfl) ?_
    refine lv_iconst (v := 0) hx hb dX2_worded_16 (by decide) ?_
    refine lv_iload hx hb dX2_worded_17 (lv_at hl 3 rfl) ?_
    obtain ⟨r9, c10, c11, c12, c13, c14, c15, k16, hf⟩ := bd7s hf
    refine cVi (rest := []) X (met_M_figure k16) gw_X2_X2_figure dy_X2_figure ⟨⟨rfl, rfl⟩, Nat.le_of_ble_eq_true rfl, Nat.le_of_ble_eq_true rfl⟩ hP hD hS hl.1 rcM rfl rfl ⟨Nat.zero_le _, Nat.zero_le _⟩ (Nat.le_of_ble_eq_true rfl) dX2_worded_19 (fun H locs hP hD hS => ?_)
    cases hf
    exact rI X hP hD hS dX2_worded_22
  · refine lv_iconst (v := 1) hx hb dX2_worded_8 (by decide) ?_
    cases hf
    exact rI X hP hD hS dX2_worded_9
theorem gw_X2_X2_openAt : GoodIn lw_all (wsV RX2 170 RX2 yX2_openAt (ws_ yX2_openAt cX2_openAt 2 (some .int))) := lw_V q1635 q1637 qs86 q148 q1638
theorem dy_X2_openAt : Dy yX2_openAt RX2 0 := by decide +kernel
set_option maxHeartbeats 4000000 in
theorem met_M_openNow {l : Launch} {g : gG} {h : Nat} {ad : Nat → Nat} {sTaped : Int32} {sFault : Int32} {sFaultP : Int32} {sAt : Int32} {sPlace : Int32} {sToken : Int32} {sNumber : Int32} {sWord : Int64} {sText0 : Int32} {sWritten : Int32} {sSort0 : Int32} {sPiled : Int32} {sOpens : Int32} {sWhole : Int32} {sOnce : Int32} {sIsW : Int32} {sDied : Int32} {cA : Nat → Int32} {cIm : Nat → Int32} {cTx : Nat → Int32} {cTp : Nat → Int32} {cPl : Nat → Int32} {cNm : Nat → Int32} {cVa : Nat → Int64} {cTr : Nat → Int32} {cAs : Nat → Int32} {cLi : Nat → Int32} {cSa : Nat → Int32} {cHd : Nat → Int32} {r : Int32} {φ : Nat} (hf : M_openNow φ sPiled cPl = some r) : CC l yX2_openNow (ws_ yX2_openNow cX2_openNow 1 (some .int)) ({ frames := 1, cells := 0, slots := 0, locals := 21 } : Room) g [.ref h] (mW g h ad sTaped sFault sFaultP sAt sPlace sToken sNumber sWord sText0 sWritten sSort0 sPiled sOpens sWhole sOnce sIsW sDied cA cIm cTx cTp cPl cNm cVa cTr cAs cLi cSa cHd) (some (.int r)) (mW g h ad sTaped sFault sFaultP sAt sPlace sToken sNumber sWord sText0 sWritten sSort0 sPiled sOpens sWhole sOnce sIsW sDied cA cIm cTx cTp cPl cNm cVa cTr cAs cLi cSa cHd) 0 0 := by
  refine CC.of RX2 rfl plain_X2 (Nat.le_of_ble_eq_true rfl) (fun p e s m below meth c A ls X hP hD hS hl => ?_)
  have hx := X.1
  have hb := X.2.1
  have hown := X.2.2.2.2.2.1
  have hts := X.2.2.2.2.2.2.1
  have hl : lv_has ls 1 [(0, .ref h)] := hl
  unfold M_openNow at hf
  refine lv_aload_n hx hb dX2_openNow_0 rfl (lv_at hl 0 rfl) ?_
  obtain ⟨r1, k2, hf⟩ := bd1s hf
  refine cVi (rest := []) X (met_M_openAt k2) gw_X2_X2_openAt dy_X2_openAt ⟨⟨rfl, rfl⟩, Nat.le_of_ble_eq_true rfl, Nat.le_of_ble_eq_true rfl⟩ hP hD hS hl.1 rcM rfl rfl ⟨Nat.zero_le _, Nat.zero_le _⟩ (Nat.le_of_ble_eq_true rfl) dX2_openNow_1 (fun H locs hP hD hS => ?_)
  refine bq_ge (tgt := 11) hx hb hf dX2_openNow_4 (by decide) (fun hf => ?_) (fun hf => ?_)
  · refine lv_aload_n hx hb dX2_openNow_11 rfl (lv_at hl 0 rfl) ?_
    refine gM15 X hP dX2_openNow_12 ?_
    refine lv_aload_n hx hb dX2_openNow_15 rfl (lv_at hl 0 rfl) ?_
    obtain ⟨r3, k4, hf⟩ := bd1s hf
    refine cVi (rest := [.ref (ad 4)]) X (met_M_openAt k4) gw_X2_X2_openAt dy_X2_openAt ⟨⟨rfl, rfl⟩, Nat.le_of_ble_eq_true rfl, Nat.le_of_ble_eq_true rfl⟩ hP hD hS hl.1 rcM rfl rfl ⟨Nat.zero_le _, Nat.zero_le _⟩ (Nat.le_of_ble_eq_true rfl) dX2_openNow_16 (fun H locs hP hD hS => ?_)
    obtain ⟨v5, ev5, bv5, hf⟩ := rds hf
    refine lM_cPl X hP ev5 bv5 dX2_openNow_19 ?_
    cases hf
    exact rI X hP hD hS dX2_openNow_20
  · refine lv_iconst (v := (-1)) hx hb dX2_openNow_7 (by decide) ?_
    refine lv_goto (tgt := 20) hx hb dX2_openNow_8 (by decide) ?_
    cases hf
    exact rI X hP hD hS dX2_openNow_20
theorem gs_X2_X2_rank : GoodIn lw_all (va_wsS RX2 160 yX2_rank (ws_ yX2_rank cX2_rank 1 (some .int))) := lw_S q1643 q1644 q148 q1645
theorem dy_X2_rank : Dy yX2_rank RX2 1 := by decide +kernel
set_option maxHeartbeats 4000000 in
theorem met_M_isCompared {l : Launch} {g : gG} {h : Nat} {ad : Nat → Nat} {sTaped : Int32} {sFault : Int32} {sFaultP : Int32} {sAt : Int32} {sPlace : Int32} {sToken : Int32} {sNumber : Int32} {sWord : Int64} {sText0 : Int32} {sWritten : Int32} {sSort0 : Int32} {sPiled : Int32} {sOpens : Int32} {sWhole : Int32} {sOnce : Int32} {sIsW : Int32} {sDied : Int32} {cA : Nat → Int32} {cIm : Nat → Int32} {cTx : Nat → Int32} {cTp : Nat → Int32} {cPl : Nat → Int32} {cNm : Nat → Int32} {cVa : Nat → Int64} {cTr : Nat → Int32} {cAs : Nat → Int32} {cLi : Nat → Int32} {cSa : Nat → Int32} {cHd : Nat → Int32} {r : Int32} {φ : Nat} (hf : M_isCompared φ sPiled cPl = some r) : CC l yX2_isCompared (ws_ yX2_isCompared cX2_isCompared 2 (some .boolean)) ({ frames := 1, cells := 0, slots := 0, locals := 20 } : Room) g [.ref h] (mW g h ad sTaped sFault sFaultP sAt sPlace sToken sNumber sWord sText0 sWritten sSort0 sPiled sOpens sWhole sOnce sIsW sDied cA cIm cTx cTp cPl cNm cVa cTr cAs cLi cSa cHd) (some (.int r)) (mW g h ad sTaped sFault sFaultP sAt sPlace sToken sNumber sWord sText0 sWritten sSort0 sPiled sOpens sWhole sOnce sIsW sDied cA cIm cTx cTp cPl cNm cVa cTr cAs cLi cSa cHd) 0 0 := by
  refine CC.of RX2 rfl plain_X2 (Nat.le_of_ble_eq_true rfl) (fun p e s m below meth c A ls X hP hD hS hl => ?_)
  have hx := X.1
  have hb := X.2.1
  have hown := X.2.2.2.2.2.1
  have hts := X.2.2.2.2.2.2.1
  have hl : lv_has ls 2 [(0, .ref h)] := hl
  unfold M_isCompared at hf
  refine lv_aload_n hx hb dX2_isCompared_0 rfl (lv_at hl 0 rfl) ?_
  refine gM16 X hP dX2_isCompared_1 ?_
  refine lv_iconst (v := 1) hx hb dX2_isCompared_4 (by decide) ?_
  refine lv_isub hx hb dX2_isCompared_5 ?_
  obtain ⟨v1, ev1, hf⟩ := lts hf
  refine tpi ev1 ?_
  refine lv_istore_n (lv' := [(1, .int v1), (0, .ref h)]) hx hb dX2_isCompared_6 rfl hl (by decide) rfl (fun ls hl => ?_)
  obtain ⟨v3, k8, hf⟩ := bd1s hf
  have hE5 : ∀ (H : Heap) (locs : List Loc) (ls : Array Slot), va_P g.1 vwCl (mW g h ad sTaped sFault sFaultP sAt sPlace sToken sNumber sWord sText0 sWritten sSort0 sPiled sOpens sWhole sOnce sIsW sDied cA cIm cTx cTp cPl cNm cVa cTr cAs cLi cSa cHd) H → va_D A (mW g h ad sTaped sFault sFaultP sAt sPlace sToken sNumber sWord sText0 sWritten sSort0 sPiled sOpens sWhole sOnce sIsW sDied cA cIm cTx cTp cPl cNm cVa cTr cAs cLi cSa cHd) → va_S A s.heap H locs → lv_has ls 2 [(0, .ref h), (1, .int v3)] → W p l e ({ frames := 1, cells := 0, slots := 0, locals := 20 } : Room) s m ([.ref h] : List Value).toArray below meth c H locs 0 0 (MQ below (QQ g (some (.int r)) (mW g h ad sTaped sFault sFaultP sAt sPlace sToken sNumber sWord sText0 sWritten sSort0 sPiled sOpens sWhole sOnce sIsW sDied cA cIm cTx cTp cPl cNm cVa cTr cAs cLi cSa cHd) A) ([.ref h] : List Value).toArray s 0 0 A) (F0 m 30 ls []) := by
    intro H locs ls hP hD hS hl
    refine lv_iload_n hx hb dX2_isCompared_30 rfl (lv_at hl 1 rfl) ?_
    refine bq_lt (tgt := 51) hx hb hf dX2_isCompared_31 (by decide) (fun hf => ?_) (fun hf => ?_)
    · refine lv_iconst (v := 0) hx hb dX2_isCompared_51 (by decide) ?_
      cases hf
      exact rZ X rfl hP hD hS dX2_isCompared_52
    · refine lv_aload_n hx hb dX2_isCompared_34 rfl (lv_at hl 0 rfl) ?_
      refine gM15 X hP dX2_isCompared_35 ?_
      refine lv_iload_n hx hb dX2_isCompared_38 rfl (lv_at hl 1 rfl) ?_
      obtain ⟨v9, ev9, bv9, hf⟩ := rds hf
      refine lM_cPl X hP ev9 bv9 dX2_isCompared_39 ?_
      obtain ⟨r10, k11, hf⟩ := bd1s hf
      refine cSi (rest := []) X (met_M_rank (g := g) k11) gs_X2_X2_rank dy_X2_rank ⟨⟨rfl, rfl⟩, Nat.le_of_ble_eq_true rfl, Nat.le_of_ble_eq_true rfl⟩ hP hD hS hl.1 rfl rfl ⟨Nat.zero_le _, Nat.zero_le _⟩ (Nat.le_of_ble_eq_true rfl) dX2_isCompared_40 (fun H locs hP hD hS => ?_)
      refine lv_iconst (v := 4) hx hb dX2_isCompared_43 (by decide) ?_
      refine bc_ne (tgt := 51) hx hb hf dX2_isCompared_44 (by decide) (fun hf => ?_) (fun hf => ?_)
      · refine lv_iconst (v := 0) hx hb dX2_isCompared_51 (by decide) ?_
        cases hf
        exact rZ X rfl hP hD hS dX2_isCompared_52
      · refine lv_iconst (v := 1) hx hb dX2_isCompared_47 (by decide) ?_
        refine lv_goto (tgt := 52) hx hb dX2_isCompared_48 (by decide) ?_
        cases hf
        exact rZ X rfl hP hD hS dX2_isCompared_52
  have hL6 : ∀ (n4 : Nat) (v2 : Int32), M_isCompared_L7 φ cPl n4 v2 = some v3 → ∀ (H : Heap) (locs : List Loc) (ls : Array Slot), va_P g.1 vwCl (mW g h ad sTaped sFault sFaultP sAt sPlace sToken sNumber sWord sText0 sWritten sSort0 sPiled sOpens sWhole sOnce sIsW sDied cA cIm cTx cTp cPl cNm cVa cTr cAs cLi cSa cHd) H → va_D A (mW g h ad sTaped sFault sFaultP sAt sPlace sToken sNumber sWord sText0 sWritten sSort0 sPiled sOpens sWhole sOnce sIsW sDied cA cIm cTx cTp cPl cNm cVa cTr cAs cLi cSa cHd) → va_S A s.heap H locs → lv_has ls 2 [(0, .ref h), (1, .int v2)] → W p l e ({ frames := 1, cells := 0, slots := 0, locals := 20 } : Room) s m ([.ref h] : List Value).toArray below meth c H locs 0 0 (MQ below (QQ g (some (.int r)) (mW g h ad sTaped sFault sFaultP sAt sPlace sToken sNumber sWord sText0 sWritten sSort0 sPiled sOpens sWhole sOnce sIsW sDied cA cIm cTx cTp cPl cNm cVa cTr cAs cLi cSa cHd) A) ([.ref h] : List Value).toArray s 0 0 A) (F0 m 7 ls []) := by
    intro n4
    induction n4 with
    | zero =>
      intro v2 hf
      exact nn hf
    | succ n4 ih7 =>
      intro v2 hf H locs ls hP hD hS hl
      rw [M_isCompared_L7] at hf
      refine lv_iload_n hx hb dX2_isCompared_7 rfl (lv_at hl 1 rfl) ?_
      refine bq_lt (tgt := 30) hx hb hf dX2_isCompared_8 (by decide) (fun hf => ?_) (fun hf => ?_)
      · cases hf
        exact hE5 _ _ _ hP hD hS (lv_sub hl [0, 1] rfl)
      · refine lv_aload_n hx hb dX2_isCompared_11 rfl (lv_at hl 0 rfl) ?_
        refine gM15 X hP dX2_isCompared_12 ?_
        refine lv_iload_n hx hb dX2_isCompared_15 rfl (lv_at hl 1 rfl) ?_
        obtain ⟨v12, ev12, bv12, hf⟩ := rds hf
        refine lM_cPl X hP ev12 bv12 dX2_isCompared_16 ?_
        obtain ⟨r13, k14, hf⟩ := bd1s hf
        refine cSi (rest := []) X (met_M_rank (g := g) k14) gs_X2_X2_rank dy_X2_rank ⟨⟨rfl, rfl⟩, Nat.le_of_ble_eq_true rfl, Nat.le_of_ble_eq_true rfl⟩ hP hD hS hl.1 rfl rfl ⟨Nat.zero_le _, Nat.zero_le _⟩ (Nat.le_of_ble_eq_true rfl) dX2_isCompared_17 (fun H locs hP hD hS => ?_)
        refine lv_iconst (v := 4) hx hb dX2_isCompared_20 (by decide) ?_
        refine bc_le (tgt := 30) hx hb hf dX2_isCompared_21 (by decide) (fun hf => ?_) (fun hf => ?_)
        · cases hf
          exact hE5 _ _ _ hP hD hS (lv_sub hl [0, 1] rfl)
        · obtain ⟨v15, ev15, hf⟩ := lts hf
          refine lv_iinc (v := v15) (lv' := [(1, .int v15), (0, .ref h)]) hx hb dX2_isCompared_24 hl (k := 1) rfl (by rw [ev15]; rfl) (by decide) rfl (fun ls hl => ?_)
          refine lv_goto (tgt := 7) hx hb dX2_isCompared_27 (by decide) ?_
          exact ih7 _ hf _ _ _ hP hD hS (lv_sub hl [1, 0] rfl)
  exact hL6 _ _ k8 _ _ _ hP hD hS (lv_sub hl [1, 0] rfl)
theorem gw_X2_X2_emit : GoodIn lw_all (wsV RX2 163 RX2 yX2_emit (ws_ yX2_emit cX2_emit 3 none)) := lw_V q1654 q1656 qs90 q148 q1657
theorem dy_X2_emit : Dy yX2_emit RX2 2 := by decide +kernel
set_option maxHeartbeats 4000000 in
theorem met_M_settle {l : Launch} {g : gG} {h : Nat} {ad : Nat → Nat} {sTaped : Int32} {sFault : Int32} {sFaultP : Int32} {sAt : Int32} {sPlace : Int32} {sToken : Int32} {sNumber : Int32} {sWord : Int64} {sText0 : Int32} {sWritten : Int32} {sSort0 : Int32} {sPiled : Int32} {sOpens : Int32} {sWhole : Int32} {sOnce : Int32} {sIsW : Int32} {sDied : Int32} {cA : Nat → Int32} {cIm : Nat → Int32} {cTx : Nat → Int32} {cTp : Nat → Int32} {cPl : Nat → Int32} {cNm : Nat → Int32} {cVa : Nat → Int64} {cTr : Nat → Int32} {cAs : Nat → Int32} {cLi : Nat → Int32} {cSa : Nat → Int32} {cHd : Nat → Int32} {x1 : Int32} {nsWritten : Int32} {nsPiled : Int32} {nsOpens : Int32} {ncTx : Nat → Int32} {φ : Nat} (hf : M_settle φ sText0 sWritten sPiled sOpens cTx cPl x1 = some (nsWritten, nsPiled, nsOpens, ncTx)) : CC l yX2_settle (ws_ yX2_settle cX2_settle 2 none) ({ frames := 1, cells := 0, slots := 0, locals := 22 } : Room) g [.ref h, .int x1] (mW g h ad sTaped sFault sFaultP sAt sPlace sToken sNumber sWord sText0 sWritten sSort0 sPiled sOpens sWhole sOnce sIsW sDied cA cIm cTx cTp cPl cNm cVa cTr cAs cLi cSa cHd) none (mW g h ad sTaped sFault sFaultP sAt sPlace sToken sNumber sWord sText0 nsWritten sSort0 nsPiled nsOpens sWhole sOnce sIsW sDied cA cIm ncTx cTp cPl cNm cVa cTr cAs cLi cSa cHd) 0 0 := by
  refine CC.of RX2 rfl plain_X2 (Nat.le_of_ble_eq_true rfl) (fun p e s m below meth c A ls X hP hD hS hl => ?_)
  have hx := X.1
  have hb := X.2.1
  have hown := X.2.2.2.2.2.1
  have hts := X.2.2.2.2.2.2.1
  have hl : lv_has ls 2 [(0, .ref h), (1, .int x1)] := hl
  unfold M_settle at hf
  obtain ⟨c5, c6, c7, c8, k13, hf⟩ := bd4s hf
  have hE10 : ∀ (H : Heap) (locs : List Loc) (ls : Array Slot), va_P g.1 vwCl (mW g h ad sTaped sFault sFaultP sAt sPlace sToken sNumber sWord sText0 c5 sSort0 c6 c7 sWhole sOnce sIsW sDied cA cIm c8 cTp cPl cNm cVa cTr cAs cLi cSa cHd) H → va_D A (mW g h ad sTaped sFault sFaultP sAt sPlace sToken sNumber sWord sText0 c5 sSort0 c6 c7 sWhole sOnce sIsW sDied cA cIm c8 cTp cPl cNm cVa cTr cAs cLi cSa cHd) → va_S A s.heap H locs → lv_has ls 2 [] → W p l e ({ frames := 1, cells := 0, slots := 0, locals := 22 } : Room) s m ([.ref h, .int x1] : List Value).toArray below meth c H locs 0 0 (MQ below (QQ g none (mW g h ad sTaped sFault sFaultP sAt sPlace sToken sNumber sWord sText0 nsWritten sSort0 nsPiled nsOpens sWhole sOnce sIsW sDied cA cIm ncTx cTp cPl cNm cVa cTr cAs cLi cSa cHd) A) ([.ref h, .int x1] : List Value).toArray s 0 0 A) (F0 m 93 ls []) := by
    intro H locs ls hP hD hS hl
    cases hf
    exact rV X hP hD hS dX2_settle_93
  have hL11 : ∀ (n9 : Nat) (c1 : Int32) (c2 : Int32) (c3 : Int32) (c4 : Nat → Int32), M_settle_L0 φ x1 sText0 cPl n9 c1 c2 c3 c4 = some (c5, c6, c7, c8) → ∀ (H : Heap) (locs : List Loc) (ls : Array Slot), va_P g.1 vwCl (mW g h ad sTaped sFault sFaultP sAt sPlace sToken sNumber sWord sText0 c1 sSort0 c2 c3 sWhole sOnce sIsW sDied cA cIm c4 cTp cPl cNm cVa cTr cAs cLi cSa cHd) H → va_D A (mW g h ad sTaped sFault sFaultP sAt sPlace sToken sNumber sWord sText0 c1 sSort0 c2 c3 sWhole sOnce sIsW sDied cA cIm c4 cTp cPl cNm cVa cTr cAs cLi cSa cHd) → va_S A s.heap H locs → lv_has ls 2 [(0, .ref h), (1, .int x1)] → W p l e ({ frames := 1, cells := 0, slots := 0, locals := 22 } : Room) s m ([.ref h, .int x1] : List Value).toArray below meth c H locs 0 0 (MQ below (QQ g none (mW g h ad sTaped sFault sFaultP sAt sPlace sToken sNumber sWord sText0 nsWritten sSort0 nsPiled nsOpens sWhole sOnce sIsW sDied cA cIm ncTx cTp cPl cNm cVa cTr cAs cLi cSa cHd) A) ([.ref h, .int x1] : List Value).toArray s 0 0 A) (F0 m 0 ls []) := by
    intro n9
    induction n9 with
    | zero =>
      intro c1 c2 c3 c4 hf
      exact nn hf
    | succ n9 ih12 =>
      intro c1 c2 c3 c4 hf H locs ls hP hD hS hl
      rw [M_settle_L0] at hf
      refine lv_aload_n hx hb dX2_settle_0 rfl (lv_at hl 0 rfl) ?_
      refine gM16 X hP dX2_settle_1 ?_
      refine bq_le (tgt := 93) hx hb hf dX2_settle_4 (by decide) (fun hf => ?_) (fun hf => ?_)
      · cases hf
        exact hE10 _ _ _ hP hD hS (lv_sub hl [] rfl)
      · refine lv_aload_n hx hb dX2_settle_7 rfl (lv_at hl 0 rfl) ?_
        refine gM15 X hP dX2_settle_8 ?_
        refine lv_aload_n hx hb dX2_settle_11 rfl (lv_at hl 0 rfl) ?_
        refine gM16 X hP dX2_settle_12 ?_
        refine lv_iconst (v := 1) hx hb dX2_settle_15 (by decide) ?_
        refine lv_isub hx hb dX2_settle_16 ?_
        obtain ⟨v14, ev14, bv14, hf⟩ := rds hf
        refine lM_cPl X hP ev14 bv14 dX2_settle_17 ?_
        obtain ⟨r15, k16, hf⟩ := bd1s hf
        refine cSi (rest := []) X (met_M_rank (g := g) k16) gs_X2_X2_rank dy_X2_rank ⟨⟨rfl, rfl⟩, Nat.le_of_ble_eq_true rfl, Nat.le_of_ble_eq_true rfl⟩ hP hD hS hl.1 rfl rfl ⟨Nat.zero_le _, Nat.zero_le _⟩ (Nat.le_of_ble_eq_true rfl) dX2_settle_18 (fun H locs hP hD hS => ?_)
        refine lv_iload_n hx hb dX2_settle_21 rfl (lv_at hl 1 rfl) ?_
        refine bc_lt (tgt := 93) hx hb hf dX2_settle_22 (by decide) (fun hf => ?_) (fun hf => ?_)
        · cases hf
          exact hE10 _ _ _ hP hD hS (lv_sub hl [] rfl)
        · refine lv_aload_n hx hb dX2_settle_25 rfl (lv_at hl 0 rfl) ?_
          refine lv_dup hx hb dX2_settle_26 rfl ?_
          refine gM16 X hP dX2_settle_27 ?_
          refine lv_iconst (v := 1) hx hb dX2_settle_30 (by decide) ?_
          refine lv_isub hx hb dX2_settle_31 ?_
          obtain ⟨v17, ev17, hf⟩ := lts hf
          refine tpi ev17 ?_
          refine pM16 X hP hD hS dX2_settle_32 (fun H locs hP hD hS => ?_)
          refine lv_aload_n hx hb dX2_settle_35 rfl (lv_at hl 0 rfl) ?_
          refine lv_aload_n hx hb dX2_settle_36 rfl (lv_at hl 0 rfl) ?_
          refine gM15 X hP dX2_settle_37 ?_
          refine lv_aload_n hx hb dX2_settle_40 rfl (lv_at hl 0 rfl) ?_
          refine gM16 X hP dX2_settle_41 ?_
          obtain ⟨v18, ev18, bv18, hf⟩ := rds hf
          refine lM_cPl X hP ev18 bv18 dX2_settle_44 ?_
          refine lv_iconst (v := 0) hx hb dX2_settle_45 (by decide) ?_
          obtain ⟨c19, c20, k21, hf⟩ := bd2s hf
          refine cVv (rest := []) X (met_M_emit k21) gw_X2_X2_emit dy_X2_emit ⟨⟨rfl, rfl⟩, Nat.le_of_ble_eq_true rfl, Nat.le_of_ble_eq_true rfl⟩ hP hD hS hl.1 rcM rfl rfl ⟨Nat.zero_le _, Nat.zero_le _⟩ (Nat.le_of_ble_eq_true rfl) dX2_settle_46 (fun H locs hP hD hS => ?_)
          refine lv_aload_n hx hb dX2_settle_49 rfl (lv_at hl 0 rfl) ?_
          refine gM15 X hP dX2_settle_50 ?_
          refine lv_aload_n hx hb dX2_settle_53 rfl (lv_at hl 0 rfl) ?_
          refine gM16 X hP dX2_settle_54 ?_
          obtain ⟨v22, ev22, bv22, hf⟩ := rds hf
          refine lM_cPl X hP ev22 bv22 dX2_settle_57 ?_
          obtain ⟨r23, k24, hf⟩ := bd1s hf
          refine cSi (rest := []) X (met_M_rank (g := g) k24) gs_X2_X2_rank dy_X2_rank ⟨⟨rfl, rfl⟩, Nat.le_of_ble_eq_true rfl, Nat.le_of_ble_eq_true rfl⟩ hP hD hS hl.1 rfl rfl ⟨Nat.zero_le _, Nat.zero_le _⟩ (Nat.le_of_ble_eq_true rfl) dX2_settle_58 (fun H locs hP hD hS => ?_)
          refine lv_bipush (v := 7) hx hb dX2_settle_61 (by decide) ?_
          refine bc_eq (tgt := 80) hx hb hf dX2_settle_63 (by decide) (fun hf => ?_) (fun hf => ?_)
          · refine lv_aload_n hx hb dX2_settle_80 rfl (lv_at hl 0 rfl) ?_
            refine lv_dup hx hb dX2_settle_81 rfl ?_
            refine gM17 X hP dX2_settle_82 ?_
            refine lv_iconst (v := 1) hx hb dX2_settle_85 (by decide) ?_
            refine lv_isub hx hb dX2_settle_86 ?_
            obtain ⟨v25, ev25, hf⟩ := lts hf
            refine tpi ev25 ?_
            refine pM17 X hP hD hS dX2_settle_87 (fun H locs hP hD hS => ?_)
            refine lv_goto (tgt := 0) hx hb dX2_settle_90 (by decide) ?_
            exact ih12 _ _ _ _ hf _ _ _ hP hD hS (lv_sub hl [0, 1] rfl)
          · refine lv_aload_n hx hb dX2_settle_66 rfl (lv_at hl 0 rfl) ?_
            refine gM15 X hP dX2_settle_67 ?_
            refine lv_aload_n hx hb dX2_settle_70 rfl (lv_at hl 0 rfl) ?_
            refine gM16 X hP dX2_settle_71 ?_
            obtain ⟨v26, ev26, bv26, hf⟩ := rds hf
            refine lM_cPl X hP ev26 bv26 dX2_settle_74 ?_
            refine lv_bipush (v := 20) hx hb dX2_settle_75 (by decide) ?_
            refine bc_ne (tgt := 0) hx hb hf dX2_settle_77 (by decide) (fun hf => ?_) (fun hf => ?_)
            · exact ih12 _ _ _ _ hf _ _ _ hP hD hS (lv_sub hl [0, 1] rfl)
            · refine lv_aload_n hx hb dX2_settle_80 rfl (lv_at hl 0 rfl) ?_
              refine lv_dup hx hb dX2_settle_81 rfl ?_
              refine gM17 X hP dX2_settle_82 ?_
              refine lv_iconst (v := 1) hx hb dX2_settle_85 (by decide) ?_
              refine lv_isub hx hb dX2_settle_86 ?_
              obtain ⟨v27, ev27, hf⟩ := lts hf
              refine tpi ev27 ?_
              refine pM17 X hP hD hS dX2_settle_87 (fun H locs hP hD hS => ?_)
              refine lv_goto (tgt := 0) hx hb dX2_settle_90 (by decide) ?_
              exact ih12 _ _ _ _ hf _ _ _ hP hD hS (lv_sub hl [0, 1] rfl)
  exact hL11 _ _ _ _ _ k13 _ _ _ hP hD hS (lv_sub hl [0, 1] rfl)
set_option maxHeartbeats 4000000 in
theorem met_M_opened {l : Launch} {g : gG} {h : Nat} {ad : Nat → Nat} {sTaped : Int32} {sFault : Int32} {sFaultP : Int32} {sAt : Int32} {sPlace : Int32} {sToken : Int32} {sNumber : Int32} {sWord : Int64} {sText0 : Int32} {sWritten : Int32} {sSort0 : Int32} {sPiled : Int32} {sOpens : Int32} {sWhole : Int32} {sOnce : Int32} {sIsW : Int32} {sDied : Int32} {cA : Nat → Int32} {cIm : Nat → Int32} {cTx : Nat → Int32} {cTp : Nat → Int32} {cPl : Nat → Int32} {cNm : Nat → Int32} {cVa : Nat → Int64} {cTr : Nat → Int32} {cAs : Nat → Int32} {cLi : Nat → Int32} {cSa : Nat → Int32} {cHd : Nat → Int32} {x1 : Int32} {r : Int32} {nsAt : Int32} {nsPlace : Int32} {nsToken : Int32} {nsNumber : Int32} {nsWord : Int64} {nsPiled : Int32} {nsOpens : Int32} {ncPl : Nat → Int32} {φ : Nat} (hf : M_opened φ sTaped sAt sPlace sToken sNumber sWord sPiled sOpens cTp cPl x1 = some (r, nsAt, nsPlace, nsToken, nsNumber, nsWord, nsPiled, nsOpens, ncPl)) : CC l yX2_opened (ws_ yX2_opened cX2_opened 2 (some .int)) ({ frames := 2, cells := 0, slots := 0, locals := 42 } : Room) g [.ref h, .int x1] (mW g h ad sTaped sFault sFaultP sAt sPlace sToken sNumber sWord sText0 sWritten sSort0 sPiled sOpens sWhole sOnce sIsW sDied cA cIm cTx cTp cPl cNm cVa cTr cAs cLi cSa cHd) (some (.int r)) (mW g h ad sTaped sFault sFaultP nsAt nsPlace nsToken nsNumber nsWord sText0 sWritten sSort0 nsPiled nsOpens sWhole sOnce sIsW sDied cA cIm cTx cTp ncPl cNm cVa cTr cAs cLi cSa cHd) 0 0 := by
  refine CC.of RX2 rfl plain_X2 (Nat.le_of_ble_eq_true rfl) (fun p e s m below meth c A ls X hP hD hS hl => ?_)
  have hx := X.1
  have hb := X.2.1
  have hown := X.2.2.2.2.2.1
  have hts := X.2.2.2.2.2.2.1
  have hl : lv_has ls 2 [(0, .ref h), (1, .int x1)] := hl
  unfold M_opened at hf
  refine lv_aload_n hx hb dX2_opened_0 rfl (lv_at hl 0 rfl) ?_
  refine gM17 X hP dX2_opened_1 ?_
  refine lv_bipush (v := 8) hx hb dX2_opened_4 (by decide) ?_
  refine bc_ne (tgt := 11) hx hb hf dX2_opened_6 (by decide) (fun hf => ?_) (fun hf => ?_)
  · refine lv_aload_n hx hb dX2_opened_11 rfl (lv_at hl 0 rfl) ?_
    refine lv_dup hx hb dX2_opened_12 rfl ?_
    refine gM17 X hP dX2_opened_13 ?_
    refine lv_iconst (v := 1) hx hb dX2_opened_16 (by decide) ?_
    refine lv_iadd hx hb dX2_opened_17 ?_
    obtain ⟨v1, ev1, hf⟩ := lts hf
    refine tpi ev1 ?_
    refine pM17 X hP hD hS dX2_opened_18 (fun H locs hP hD hS => ?_)
    refine lv_aload_n hx hb dX2_opened_21 rfl (lv_at hl 0 rfl) ?_
    refine gM15 X hP dX2_opened_22 ?_
    refine lv_aload_n hx hb dX2_opened_25 rfl (lv_at hl 0 rfl) ?_
    refine gM16 X hP dX2_opened_26 ?_
    refine lv_iload_n hx hb dX2_opened_29 rfl (lv_at hl 1 rfl) ?_
    obtain ⟨c2, ec2, bc2, hf⟩ := wrs hf
    refine sM_cPl X hP hD hS ec2 bc2 dX2_opened_30 (fun H locs hP hD hS => ?_)
    refine lv_aload_n hx hb dX2_opened_31 rfl (lv_at hl 0 rfl) ?_
    refine lv_dup hx hb dX2_opened_32 rfl ?_
    refine gM16 X hP dX2_opened_33 ?_
    refine lv_iconst (v := 1) hx hb dX2_opened_36 (by decide) ?_
    refine lv_iadd hx hb dX2_opened_37 ?_
    obtain ⟨v3, ev3, hf⟩ := lts hf
    refine tpi ev3 ?_
    refine pM16 X hP hD hS dX2_opened_38 (fun H locs hP hD hS => ?_)
    refine lv_aload_n hx hb dX2_opened_41 rfl (lv_at hl 0 rfl) ?_
    obtain ⟨c4, c5, c6, c7, c8, k9, hf⟩ := bd5s hf
    refine cVv (rest := []) X (met_M_nextToken k9) gw_X2_X2_nextToken dy_X2_nextToken ⟨⟨rfl, rfl⟩, Nat.le_of_ble_eq_true rfl, Nat.le_of_ble_eq_true rfl⟩ hP hD hS hl.1 rcM rfl rfl ⟨Nat.zero_le _, Nat.zero_le _⟩ (Nat.le_of_ble_eq_true rfl) dX2_opened_42 (fun H locs hP hD hS => ?_)
    refine lv_iconst (v := 0) hx hb dX2_opened_45 (by decide) ?_
    cases hf
    exact rI X hP hD hS dX2_opened_46
  · refine lv_iconst (v := 3) hx hb dX2_opened_9 (by decide) ?_
    cases hf
    exact rI X hP hD hS dX2_opened_10
theorem gw_X2_X2_openNow : GoodIn lw_all (wsV RX2 174 RX2 yX2_openNow (ws_ yX2_openNow cX2_openNow 1 (some .int))) := lw_V q1631 q1633 qs85 q148 q1634
theorem dy_X2_openNow : Dy yX2_openNow RX2 0 := by decide +kernel
set_option maxHeartbeats 4000000 in
theorem met_M_isAskAhead {l : Launch} {g : gG} {h : Nat} {ad : Nat → Nat} {sTaped : Int32} {sFault : Int32} {sFaultP : Int32} {sAt : Int32} {sPlace : Int32} {sToken : Int32} {sNumber : Int32} {sWord : Int64} {sText0 : Int32} {sWritten : Int32} {sSort0 : Int32} {sPiled : Int32} {sOpens : Int32} {sWhole : Int32} {sOnce : Int32} {sIsW : Int32} {sDied : Int32} {cA : Nat → Int32} {cIm : Nat → Int32} {cTx : Nat → Int32} {cTp : Nat → Int32} {cPl : Nat → Int32} {cNm : Nat → Int32} {cVa : Nat → Int64} {cTr : Nat → Int32} {cAs : Nat → Int32} {cLi : Nat → Int32} {cSa : Nat → Int32} {cHd : Nat → Int32} {r : Int32} {φ : Nat} (hf : M_isAskAhead φ sPiled cPl = some r) : CC l yX2_isAskAhead (ws_ yX2_isAskAhead cX2_isAskAhead 1 (some .boolean)) ({ frames := 2, cells := 0, slots := 0, locals := 41 } : Room) g [.ref h] (mW g h ad sTaped sFault sFaultP sAt sPlace sToken sNumber sWord sText0 sWritten sSort0 sPiled sOpens sWhole sOnce sIsW sDied cA cIm cTx cTp cPl cNm cVa cTr cAs cLi cSa cHd) (some (.int r)) (mW g h ad sTaped sFault sFaultP sAt sPlace sToken sNumber sWord sText0 sWritten sSort0 sPiled sOpens sWhole sOnce sIsW sDied cA cIm cTx cTp cPl cNm cVa cTr cAs cLi cSa cHd) 0 0 := by
  refine CC.of RX2 rfl plain_X2 (Nat.le_of_ble_eq_true rfl) (fun p e s m below meth c A ls X hP hD hS hl => ?_)
  have hx := X.1
  have hb := X.2.1
  have hown := X.2.2.2.2.2.1
  have hts := X.2.2.2.2.2.2.1
  have hl : lv_has ls 1 [(0, .ref h)] := hl
  unfold M_isAskAhead at hf
  refine lv_aload_n hx hb dX2_isAskAhead_0 rfl (lv_at hl 0 rfl) ?_
  obtain ⟨r1, k2, hf⟩ := bd1s hf
  refine cVi (rest := []) X (met_M_openNow k2) gw_X2_X2_openNow dy_X2_openNow ⟨⟨rfl, rfl⟩, Nat.le_of_ble_eq_true rfl, Nat.le_of_ble_eq_true rfl⟩ hP hD hS hl.1 rcM rfl rfl ⟨Nat.zero_le _, Nat.zero_le _⟩ (Nat.le_of_ble_eq_true rfl) dX2_isAskAhead_1 (fun H locs hP hD hS => ?_)
  refine lv_bipush (v := 41) hx hb dX2_isAskAhead_4 (by decide) ?_
  refine bc_ne (tgt := 51) hx hb hf dX2_isAskAhead_6 (by decide) (fun hf => ?_) (fun hf => ?_)
  · refine lv_iconst (v := 0) hx hb dX2_isAskAhead_51 (by decide) ?_
    cases hf
    exact rZ X rfl hP hD hS dX2_isAskAhead_52
  · refine lv_aload_n hx hb dX2_isAskAhead_9 rfl (lv_at hl 0 rfl) ?_
    refine gM15 X hP dX2_isAskAhead_10 ?_
    refine lv_aload_n hx hb dX2_isAskAhead_13 rfl (lv_at hl 0 rfl) ?_
    refine gM16 X hP dX2_isAskAhead_14 ?_
    refine lv_iconst (v := 1) hx hb dX2_isAskAhead_17 (by decide) ?_
    refine lv_isub hx hb dX2_isAskAhead_18 ?_
    obtain ⟨v3, ev3, bv3, hf⟩ := rds hf
    refine lM_cPl X hP ev3 bv3 dX2_isAskAhead_19 ?_
    refine lv_bipush (v := 40) hx hb dX2_isAskAhead_20 (by decide) ?_
    refine bc_ge (tgt := 47) hx hb hf dX2_isAskAhead_22 (by decide) (fun hf => ?_) (fun hf => ?_)
    · refine lv_iconst (v := 1) hx hb dX2_isAskAhead_47 (by decide) ?_
      refine lv_goto (tgt := 52) hx hb dX2_isAskAhead_48 (by decide) ?_
      cases hf
      exact rZ X rfl hP hD hS dX2_isAskAhead_52
    · refine lv_aload_n hx hb dX2_isAskAhead_25 rfl (lv_at hl 0 rfl) ?_
      refine gM15 X hP dX2_isAskAhead_26 ?_
      refine lv_aload_n hx hb dX2_isAskAhead_29 rfl (lv_at hl 0 rfl) ?_
      refine gM16 X hP dX2_isAskAhead_30 ?_
      refine lv_iconst (v := 1) hx hb dX2_isAskAhead_33 (by decide) ?_
      refine lv_isub hx hb dX2_isAskAhead_34 ?_
      obtain ⟨v4, ev4, bv4, hf⟩ := rds hf
      refine lM_cPl X hP ev4 bv4 dX2_isAskAhead_35 ?_
      obtain ⟨r5, k6, hf⟩ := bd1s hf
      refine cSi (rest := []) X (met_M_rank (g := g) k6) gs_X2_X2_rank dy_X2_rank ⟨⟨rfl, rfl⟩, Nat.le_of_ble_eq_true rfl, Nat.le_of_ble_eq_true rfl⟩ hP hD hS hl.1 rfl rfl ⟨Nat.zero_le _, Nat.zero_le _⟩ (Nat.le_of_ble_eq_true rfl) dX2_isAskAhead_36 (fun H locs hP hD hS => ?_)
      refine lv_iconst (v := 1) hx hb dX2_isAskAhead_39 (by decide) ?_
      refine lv_iconst (v := 3) hx hb dX2_isAskAhead_40 (by decide) ?_
      obtain ⟨r7, k8, hf⟩ := bd1s hf
      refine cSi (rest := []) X (met_M_isIn (g := g) k8) gs_X2_X2_isIn dy_X2_isIn ⟨⟨rfl, rfl⟩, Nat.le_of_ble_eq_true rfl, Nat.le_of_ble_eq_true rfl⟩ hP hD hS hl.1 rfl rfl ⟨Nat.zero_le _, Nat.zero_le _⟩ (Nat.le_of_ble_eq_true rfl) dX2_isAskAhead_41 (fun H locs hP hD hS => ?_)
      refine bq_eq (tgt := 51) hx hb hf dX2_isAskAhead_44 (by decide) (fun hf => ?_) (fun hf => ?_)
      · refine lv_iconst (v := 0) hx hb dX2_isAskAhead_51 (by decide) ?_
        cases hf
        exact rZ X rfl hP hD hS dX2_isAskAhead_52
      · refine lv_iconst (v := 1) hx hb dX2_isAskAhead_47 (by decide) ?_
        refine lv_goto (tgt := 52) hx hb dX2_isAskAhead_48 (by decide) ?_
        cases hf
        exact rZ X rfl hP hD hS dX2_isAskAhead_52
theorem gw_X2_X2_begin : GoodIn lw_all (wsV RX2 86 RX2 yX2_begin (ws_ yX2_begin cX2_begin 3 none)) := lw_V q1517 q1519 qs66 q148 q1520
theorem dy_X2_begin : Dy yX2_begin RX2 1 := by decide +kernel
set_option maxHeartbeats 4000000 in
theorem met_M_undo {l : Launch} {g : gG} {h : Nat} {ad : Nat → Nat} {sTaped : Int32} {sFault : Int32} {sFaultP : Int32} {sAt : Int32} {sPlace : Int32} {sToken : Int32} {sNumber : Int32} {sWord : Int64} {sText0 : Int32} {sWritten : Int32} {sSort0 : Int32} {sPiled : Int32} {sOpens : Int32} {sWhole : Int32} {sOnce : Int32} {sIsW : Int32} {sDied : Int32} {cA : Nat → Int32} {cIm : Nat → Int32} {cTx : Nat → Int32} {cTp : Nat → Int32} {cPl : Nat → Int32} {cNm : Nat → Int32} {cVa : Nat → Int64} {cTr : Nat → Int32} {cAs : Nat → Int32} {cLi : Nat → Int32} {cSa : Nat → Int32} {cHd : Nat → Int32} {r : Int32} {ncA : Nat → Int32} {φ : Nat} (hf : M_undo φ cA = some (r, ncA)) : CC l yX2_undo (ws_ yX2_undo cX2_undo 4 (some .int)) ({ frames := 2, cells := 0, slots := 0, locals := 45 } : Room) g [.ref h] (mW g h ad sTaped sFault sFaultP sAt sPlace sToken sNumber sWord sText0 sWritten sSort0 sPiled sOpens sWhole sOnce sIsW sDied cA cIm cTx cTp cPl cNm cVa cTr cAs cLi cSa cHd) (some (.int r)) (mW g h ad sTaped sFault sFaultP sAt sPlace sToken sNumber sWord sText0 sWritten sSort0 sPiled sOpens sWhole sOnce sIsW sDied ncA cIm cTx cTp cPl cNm cVa cTr cAs cLi cSa cHd) 0 0 := by
  refine CC.of RX2 rfl plain_X2 (Nat.le_of_ble_eq_true rfl) (fun p e s m below meth c A ls X hP hD hS hl => ?_)
  have hx := X.1
  have hb := X.2.1
  have hown := X.2.2.2.2.2.1
  have hts := X.2.2.2.2.2.2.1
  have hl : lv_has ls 4 [(0, .ref h)] := hl
  unfold M_undo at hf
  refine lv_aload_n hx hb dX2_undo_0 rfl (lv_at hl 0 rfl) ?_
  refine gM0 X hP dX2_undo_1 ?_
  refine lv_iconst (v := 4) hx hb dX2_undo_4 (by decide) ?_
  obtain ⟨v1, ev1, bv1, hf⟩ := rds hf
  refine lM_cA X hP ev1 bv1 dX2_undo_5 ?_
  refine bq_ne (tgt := 11) hx hb hf dX2_undo_6 (by decide) (fun hf => ?_) (fun hf => ?_)
  · refine lv_aload_n hx hb dX2_undo_11 rfl (lv_at hl 0 rfl) ?_
    refine gM0 X hP dX2_undo_12 ?_
    refine lv_iconst (v := 4) hx hb dX2_undo_15 (by decide) ?_
    refine lv_dup2_11 hx hb dX2_undo_16 rfl rfl ?_
    obtain ⟨v2, ev2, bv2, hf⟩ := rds hf
    refine lM_cA X hP ev2 bv2 dX2_undo_17 ?_
    refine lv_iconst (v := 1) hx hb dX2_undo_18 (by decide) ?_
    refine lv_isub hx hb dX2_undo_19 ?_
    obtain ⟨v3, ev3, hf⟩ := lts hf
    refine tpi ev3 ?_
    obtain ⟨c4, ec4, bc4, hf⟩ := wrs hf
    refine sM_cA X hP hD hS ec4 bc4 dX2_undo_20 (fun H locs hP hD hS => ?_)
    refine lv_sipush (v := 142) hx hb dX2_undo_21 (by decide) ?_
    refine lv_bipush (v := 46) hx hb dX2_undo_24 (by decide) ?_
    refine lv_aload_n hx hb dX2_undo_26 rfl (lv_at hl 0 rfl) ?_
    refine gM0 X hP dX2_undo_27 ?_
    refine lv_iconst (v := 4) hx hb dX2_undo_30 (by decide) ?_
    obtain ⟨v5, ev5, bv5, hf⟩ := rds hf
    refine lM_cA X hP ev5 bv5 dX2_undo_31 ?_
    refine lv_imul hx hb dX2_undo_32 ?_
    refine lv_iadd hx hb dX2_undo_33 ?_
    obtain ⟨v6, ev6, hf⟩ := lts hf
    refine tpi ev6 ?_
    refine lv_istore_n (lv' := [(1, .int v6), (0, .ref h)]) hx hb dX2_undo_34 rfl hl (by decide) rfl (fun ls hl => ?_)
    refine lv_iconst (v := 0) hx hb dX2_undo_35 (by decide) ?_
    refine lv_istore_n (lv' := [(2, .int 0), (1, .int v6), (0, .ref h)]) hx hb dX2_undo_36 rfl hl (by decide) rfl (fun ls hl => ?_)
    obtain ⟨c9, k14, hf⟩ := bd1s hf
    have hE11 : ∀ (H : Heap) (locs : List Loc) (ls : Array Slot), va_P g.1 vwCl (mW g h ad sTaped sFault sFaultP sAt sPlace sToken sNumber sWord sText0 sWritten sSort0 sPiled sOpens sWhole sOnce sIsW sDied c9 cIm cTx cTp cPl cNm cVa cTr cAs cLi cSa cHd) H → va_D A (mW g h ad sTaped sFault sFaultP sAt sPlace sToken sNumber sWord sText0 sWritten sSort0 sPiled sOpens sWhole sOnce sIsW sDied c9 cIm cTx cTp cPl cNm cVa cTr cAs cLi cSa cHd) → va_S A s.heap H locs → lv_has ls 4 [(0, .ref h), (1, .int v6)] → W p l e ({ frames := 2, cells := 0, slots := 0, locals := 45 } : Room) s m ([.ref h] : List Value).toArray below meth c H locs 0 0 (MQ below (QQ g (some (.int r)) (mW g h ad sTaped sFault sFaultP sAt sPlace sToken sNumber sWord sText0 sWritten sSort0 sPiled sOpens sWhole sOnce sIsW sDied ncA cIm cTx cTp cPl cNm cVa cTr cAs cLi cSa cHd) A) ([.ref h] : List Value).toArray s 0 0 A) (F0 m 67 ls []) := by
      intro H locs ls hP hD hS hl
      refine lv_iconst (v := 0) hx hb dX2_undo_67 (by decide) ?_
      refine lv_istore_n (lv' := [(2, .int 0), (0, .ref h), (1, .int v6)]) hx hb dX2_undo_68 rfl hl (by decide) rfl (fun ls hl => ?_)
      obtain ⟨c17, k22, hf⟩ := bd1s hf
      have hE19 : ∀ (H : Heap) (locs : List Loc) (ls : Array Slot), va_P g.1 vwCl (mW g h ad sTaped sFault sFaultP sAt sPlace sToken sNumber sWord sText0 sWritten sSort0 sPiled sOpens sWhole sOnce sIsW sDied c17 cIm cTx cTp cPl cNm cVa cTr cAs cLi cSa cHd) H → va_D A (mW g h ad sTaped sFault sFaultP sAt sPlace sToken sNumber sWord sText0 sWritten sSort0 sPiled sOpens sWhole sOnce sIsW sDied c17 cIm cTx cTp cPl cNm cVa cTr cAs cLi cSa cHd) → va_S A s.heap H locs → lv_has ls 4 [(0, .ref h)] → W p l e ({ frames := 2, cells := 0, slots := 0, locals := 45 } : Room) s m ([.ref h] : List Value).toArray below meth c H locs 0 0 (MQ below (QQ g (some (.int r)) (mW g h ad sTaped sFault sFaultP sAt sPlace sToken sNumber sWord sText0 sWritten sSort0 sPiled sOpens sWhole sOnce sIsW sDied ncA cIm cTx cTp cPl cNm cVa cTr cAs cLi cSa cHd) A) ([.ref h] : List Value).toArray s 0 0 A) (F0 m 145 ls []) := by
        intro H locs ls hP hD hS hl
        refine lv_aload_n hx hb dX2_undo_145 rfl (lv_at hl 0 rfl) ?_
        refine gM0 X hP dX2_undo_146 ?_
        refine lv_iconst (v := 4) hx hb dX2_undo_149 (by decide) ?_
        obtain ⟨v23, ev23, bv23, hf⟩ := rds hf
        refine lM_cA X hP ev23 bv23 dX2_undo_150 ?_
        cases hf
        exact rI X hP hD hS dX2_undo_151
      have hL20 : ∀ (n18 : Nat) (v15 : Int32) (c16 : Nat → Int32), M_undo_L69 φ v6 n18 v15 c16 = some c17 → ∀ (H : Heap) (locs : List Loc) (ls : Array Slot), va_P g.1 vwCl (mW g h ad sTaped sFault sFaultP sAt sPlace sToken sNumber sWord sText0 sWritten sSort0 sPiled sOpens sWhole sOnce sIsW sDied c16 cIm cTx cTp cPl cNm cVa cTr cAs cLi cSa cHd) H → va_D A (mW g h ad sTaped sFault sFaultP sAt sPlace sToken sNumber sWord sText0 sWritten sSort0 sPiled sOpens sWhole sOnce sIsW sDied c16 cIm cTx cTp cPl cNm cVa cTr cAs cLi cSa cHd) → va_S A s.heap H locs → lv_has ls 4 [(0, .ref h), (1, .int v6), (2, .int v15)] → W p l e ({ frames := 2, cells := 0, slots := 0, locals := 45 } : Room) s m ([.ref h] : List Value).toArray below meth c H locs 0 0 (MQ below (QQ g (some (.int r)) (mW g h ad sTaped sFault sFaultP sAt sPlace sToken sNumber sWord sText0 sWritten sSort0 sPiled sOpens sWhole sOnce sIsW sDied ncA cIm cTx cTp cPl cNm cVa cTr cAs cLi cSa cHd) A) ([.ref h] : List Value).toArray s 0 0 A) (F0 m 69 ls []) := by
        intro n18
        induction n18 with
        | zero =>
          intro v15 c16 hf
          exact nn hf
        | succ n18 ih21 =>
          intro v15 c16 hf H locs ls hP hD hS hl
          rw [M_undo_L69] at hf
          refine lv_iload_n hx hb dX2_undo_69 rfl (lv_at hl 2 rfl) ?_
          refine lv_aload_n hx hb dX2_undo_70 rfl (lv_at hl 0 rfl) ?_
          refine gM0 X hP dX2_undo_71 ?_
          refine lv_iconst (v := 1) hx hb dX2_undo_74 (by decide) ?_
          obtain ⟨v24, ev24, bv24, hf⟩ := rds hf
          refine lM_cA X hP ev24 bv24 dX2_undo_75 ?_
          refine bc_ge (tgt := 145) hx hb hf dX2_undo_76 (by decide) (fun hf => ?_) (fun hf => ?_)
          · cases hf
            exact hE19 _ _ _ hP hD hS (lv_sub hl [0] rfl)
          · refine lv_iload_n hx hb dX2_undo_79 rfl (lv_at hl 2 rfl) ?_
            refine lv_aload_n hx hb dX2_undo_80 rfl (lv_at hl 0 rfl) ?_
            refine gM0 X hP dX2_undo_81 ?_
            refine lv_iload_n hx hb dX2_undo_84 rfl (lv_at hl 1 rfl) ?_
            obtain ⟨v25, ev25, bv25, hf⟩ := rds hf
            refine lM_cA X hP ev25 bv25 dX2_undo_85 ?_
            obtain ⟨c26, k27, hf⟩ := bd1s hf
            have hj28 : ∀ (H : Heap) (locs : List Loc) (ls : Array Slot), va_P g.1 vwCl (mW g h ad sTaped sFault sFaultP sAt sPlace sToken sNumber sWord sText0 sWritten sSort0 sPiled sOpens sWhole sOnce sIsW sDied c26 cIm cTx cTp cPl cNm cVa cTr cAs cLi cSa cHd) H → va_D A (mW g h ad sTaped sFault sFaultP sAt sPlace sToken sNumber sWord sText0 sWritten sSort0 sPiled sOpens sWhole sOnce sIsW sDied c26 cIm cTx cTp cPl cNm cVa cTr cAs cLi cSa cHd) → va_S A s.heap H locs → lv_has ls 4 [(0, .ref h), (1, .int v6), (2, .int v15)] → W p l e ({ frames := 2, cells := 0, slots := 0, locals := 45 } : Room) s m ([.ref h] : List Value).toArray below meth c H locs 0 0 (MQ below (QQ g (some (.int r)) (mW g h ad sTaped sFault sFaultP sAt sPlace sToken sNumber sWord sText0 sWritten sSort0 sPiled sOpens sWhole sOnce sIsW sDied ncA cIm cTx cTp cPl cNm cVa cTr cAs cLi cSa cHd) A) ([.ref h] : List Value).toArray s 0 0 A) (F0 m 94 ls []) := by
              intro H locs ls hP hD hS hl
              refine lv_iconst (v := 0) hx hb dX2_undo_94 (by decide) ?_
              refine lv_istore_n (lv' := [(3, .int 0), (0, .ref h), (1, .int v6), (2, .int v15)]) hx hb dX2_undo_95 rfl hl (by decide) rfl (fun ls hl => ?_)
              obtain ⟨c31, k36, hf⟩ := bd1s hf
              have hE33 : ∀ (H : Heap) (locs : List Loc) (ls : Array Slot), va_P g.1 vwCl (mW g h ad sTaped sFault sFaultP sAt sPlace sToken sNumber sWord sText0 sWritten sSort0 sPiled sOpens sWhole sOnce sIsW sDied c31 cIm cTx cTp cPl cNm cVa cTr cAs cLi cSa cHd) H → va_D A (mW g h ad sTaped sFault sFaultP sAt sPlace sToken sNumber sWord sText0 sWritten sSort0 sPiled sOpens sWhole sOnce sIsW sDied c31 cIm cTx cTp cPl cNm cVa cTr cAs cLi cSa cHd) → va_S A s.heap H locs → lv_has ls 4 [(0, .ref h), (1, .int v6), (2, .int v15)] → W p l e ({ frames := 2, cells := 0, slots := 0, locals := 45 } : Room) s m ([.ref h] : List Value).toArray below meth c H locs 0 0 (MQ below (QQ g (some (.int r)) (mW g h ad sTaped sFault sFaultP sAt sPlace sToken sNumber sWord sText0 sWritten sSort0 sPiled sOpens sWhole sOnce sIsW sDied ncA cIm cTx cTp cPl cNm cVa cTr cAs cLi cSa cHd) A) ([.ref h] : List Value).toArray s 0 0 A) (F0 m 139 ls []) := by
                intro H locs ls hP hD hS hl
                obtain ⟨v37, ev37, hf⟩ := lts hf
                refine lv_iinc (v := v37) (lv' := [(2, .int v37), (0, .ref h), (1, .int v6)]) hx hb dX2_undo_139 hl (k := 2) rfl (by rw [ev37]; rfl) (by decide) rfl (fun ls hl => ?_)
                refine lv_goto (tgt := 69) hx hb dX2_undo_142 (by decide) ?_
                exact ih21 _ _ hf _ _ _ hP hD hS (lv_sub hl [1, 2, 0] rfl)
              have hL34 : ∀ (n32 : Nat) (v29 : Int32) (c30 : Nat → Int32), M_undo_L96 φ v6 v15 n32 v29 c30 = some c31 → ∀ (H : Heap) (locs : List Loc) (ls : Array Slot), va_P g.1 vwCl (mW g h ad sTaped sFault sFaultP sAt sPlace sToken sNumber sWord sText0 sWritten sSort0 sPiled sOpens sWhole sOnce sIsW sDied c30 cIm cTx cTp cPl cNm cVa cTr cAs cLi cSa cHd) H → va_D A (mW g h ad sTaped sFault sFaultP sAt sPlace sToken sNumber sWord sText0 sWritten sSort0 sPiled sOpens sWhole sOnce sIsW sDied c30 cIm cTx cTp cPl cNm cVa cTr cAs cLi cSa cHd) → va_S A s.heap H locs → lv_has ls 4 [(0, .ref h), (1, .int v6), (2, .int v15), (3, .int v29)] → W p l e ({ frames := 2, cells := 0, slots := 0, locals := 45 } : Room) s m ([.ref h] : List Value).toArray below meth c H locs 0 0 (MQ below (QQ g (some (.int r)) (mW g h ad sTaped sFault sFaultP sAt sPlace sToken sNumber sWord sText0 sWritten sSort0 sPiled sOpens sWhole sOnce sIsW sDied ncA cIm cTx cTp cPl cNm cVa cTr cAs cLi cSa cHd) A) ([.ref h] : List Value).toArray s 0 0 A) (F0 m 96 ls []) := by
                intro n32
                induction n32 with
                | zero =>
                  intro v29 c30 hf
                  exact nn hf
                | succ n32 ih35 =>
                  intro v29 c30 hf H locs ls hP hD hS hl
                  rw [M_undo_L96] at hf
                  refine lv_iload_n hx hb dX2_undo_96 rfl (lv_at hl 3 rfl) ?_
                  refine lv_bipush (v := 7) hx hb dX2_undo_97 (by decide) ?_
                  refine bc_ge (tgt := 139) hx hb hf dX2_undo_99 (by decide) (fun hf => ?_) (fun hf => ?_)
                  · cases hf
                    exact hE33 _ _ _ hP hD hS (lv_sub hl [0, 1, 2] rfl)
                  · refine lv_iload_n hx hb dX2_undo_102 rfl (lv_at hl 2 rfl) ?_
                    refine lv_aload_n hx hb dX2_undo_103 rfl (lv_at hl 0 rfl) ?_
                    refine gM0 X hP dX2_undo_104 ?_
                    refine lv_iload_n hx hb dX2_undo_107 rfl (lv_at hl 1 rfl) ?_
                    obtain ⟨v38, ev38, bv38, hf⟩ := rds hf
                    refine lM_cA X hP ev38 bv38 dX2_undo_108 ?_
                    refine bc_ge (tgt := 139) hx hb hf dX2_undo_109 (by decide) (fun hf => ?_) (fun hf => ?_)
                    · cases hf
                      exact hE33 _ _ _ hP hD hS (lv_sub hl [0, 1, 2] rfl)
                    · refine lv_aload_n hx hb dX2_undo_112 rfl (lv_at hl 0 rfl) ?_
                      refine lv_iload_n hx hb dX2_undo_113 rfl (lv_at hl 2 rfl) ?_
                      refine lv_iload_n hx hb dX2_undo_114 rfl (lv_at hl 3 rfl) ?_
                      refine lv_aload_n hx hb dX2_undo_115 rfl (lv_at hl 0 rfl) ?_
                      refine gM0 X hP dX2_undo_116 ?_
                      refine lv_iload_n hx hb dX2_undo_119 rfl (lv_at hl 1 rfl) ?_
                      refine lv_iconst (v := 4) hx hb dX2_undo_120 (by decide) ?_
                      refine lv_iadd hx hb dX2_undo_121 ?_
                      refine lv_bipush (v := 7) hx hb dX2_undo_122 (by decide) ?_
                      refine lv_iload_n hx hb dX2_undo_124 rfl (lv_at hl 2 rfl) ?_
                      refine lv_imul hx hb dX2_undo_125 ?_
                      refine lv_iadd hx hb dX2_undo_126 ?_
                      refine lv_iload_n hx hb dX2_undo_127 rfl (lv_at hl 3 rfl) ?_
                      refine lv_iadd hx hb dX2_undo_128 ?_
                      obtain ⟨v39, ev39, bv39, hf⟩ := rds hf
                      refine lM_cA X hP ev39 bv39 dX2_undo_129 ?_
                      obtain ⟨c40, k41, hf⟩ := bd1s hf
                      refine cVv (rest := []) X (met_M_put k41) gw_X2_X2_put dy_X2_put ⟨⟨rfl, rfl⟩, Nat.le_of_ble_eq_true rfl, Nat.le_of_ble_eq_true rfl⟩ hP hD hS hl.1 rcM rfl rfl ⟨Nat.zero_le _, Nat.zero_le _⟩ (Nat.le_of_ble_eq_true rfl) dX2_undo_130 (fun H locs hP hD hS => ?_)
                      obtain ⟨v42, ev42, hf⟩ := lts hf
                      refine lv_iinc (v := v42) (lv' := [(3, .int v42), (0, .ref h), (1, .int v6), (2, .int v15)]) hx hb dX2_undo_133 hl (k := 3) rfl (by rw [ev42]; rfl) (by decide) rfl (fun ls hl => ?_)
                      refine lv_goto (tgt := 96) hx hb dX2_undo_136 (by decide) ?_
                      exact ih35 _ _ hf _ _ _ hP hD hS (lv_sub hl [1, 2, 3, 0] rfl)
              exact hL34 _ _ _ k36 _ _ _ hP hD hS (lv_sub hl [1, 2, 3, 0] rfl)
            replace hf := k27
            clear k27
            refine bc_lt (tgt := 94) hx hb hf dX2_undo_86 (by decide) (fun hf => ?_) (fun hf => ?_)
            · cases hf
              exact hj28 _ _ _ hP hD hS (lv_sub hl [0, 1, 2] rfl)
            · refine lv_aload_n hx hb dX2_undo_89 rfl (lv_at hl 0 rfl) ?_
              refine lv_iload_n hx hb dX2_undo_90 rfl (lv_at hl 2 rfl) ?_
              obtain ⟨c43, k44, hf⟩ := bd1s hf
              refine cVv (rest := []) X (met_M_begin k44) gw_X2_X2_begin dy_X2_begin ⟨⟨rfl, rfl⟩, Nat.le_of_ble_eq_true rfl, Nat.le_of_ble_eq_true rfl⟩ hP hD hS hl.1 rcM rfl rfl ⟨Nat.zero_le _, Nat.zero_le _⟩ (Nat.le_of_ble_eq_true rfl) dX2_undo_91 (fun H locs hP hD hS => ?_)
              cases hf
              exact hj28 _ _ _ hP hD hS (lv_sub hl [0, 1, 2] rfl)
      exact hL20 _ _ _ k22 _ _ _ hP hD hS (lv_sub hl [1, 2, 0] rfl)
    have hL12 : ∀ (n10 : Nat) (v7 : Int32) (c8 : Nat → Int32), M_undo_L37 φ v6 n10 v7 c8 = some c9 → ∀ (H : Heap) (locs : List Loc) (ls : Array Slot), va_P g.1 vwCl (mW g h ad sTaped sFault sFaultP sAt sPlace sToken sNumber sWord sText0 sWritten sSort0 sPiled sOpens sWhole sOnce sIsW sDied c8 cIm cTx cTp cPl cNm cVa cTr cAs cLi cSa cHd) H → va_D A (mW g h ad sTaped sFault sFaultP sAt sPlace sToken sNumber sWord sText0 sWritten sSort0 sPiled sOpens sWhole sOnce sIsW sDied c8 cIm cTx cTp cPl cNm cVa cTr cAs cLi cSa cHd) → va_S A s.heap H locs → lv_has ls 4 [(0, .ref h), (1, .int v6), (2, .int v7)] → W p l e ({ frames := 2, cells := 0, slots := 0, locals := 45 } : Room) s m ([.ref h] : List Value).toArray below meth c H locs 0 0 (MQ below (QQ g (some (.int r)) (mW g h ad sTaped sFault sFaultP sAt sPlace sToken sNumber sWord sText0 sWritten sSort0 sPiled sOpens sWhole sOnce sIsW sDied ncA cIm cTx cTp cPl cNm cVa cTr cAs cLi cSa cHd) A) ([.ref h] : List Value).toArray s 0 0 A) (F0 m 37 ls []) := by
      intro n10
      induction n10 with
      | zero =>
        intro v7 c8 hf
        exact nn hf
      | succ n10 ih13 =>
        intro v7 c8 hf H locs ls hP hD hS hl
        rw [M_undo_L37] at hf
        refine lv_iload_n hx hb dX2_undo_37 rfl (lv_at hl 2 rfl) ?_
        refine lv_iconst (v := 3) hx hb dX2_undo_38 (by decide) ?_
        refine bc_ge (tgt := 67) hx hb hf dX2_undo_39 (by decide) (fun hf => ?_) (fun hf => ?_)
        · cases hf
          exact hE11 _ _ _ hP hD hS (lv_sub hl [0, 1] rfl)
        · refine lv_aload_n hx hb dX2_undo_42 rfl (lv_at hl 0 rfl) ?_
          refine gM0 X hP dX2_undo_43 ?_
          refine lv_bipush (v := 10) hx hb dX2_undo_46 (by decide) ?_
          refine lv_iload_n hx hb dX2_undo_48 rfl (lv_at hl 2 rfl) ?_
          refine lv_iadd hx hb dX2_undo_49 ?_
          refine lv_aload_n hx hb dX2_undo_50 rfl (lv_at hl 0 rfl) ?_
          refine gM0 X hP dX2_undo_51 ?_
          refine lv_iload_n hx hb dX2_undo_54 rfl (lv_at hl 1 rfl) ?_
          refine lv_iconst (v := 1) hx hb dX2_undo_55 (by decide) ?_
          refine lv_iadd hx hb dX2_undo_56 ?_
          refine lv_iload_n hx hb dX2_undo_57 rfl (lv_at hl 2 rfl) ?_
          refine lv_iadd hx hb dX2_undo_58 ?_
          obtain ⟨v45, ev45, bv45, hf⟩ := rds hf
          refine lM_cA X hP ev45 bv45 dX2_undo_59 ?_
          obtain ⟨c46, ec46, bc46, hf⟩ := wrs hf
          refine sM_cA X hP hD hS ec46 bc46 dX2_undo_60 (fun H locs hP hD hS => ?_)
          obtain ⟨v47, ev47, hf⟩ := lts hf
          refine lv_iinc (v := v47) (lv' := [(2, .int v47), (0, .ref h), (1, .int v6)]) hx hb dX2_undo_61 hl (k := 2) rfl (by rw [ev47]; rfl) (by decide) rfl (fun ls hl => ?_)
          refine lv_goto (tgt := 37) hx hb dX2_undo_64 (by decide) ?_
          exact ih13 _ _ hf _ _ _ hP hD hS (lv_sub hl [1, 2, 0] rfl)
    exact hL12 _ _ _ k14 _ _ _ hP hD hS (lv_sub hl [2, 1, 0] rfl)
  · refine lv_iconst (v := (-1)) hx hb dX2_undo_9 (by decide) ?_
    cases hf
    exact rI X hP hD hS dX2_undo_10
set_option maxHeartbeats 4000000 in
theorem met_M_isAlive {l : Launch} {g : gG} {h : Nat} {ad : Nat → Nat} {sTaped : Int32} {sFault : Int32} {sFaultP : Int32} {sAt : Int32} {sPlace : Int32} {sToken : Int32} {sNumber : Int32} {sWord : Int64} {sText0 : Int32} {sWritten : Int32} {sSort0 : Int32} {sPiled : Int32} {sOpens : Int32} {sWhole : Int32} {sOnce : Int32} {sIsW : Int32} {sDied : Int32} {cA : Nat → Int32} {cIm : Nat → Int32} {cTx : Nat → Int32} {cTp : Nat → Int32} {cPl : Nat → Int32} {cNm : Nat → Int32} {cVa : Nat → Int64} {cTr : Nat → Int32} {cAs : Nat → Int32} {cLi : Nat → Int32} {cSa : Nat → Int32} {cHd : Nat → Int32} {x1 : Int32} {r : Int32} (hf : M_isAlive cA x1 = some r) : CC l yX2_isAlive (ws_ yX2_isAlive cX2_isAlive 2 (some .boolean)) ({ frames := 2, cells := 0, slots := 0, locals := 43 } : Room) g [.ref h, .int x1] (mW g h ad sTaped sFault sFaultP sAt sPlace sToken sNumber sWord sText0 sWritten sSort0 sPiled sOpens sWhole sOnce sIsW sDied cA cIm cTx cTp cPl cNm cVa cTr cAs cLi cSa cHd) (some (.int r)) (mW g h ad sTaped sFault sFaultP sAt sPlace sToken sNumber sWord sText0 sWritten sSort0 sPiled sOpens sWhole sOnce sIsW sDied cA cIm cTx cTp cPl cNm cVa cTr cAs cLi cSa cHd) 0 0 := by
  refine CC.of RX2 rfl plain_X2 (Nat.le_of_ble_eq_true rfl) (fun p e s m below meth c A ls X hP hD hS hl => ?_)
  have hx := X.1
  have hb := X.2.1
  have hown := X.2.2.2.2.2.1
  have hts := X.2.2.2.2.2.2.1
  have hl : lv_has ls 2 [(0, .ref h), (1, .int x1)] := hl
  unfold M_isAlive at hf
  refine lv_aload_n hx hb dX2_isAlive_0 rfl (lv_at hl 0 rfl) ?_
  refine lv_iload_n hx hb dX2_isAlive_1 rfl (lv_at hl 1 rfl) ?_
  obtain ⟨r1, k2, hf⟩ := bd1s hf
  refine cVi (rest := []) X (met_M_isPerson k2) gw_X2_X2_isPerson dy_X2_isPerson ⟨⟨rfl, rfl⟩, Nat.le_of_ble_eq_true rfl, Nat.le_of_ble_eq_true rfl⟩ hP hD hS hl.1 rcM rfl rfl ⟨Nat.zero_le _, Nat.zero_le _⟩ (Nat.le_of_ble_eq_true rfl) dX2_isAlive_2 (fun H locs hP hD hS => ?_)
  refine bq_eq (tgt := 23) hx hb hf dX2_isAlive_5 (by decide) (fun hf => ?_) (fun hf => ?_)
  · refine lv_iconst (v := 0) hx hb dX2_isAlive_23 (by decide) ?_
    cases hf
    exact rZ X rfl hP hD hS dX2_isAlive_24
  · refine lv_aload_n hx hb dX2_isAlive_8 rfl (lv_at hl 0 rfl) ?_
    refine lv_iload_n hx hb dX2_isAlive_9 rfl (lv_at hl 1 rfl) ?_
    refine lv_bipush (v := 6) hx hb dX2_isAlive_10 (by decide) ?_
    obtain ⟨r3, k4, hf⟩ := bd1s hf
    refine cVi (rest := []) X (met_M_get k4) gw_X2_X2_get dy_X2_get ⟨⟨rfl, rfl⟩, Nat.le_of_ble_eq_true rfl, Nat.le_of_ble_eq_true rfl⟩ hP hD hS hl.1 rcM rfl rfl ⟨Nat.zero_le _, Nat.zero_le _⟩ (Nat.le_of_ble_eq_true rfl) dX2_isAlive_12 (fun H locs hP hD hS => ?_)
    refine lv_iconst (v := 3) hx hb dX2_isAlive_15 (by decide) ?_
    refine bc_eq (tgt := 23) hx hb hf dX2_isAlive_16 (by decide) (fun hf => ?_) (fun hf => ?_)
    · refine lv_iconst (v := 0) hx hb dX2_isAlive_23 (by decide) ?_
      cases hf
      exact rZ X rfl hP hD hS dX2_isAlive_24
    · refine lv_iconst (v := 1) hx hb dX2_isAlive_19 (by decide) ?_
      refine lv_goto (tgt := 24) hx hb dX2_isAlive_20 (by decide) ?_
      cases hf
      exact rZ X rfl hP hD hS dX2_isAlive_24
set_option maxHeartbeats 4000000 in
theorem met_M_callNow {l : Launch} {g : gG} {h : Nat} {ad : Nat → Nat} {sTaped : Int32} {sFault : Int32} {sFaultP : Int32} {sAt : Int32} {sPlace : Int32} {sToken : Int32} {sNumber : Int32} {sWord : Int64} {sText0 : Int32} {sWritten : Int32} {sSort0 : Int32} {sPiled : Int32} {sOpens : Int32} {sWhole : Int32} {sOnce : Int32} {sIsW : Int32} {sDied : Int32} {cA : Nat → Int32} {cIm : Nat → Int32} {cTx : Nat → Int32} {cTp : Nat → Int32} {cPl : Nat → Int32} {cNm : Nat → Int32} {cVa : Nat → Int64} {cTr : Nat → Int32} {cAs : Nat → Int32} {cLi : Nat → Int32} {cSa : Nat → Int32} {cHd : Nat → Int32} {x1 : Int32} {x2 : Int32} {ncA : Nat → Int32} {φ : Nat} (hf : M_callNow φ sIsW cA x1 x2 = some ncA) : CC l yX2_callNow (ws_ yX2_callNow cX2_callNow 4 none) ({ frames := 1, cells := 0, slots := 0, locals := 23 } : Room) g [.ref h, .int x1, .int x2] (mW g h ad sTaped sFault sFaultP sAt sPlace sToken sNumber sWord sText0 sWritten sSort0 sPiled sOpens sWhole sOnce sIsW sDied cA cIm cTx cTp cPl cNm cVa cTr cAs cLi cSa cHd) none (mW g h ad sTaped sFault sFaultP sAt sPlace sToken sNumber sWord sText0 sWritten sSort0 sPiled sOpens sWhole sOnce sIsW sDied ncA cIm cTx cTp cPl cNm cVa cTr cAs cLi cSa cHd) 0 0 := by
  refine CC.of RX2 rfl plain_X2 (Nat.le_of_ble_eq_true rfl) (fun p e s m below meth c A ls X hP hD hS hl => ?_)
  have hx := X.1
  have hb := X.2.1
  have hown := X.2.2.2.2.2.1
  have hts := X.2.2.2.2.2.2.1
  have hl : lv_has ls 4 [(0, .ref h), (1, .int x1), (2, .int x2)] := hl
  unfold M_callNow at hf
  refine lv_aload_n hx hb dX2_callNow_0 rfl (lv_at hl 0 rfl) ?_
  refine lv_iload_n hx hb dX2_callNow_1 rfl (lv_at hl 1 rfl) ?_
  refine lv_iconst (v := 0) hx hb dX2_callNow_2 (by decide) ?_
  obtain ⟨r1, k2, hf⟩ := bd1s hf
  refine cVi (rest := []) X (met_M_get k2) gw_X2_X2_get dy_X2_get ⟨⟨rfl, rfl⟩, Nat.le_of_ble_eq_true rfl, Nat.le_of_ble_eq_true rfl⟩ hP hD hS hl.1 rcM rfl rfl ⟨Nat.zero_le _, Nat.zero_le _⟩ (Nat.le_of_ble_eq_true rfl) dX2_callNow_3 (fun H locs hP hD hS => ?_)
  refine lv_iload_n hx hb dX2_callNow_6 rfl (lv_at hl 2 rfl) ?_
  refine bc_ne (tgt := 24) hx hb hf dX2_callNow_7 (by decide) (fun hf => ?_) (fun hf => ?_)
  · refine lv_aload_n hx hb dX2_callNow_24 rfl (lv_at hl 0 rfl) ?_
    refine lv_iload_n hx hb dX2_callNow_25 rfl (lv_at hl 1 rfl) ?_
    refine lv_iconst (v := 3) hx hb dX2_callNow_26 (by decide) ?_
    refine lv_aload_n hx hb dX2_callNow_27 rfl (lv_at hl 0 rfl) ?_
    refine lv_iload_n hx hb dX2_callNow_28 rfl (lv_at hl 1 rfl) ?_
    refine lv_iconst (v := 3) hx hb dX2_callNow_29 (by decide) ?_
    obtain ⟨r3, k4, hf⟩ := bd1s hf
    refine cVi (rest := [.int 3, .int x1, .ref h]) X (met_M_get k4) gw_X2_X2_get dy_X2_get ⟨⟨rfl, rfl⟩, Nat.le_of_ble_eq_true rfl, Nat.le_of_ble_eq_true rfl⟩ hP hD hS hl.1 rcM rfl rfl ⟨Nat.zero_le _, Nat.zero_le _⟩ (Nat.le_of_ble_eq_true rfl) dX2_callNow_30 (fun H locs hP hD hS => ?_)
    refine lv_iconst (v := 1) hx hb dX2_callNow_33 (by decide) ?_
    refine lv_iadd hx hb dX2_callNow_34 ?_
    obtain ⟨c5, k6, hf⟩ := bd1s hf
    refine cVv (rest := []) X (met_M_put k6) gw_X2_X2_put dy_X2_put ⟨⟨rfl, rfl⟩, Nat.le_of_ble_eq_true rfl, Nat.le_of_ble_eq_true rfl⟩ hP hD hS hl.1 rcM rfl rfl ⟨Nat.zero_le _, Nat.zero_le _⟩ (Nat.le_of_ble_eq_true rfl) dX2_callNow_35 (fun H locs hP hD hS => ?_)
    refine lv_aload_n hx hb dX2_callNow_38 rfl (lv_at hl 0 rfl) ?_
    refine lv_iload_n hx hb dX2_callNow_39 rfl (lv_at hl 1 rfl) ?_
    refine lv_iconst (v := 3) hx hb dX2_callNow_40 (by decide) ?_
    obtain ⟨r7, k8, hf⟩ := bd1s hf
    refine cVi (rest := []) X (met_M_get k8) gw_X2_X2_get dy_X2_get ⟨⟨rfl, rfl⟩, Nat.le_of_ble_eq_true rfl, Nat.le_of_ble_eq_true rfl⟩ hP hD hS hl.1 rcM rfl rfl ⟨Nat.zero_le _, Nat.zero_le _⟩ (Nat.le_of_ble_eq_true rfl) dX2_callNow_41 (fun H locs hP hD hS => ?_)
    refine lv_iconst (v := 5) hx hb dX2_callNow_44 (by decide) ?_
    refine bc_ge (tgt := 49) hx hb hf dX2_callNow_45 (by decide) (fun hf => ?_) (fun hf => ?_)
    · refine lv_aload_n hx hb dX2_callNow_49 rfl (lv_at hl 0 rfl) ?_
      refine lv_iload_n hx hb dX2_callNow_50 rfl (lv_at hl 1 rfl) ?_
      refine lv_bipush (v := 6) hx hb dX2_callNow_51 (by decide) ?_
      refine lv_iconst (v := 1) hx hb dX2_callNow_53 (by decide) ?_
      obtain ⟨c9, k10, hf⟩ := bd1s hf
      refine cVv (rest := []) X (met_M_put k10) gw_X2_X2_put dy_X2_put ⟨⟨rfl, rfl⟩, Nat.le_of_ble_eq_true rfl, Nat.le_of_ble_eq_true rfl⟩ hP hD hS hl.1 rcM rfl rfl ⟨Nat.zero_le _, Nat.zero_le _⟩ (Nat.le_of_ble_eq_true rfl) dX2_callNow_54 (fun H locs hP hD hS => ?_)
      refine lv_iconst (v := 1) hx hb dX2_callNow_57 (by decide) ?_
      refine lv_istore_n (lv' := [(3, .int 1), (0, .ref h), (1, .int x1), (2, .int x2)]) hx hb dX2_callNow_58 rfl hl (by decide) rfl (fun ls hl => ?_)
      obtain ⟨c13, k18, hf⟩ := bd1s hf
      have hE15 : ∀ (H : Heap) (locs : List Loc) (ls : Array Slot), va_P g.1 vwCl (mW g h ad sTaped sFault sFaultP sAt sPlace sToken sNumber sWord sText0 sWritten sSort0 sPiled sOpens sWhole sOnce sIsW sDied c13 cIm cTx cTp cPl cNm cVa cTr cAs cLi cSa cHd) H → va_D A (mW g h ad sTaped sFault sFaultP sAt sPlace sToken sNumber sWord sText0 sWritten sSort0 sPiled sOpens sWhole sOnce sIsW sDied c13 cIm cTx cTp cPl cNm cVa cTr cAs cLi cSa cHd) → va_S A s.heap H locs → lv_has ls 4 [(0, .ref h), (1, .int x1)] → W p l e ({ frames := 1, cells := 0, slots := 0, locals := 23 } : Room) s m ([.ref h, .int x1, .int x2] : List Value).toArray below meth c H locs 0 0 (MQ below (QQ g none (mW g h ad sTaped sFault sFaultP sAt sPlace sToken sNumber sWord sText0 sWritten sSort0 sPiled sOpens sWhole sOnce sIsW sDied ncA cIm cTx cTp cPl cNm cVa cTr cAs cLi cSa cHd) A) ([.ref h, .int x1, .int x2] : List Value).toArray s 0 0 A) (F0 m 77 ls []) := by
        intro H locs ls hP hD hS hl
        refine lv_aload_n hx hb dX2_callNow_77 rfl (lv_at hl 0 rfl) ?_
        refine lv_iload_n hx hb dX2_callNow_78 rfl (lv_at hl 1 rfl) ?_
        refine lv_iconst (v := 1) hx hb dX2_callNow_79 (by decide) ?_
        obtain ⟨c19, k20, hf⟩ := bd1s hf
        refine cVv (rest := []) X (met_M_write k20) gw_X2_X2_write dy_X2_write ⟨⟨rfl, rfl⟩, Nat.le_of_ble_eq_true rfl, Nat.le_of_ble_eq_true rfl⟩ hP hD hS hl.1 rcM rfl rfl ⟨Nat.zero_le _, Nat.zero_le _⟩ (Nat.le_of_ble_eq_true rfl) dX2_callNow_80 (fun H locs hP hD hS => ?_)
        cases hf
        exact rV X hP hD hS dX2_callNow_83
      have hL16 : ∀ (n14 : Nat) (v11 : Int32) (c12 : Nat → Int32), M_callNow_L59 φ x1 n14 v11 c12 = some c13 → ∀ (H : Heap) (locs : List Loc) (ls : Array Slot), va_P g.1 vwCl (mW g h ad sTaped sFault sFaultP sAt sPlace sToken sNumber sWord sText0 sWritten sSort0 sPiled sOpens sWhole sOnce sIsW sDied c12 cIm cTx cTp cPl cNm cVa cTr cAs cLi cSa cHd) H → va_D A (mW g h ad sTaped sFault sFaultP sAt sPlace sToken sNumber sWord sText0 sWritten sSort0 sPiled sOpens sWhole sOnce sIsW sDied c12 cIm cTx cTp cPl cNm cVa cTr cAs cLi cSa cHd) → va_S A s.heap H locs → lv_has ls 4 [(0, .ref h), (1, .int x1), (3, .int v11)] → W p l e ({ frames := 1, cells := 0, slots := 0, locals := 23 } : Room) s m ([.ref h, .int x1, .int x2] : List Value).toArray below meth c H locs 0 0 (MQ below (QQ g none (mW g h ad sTaped sFault sFaultP sAt sPlace sToken sNumber sWord sText0 sWritten sSort0 sPiled sOpens sWhole sOnce sIsW sDied ncA cIm cTx cTp cPl cNm cVa cTr cAs cLi cSa cHd) A) ([.ref h, .int x1, .int x2] : List Value).toArray s 0 0 A) (F0 m 59 ls []) := by
        intro n14
        induction n14 with
        | zero =>
          intro v11 c12 hf
          exact nn hf
        | succ n14 ih17 =>
          intro v11 c12 hf H locs ls hP hD hS hl
          rw [M_callNow_L59] at hf
          refine lv_iload_n hx hb dX2_callNow_59 rfl (lv_at hl 2 rfl) ?_
          refine lv_iconst (v := 5) hx hb dX2_callNow_60 (by decide) ?_
          refine bc_gt (tgt := 77) hx hb hf dX2_callNow_61 (by decide) (fun hf => ?_) (fun hf => ?_)
          · cases hf
            exact hE15 _ _ _ hP hD hS (lv_sub hl [0, 1] rfl)
          · refine lv_aload_n hx hb dX2_callNow_64 rfl (lv_at hl 0 rfl) ?_
            refine lv_iload_n hx hb dX2_callNow_65 rfl (lv_at hl 1 rfl) ?_
            refine lv_iload_n hx hb dX2_callNow_66 rfl (lv_at hl 2 rfl) ?_
            refine lv_iconst (v := 0) hx hb dX2_callNow_67 (by decide) ?_
            obtain ⟨c21, k22, hf⟩ := bd1s hf
            refine cVv (rest := []) X (met_M_put k22) gw_X2_X2_put dy_X2_put ⟨⟨rfl, rfl⟩, Nat.le_of_ble_eq_true rfl, Nat.le_of_ble_eq_true rfl⟩ hP hD hS hl.1 rcM rfl rfl ⟨Nat.zero_le _, Nat.zero_le _⟩ (Nat.le_of_ble_eq_true rfl) dX2_callNow_68 (fun H locs hP hD hS => ?_)
            obtain ⟨v23, ev23, hf⟩ := lts hf
            refine lv_iinc (v := v23) (lv' := [(3, .int v23), (0, .ref h), (1, .int x1)]) hx hb dX2_callNow_71 hl (k := 2) rfl (by rw [ev23]; rfl) (by decide) rfl (fun ls hl => ?_)
            refine lv_goto (tgt := 59) hx hb dX2_callNow_74 (by decide) ?_
            exact ih17 _ _ hf _ _ _ hP hD hS (lv_sub hl [1, 2, 0] rfl)
      exact hL16 _ _ _ k18 _ _ _ hP hD hS (lv_sub hl [1, 2, 0] rfl)
    · cases hf
      exact rV X hP hD hS dX2_callNow_48
  · refine lv_aload_n hx hb dX2_callNow_10 rfl (lv_at hl 0 rfl) ?_
    refine lv_iload_n hx hb dX2_callNow_11 rfl (lv_at hl 1 rfl) ?_
    refine lv_iconst (v := 3) hx hb dX2_callNow_12 (by decide) ?_
    refine lv_iconst (v := 0) hx hb dX2_callNow_13 (by decide) ?_
    obtain ⟨c24, k25, hf⟩ := bd1s hf
    refine cVv (rest := []) X (met_M_put k25) gw_X2_X2_put dy_X2_put ⟨⟨rfl, rfl⟩, Nat.le_of_ble_eq_true rfl, Nat.le_of_ble_eq_true rfl⟩ hP hD hS hl.1 rcM rfl rfl ⟨Nat.zero_le _, Nat.zero_le _⟩ (Nat.le_of_ble_eq_true rfl) dX2_callNow_14 (fun H locs hP hD hS => ?_)
    refine lv_aload_n hx hb dX2_callNow_17 rfl (lv_at hl 0 rfl) ?_
    refine lv_iload_n hx hb dX2_callNow_18 rfl (lv_at hl 1 rfl) ?_
    refine lv_iconst (v := 0) hx hb dX2_callNow_19 (by decide) ?_
    obtain ⟨c26, k27, hf⟩ := bd1s hf
    refine cVv (rest := []) X (met_M_write k27) gw_X2_X2_write dy_X2_write ⟨⟨rfl, rfl⟩, Nat.le_of_ble_eq_true rfl, Nat.le_of_ble_eq_true rfl⟩ hP hD hS hl.1 rcM rfl rfl ⟨Nat.zero_le _, Nat.zero_le _⟩ (Nat.le_of_ble_eq_true rfl) dX2_callNow_20 (fun H locs hP hD hS => ?_)
    cases hf
    exact rV X hP hD hS dX2_callNow_23
theorem gw_X2_X2_isAlive : GoodIn lw_all (wsV RX2 343 RX2 yX2_isAlive (ws_ yX2_isAlive cX2_isAlive 2 (some .boolean))) := lw_V q1702 q1704 qs98 q148 q1705
theorem dy_X2_isAlive : Dy yX2_isAlive RX2 1 := by decide +kernel
set_option maxHeartbeats 4000000 in
theorem met_M_canMove {l : Launch} {g : gG} {h : Nat} {ad : Nat → Nat} {sTaped : Int32} {sFault : Int32} {sFaultP : Int32} {sAt : Int32} {sPlace : Int32} {sToken : Int32} {sNumber : Int32} {sWord : Int64} {sText0 : Int32} {sWritten : Int32} {sSort0 : Int32} {sPiled : Int32} {sOpens : Int32} {sWhole : Int32} {sOnce : Int32} {sIsW : Int32} {sDied : Int32} {cA : Nat → Int32} {cIm : Nat → Int32} {cTx : Nat → Int32} {cTp : Nat → Int32} {cPl : Nat → Int32} {cNm : Nat → Int32} {cVa : Nat → Int64} {cTr : Nat → Int32} {cAs : Nat → Int32} {cLi : Nat → Int32} {cSa : Nat → Int32} {cHd : Nat → Int32} {x1 : Int32} {x2 : Int32} {r : Int32} (hf : M_canMove cA x1 x2 = some r) : CC l yX2_canMove (ws_ yX2_canMove cX2_canMove 3 (some .boolean)) ({ frames := 3, cells := 0, slots := 0, locals := 64 } : Room) g [.ref h, .int x1, .int x2] (mW g h ad sTaped sFault sFaultP sAt sPlace sToken sNumber sWord sText0 sWritten sSort0 sPiled sOpens sWhole sOnce sIsW sDied cA cIm cTx cTp cPl cNm cVa cTr cAs cLi cSa cHd) (some (.int r)) (mW g h ad sTaped sFault sFaultP sAt sPlace sToken sNumber sWord sText0 sWritten sSort0 sPiled sOpens sWhole sOnce sIsW sDied cA cIm cTx cTp cPl cNm cVa cTr cAs cLi cSa cHd) 0 0 := by
  refine CC.of RX2 rfl plain_X2 (Nat.le_of_ble_eq_true rfl) (fun p e s m below meth c A ls X hP hD hS hl => ?_)
  have hx := X.1
  have hb := X.2.1
  have hown := X.2.2.2.2.2.1
  have hts := X.2.2.2.2.2.2.1
  have hl : lv_has ls 3 [(0, .ref h), (1, .int x1), (2, .int x2)] := hl
  unfold M_canMove at hf
  refine lv_aload_n hx hb dX2_canMove_0 rfl (lv_at hl 0 rfl) ?_
  refine lv_iload_n hx hb dX2_canMove_1 rfl (lv_at hl 1 rfl) ?_
  obtain ⟨r1, k2, hf⟩ := bd1s hf
  refine cVi (rest := []) X (met_M_isAlive k2) gw_X2_X2_isAlive dy_X2_isAlive ⟨⟨rfl, rfl⟩, Nat.le_of_ble_eq_true rfl, Nat.le_of_ble_eq_true rfl⟩ hP hD hS hl.1 rcM rfl rfl ⟨Nat.zero_le _, Nat.zero_le _⟩ (Nat.le_of_ble_eq_true rfl) dX2_canMove_2 (fun H locs hP hD hS => ?_)
  refine bq_eq (tgt := 41) hx hb hf dX2_canMove_5 (by decide) (fun hf => ?_) (fun hf => ?_)
  · refine lv_iconst (v := 0) hx hb dX2_canMove_41 (by decide) ?_
    cases hf
    exact rZ X rfl hP hD hS dX2_canMove_42
  · refine lv_aload_n hx hb dX2_canMove_8 rfl (lv_at hl 0 rfl) ?_
    refine lv_iload_n hx hb dX2_canMove_9 rfl (lv_at hl 2 rfl) ?_
    obtain ⟨r3, k4, hf⟩ := bd1s hf
    refine cVi (rest := []) X (met_M_isLand k4) gw_X2_X2_isLand dy_X2_isLand ⟨⟨rfl, rfl⟩, Nat.le_of_ble_eq_true rfl, Nat.le_of_ble_eq_true rfl⟩ hP hD hS hl.1 rcM rfl rfl ⟨Nat.zero_le _, Nat.zero_le _⟩ (Nat.le_of_ble_eq_true rfl) dX2_canMove_10 (fun H locs hP hD hS => ?_)
    refine bq_eq (tgt := 41) hx hb hf dX2_canMove_13 (by decide) (fun hf => ?_) (fun hf => ?_)
    · refine lv_iconst (v := 0) hx hb dX2_canMove_41 (by decide) ?_
      cases hf
      exact rZ X rfl hP hD hS dX2_canMove_42
    · refine lv_aload_n hx hb dX2_canMove_16 rfl (lv_at hl 0 rfl) ?_
      refine gM0 X hP dX2_canMove_17 ?_
      refine lv_bipush (v := 88) hx hb dX2_canMove_20 (by decide) ?_
      refine lv_aload_n hx hb dX2_canMove_22 rfl (lv_at hl 0 rfl) ?_
      refine lv_iload_n hx hb dX2_canMove_23 rfl (lv_at hl 1 rfl) ?_
      refine lv_iconst (v := 0) hx hb dX2_canMove_24 (by decide) ?_
      obtain ⟨r5, k6, hf⟩ := bd1s hf
      refine cVi (rest := [.int 88, .ref (ad 0)]) X (met_M_get k6) gw_X2_X2_get dy_X2_get ⟨⟨rfl, rfl⟩, Nat.le_of_ble_eq_true rfl, Nat.le_of_ble_eq_true rfl⟩ hP hD hS hl.1 rcM rfl rfl ⟨Nat.zero_le _, Nat.zero_le _⟩ (Nat.le_of_ble_eq_true rfl) dX2_canMove_25 (fun H locs hP hD hS => ?_)
      refine lv_iadd hx hb dX2_canMove_28 ?_
      obtain ⟨v7, ev7, bv7, hf⟩ := rds hf
      refine lM_cA X hP ev7 bv7 dX2_canMove_29 ?_
      refine lv_iload_n hx hb dX2_canMove_30 rfl (lv_at hl 2 rfl) ?_
      obtain ⟨r8, k9, hf⟩ := bd1s hf
      refine cSi (rest := []) X (met_M_isWith (g := g) k9) gs_X2_X2_isWith dy_X2_isWith ⟨⟨rfl, rfl⟩, Nat.le_of_ble_eq_true rfl, Nat.le_of_ble_eq_true rfl⟩ hP hD hS hl.1 rfl rfl ⟨Nat.zero_le _, Nat.zero_le _⟩ (Nat.le_of_ble_eq_true rfl) dX2_canMove_31 (fun H locs hP hD hS => ?_)
      refine bq_eq (tgt := 41) hx hb hf dX2_canMove_34 (by decide) (fun hf => ?_) (fun hf => ?_)
      · refine lv_iconst (v := 0) hx hb dX2_canMove_41 (by decide) ?_
        cases hf
        exact rZ X rfl hP hD hS dX2_canMove_42
      · refine lv_iconst (v := 1) hx hb dX2_canMove_37 (by decide) ?_
        refine lv_goto (tgt := 42) hx hb dX2_canMove_38 (by decide) ?_
        cases hf
        exact rZ X rfl hP hD hS dX2_canMove_42
set_option maxHeartbeats 4000000 in
theorem met_M_areBeside {l : Launch} {g : gG} {h : Nat} {ad : Nat → Nat} {sTaped : Int32} {sFault : Int32} {sFaultP : Int32} {sAt : Int32} {sPlace : Int32} {sToken : Int32} {sNumber : Int32} {sWord : Int64} {sText0 : Int32} {sWritten : Int32} {sSort0 : Int32} {sPiled : Int32} {sOpens : Int32} {sWhole : Int32} {sOnce : Int32} {sIsW : Int32} {sDied : Int32} {cA : Nat → Int32} {cIm : Nat → Int32} {cTx : Nat → Int32} {cTp : Nat → Int32} {cPl : Nat → Int32} {cNm : Nat → Int32} {cVa : Nat → Int64} {cTr : Nat → Int32} {cAs : Nat → Int32} {cLi : Nat → Int32} {cSa : Nat → Int32} {cHd : Nat → Int32} {x1 : Int32} {x2 : Int32} {r : Int32} (hf : M_areBeside cA x1 x2 = some r) : CC l yX2_areBeside (ws_ yX2_areBeside cX2_areBeside 3 (some .boolean)) ({ frames := 3, cells := 0, slots := 0, locals := 64 } : Room) g [.ref h, .int x1, .int x2] (mW g h ad sTaped sFault sFaultP sAt sPlace sToken sNumber sWord sText0 sWritten sSort0 sPiled sOpens sWhole sOnce sIsW sDied cA cIm cTx cTp cPl cNm cVa cTr cAs cLi cSa cHd) (some (.int r)) (mW g h ad sTaped sFault sFaultP sAt sPlace sToken sNumber sWord sText0 sWritten sSort0 sPiled sOpens sWhole sOnce sIsW sDied cA cIm cTx cTp cPl cNm cVa cTr cAs cLi cSa cHd) 0 0 := by
  refine CC.of RX2 rfl plain_X2 (Nat.le_of_ble_eq_true rfl) (fun p e s m below meth c A ls X hP hD hS hl => ?_)
  have hx := X.1
  have hb := X.2.1
  have hown := X.2.2.2.2.2.1
  have hts := X.2.2.2.2.2.2.1
  have hl : lv_has ls 3 [(0, .ref h), (1, .int x1), (2, .int x2)] := hl
  unfold M_areBeside at hf
  refine lv_aload_n hx hb dX2_areBeside_0 rfl (lv_at hl 0 rfl) ?_
  refine lv_iload_n hx hb dX2_areBeside_1 rfl (lv_at hl 1 rfl) ?_
  obtain ⟨r1, k2, hf⟩ := bd1s hf
  refine cVi (rest := []) X (met_M_isOutlaw k2) gw_X2_X2_isOutlaw dy_X2_isOutlaw ⟨⟨rfl, rfl⟩, Nat.le_of_ble_eq_true rfl, Nat.le_of_ble_eq_true rfl⟩ hP hD hS hl.1 rcM rfl rfl ⟨Nat.zero_le _, Nat.zero_le _⟩ (Nat.le_of_ble_eq_true rfl) dX2_areBeside_2 (fun H locs hP hD hS => ?_)
  refine bq_eq (tgt := 40) hx hb hf dX2_areBeside_5 (by decide) (fun hf => ?_) (fun hf => ?_)
  · refine lv_iconst (v := 0) hx hb dX2_areBeside_40 (by decide) ?_
    cases hf
    exact rZ X rfl hP hD hS dX2_areBeside_41
  · refine lv_aload_n hx hb dX2_areBeside_8 rfl (lv_at hl 0 rfl) ?_
    refine lv_iload_n hx hb dX2_areBeside_9 rfl (lv_at hl 2 rfl) ?_
    obtain ⟨r3, k4, hf⟩ := bd1s hf
    refine cVi (rest := []) X (met_M_isAlive k4) gw_X2_X2_isAlive dy_X2_isAlive ⟨⟨rfl, rfl⟩, Nat.le_of_ble_eq_true rfl, Nat.le_of_ble_eq_true rfl⟩ hP hD hS hl.1 rcM rfl rfl ⟨Nat.zero_le _, Nat.zero_le _⟩ (Nat.le_of_ble_eq_true rfl) dX2_areBeside_10 (fun H locs hP hD hS => ?_)
    refine bq_eq (tgt := 40) hx hb hf dX2_areBeside_13 (by decide) (fun hf => ?_) (fun hf => ?_)
    · refine lv_iconst (v := 0) hx hb dX2_areBeside_40 (by decide) ?_
      cases hf
      exact rZ X rfl hP hD hS dX2_areBeside_41
    · refine lv_iload_n hx hb dX2_areBeside_16 rfl (lv_at hl 1 rfl) ?_
      refine lv_iload_n hx hb dX2_areBeside_17 rfl (lv_at hl 2 rfl) ?_
      refine bc_eq (tgt := 40) hx hb hf dX2_areBeside_18 (by decide) (fun hf => ?_) (fun hf => ?_)
      · refine lv_iconst (v := 0) hx hb dX2_areBeside_40 (by decide) ?_
        cases hf
        exact rZ X rfl hP hD hS dX2_areBeside_41
      · refine lv_aload_n hx hb dX2_areBeside_21 rfl (lv_at hl 0 rfl) ?_
        refine lv_iload_n hx hb dX2_areBeside_22 rfl (lv_at hl 1 rfl) ?_
        refine lv_iconst (v := 0) hx hb dX2_areBeside_23 (by decide) ?_
        obtain ⟨r5, k6, hf⟩ := bd1s hf
        refine cVi (rest := []) X (met_M_get k6) gw_X2_X2_get dy_X2_get ⟨⟨rfl, rfl⟩, Nat.le_of_ble_eq_true rfl, Nat.le_of_ble_eq_true rfl⟩ hP hD hS hl.1 rcM rfl rfl ⟨Nat.zero_le _, Nat.zero_le _⟩ (Nat.le_of_ble_eq_true rfl) dX2_areBeside_24 (fun H locs hP hD hS => ?_)
        refine lv_aload_n hx hb dX2_areBeside_27 rfl (lv_at hl 0 rfl) ?_
        refine lv_iload_n hx hb dX2_areBeside_28 rfl (lv_at hl 2 rfl) ?_
        refine lv_iconst (v := 0) hx hb dX2_areBeside_29 (by decide) ?_
        obtain ⟨r7, k8, hf⟩ := bd1s hf
        refine cVi (rest := [.int r5]) X (met_M_get k8) gw_X2_X2_get dy_X2_get ⟨⟨rfl, rfl⟩, Nat.le_of_ble_eq_true rfl, Nat.le_of_ble_eq_true rfl⟩ hP hD hS hl.1 rcM rfl rfl ⟨Nat.zero_le _, Nat.zero_le _⟩ (Nat.le_of_ble_eq_true rfl) dX2_areBeside_30 (fun H locs hP hD hS => ?_)
        refine bc_ne (tgt := 40) hx hb hf dX2_areBeside_33 (by decide) (fun hf => ?_) (fun hf => ?_)
        · refine lv_iconst (v := 0) hx hb dX2_areBeside_40 (by decide) ?_
          cases hf
          exact rZ X rfl hP hD hS dX2_areBeside_41
        · refine lv_iconst (v := 1) hx hb dX2_areBeside_36 (by decide) ?_
          refine lv_goto (tgt := 41) hx hb dX2_areBeside_37 (by decide) ?_
          cases hf
          exact rZ X rfl hP hD hS dX2_areBeside_41
theorem gw_X2_X2_crowdOf : GoodIn lw_all (wsV RX2 297 RX2 yX2_crowdOf (ws_ yX2_crowdOf cX2_crowdOf 5 (some .int))) := lw_V q1758 q1760 qs110 q148 q1761
theorem dy_X2_crowdOf : Dy yX2_crowdOf RX2 2 := by decide +kernel
set_option maxHeartbeats 4000000 in
theorem met_M_nameIn {l : Launch} {g : gG} {h : Nat} {ad : Nat → Nat} {sTaped : Int32} {sFault : Int32} {sFaultP : Int32} {sAt : Int32} {sPlace : Int32} {sToken : Int32} {sNumber : Int32} {sWord : Int64} {sText0 : Int32} {sWritten : Int32} {sSort0 : Int32} {sPiled : Int32} {sOpens : Int32} {sWhole : Int32} {sOnce : Int32} {sIsW : Int32} {sDied : Int32} {cA : Nat → Int32} {cIm : Nat → Int32} {cTx : Nat → Int32} {cTp : Nat → Int32} {cPl : Nat → Int32} {cNm : Nat → Int32} {cVa : Nat → Int64} {cTr : Nat → Int32} {cAs : Nat → Int32} {cLi : Nat → Int32} {cSa : Nat → Int32} {cHd : Nat → Int32} {x1 : Int32} {x2 : Int32} {ncNm : Nat → Int32} {φ : Nat} (hf : M_nameIn φ cA cNm x1 x2 = some ncNm) : CC l yX2_nameIn (ws_ yX2_nameIn cX2_nameIn 3 none) ({ frames := 2, cells := 0, slots := 0, locals := 46 } : Room) g [.ref h, .int x1, .int x2] (mW g h ad sTaped sFault sFaultP sAt sPlace sToken sNumber sWord sText0 sWritten sSort0 sPiled sOpens sWhole sOnce sIsW sDied cA cIm cTx cTp cPl cNm cVa cTr cAs cLi cSa cHd) none (mW g h ad sTaped sFault sFaultP sAt sPlace sToken sNumber sWord sText0 sWritten sSort0 sPiled sOpens sWhole sOnce sIsW sDied cA cIm cTx cTp cPl ncNm cVa cTr cAs cLi cSa cHd) 0 0 := by
  refine CC.of RX2 rfl plain_X2 (Nat.le_of_ble_eq_true rfl) (fun p e s m below meth c A ls X hP hD hS hl => ?_)
  have hx := X.1
  have hb := X.2.1
  have hown := X.2.2.2.2.2.1
  have hts := X.2.2.2.2.2.2.1
  have hl : lv_has ls 3 [(0, .ref h), (1, .int x1), (2, .int x2)] := hl
  unfold M_nameIn at hf
  refine lv_aload_n hx hb dX2_nameIn_0 rfl (lv_at hl 0 rfl) ?_
  refine gM20 X hP dX2_nameIn_1 ?_
  refine lv_iconst (v := 0) hx hb dX2_nameIn_4 (by decide) ?_
  refine lv_aload_n hx hb dX2_nameIn_5 rfl (lv_at hl 0 rfl) ?_
  refine gM0 X hP dX2_nameIn_6 ?_
  refine lv_bipush (v := 10) hx hb dX2_nameIn_9 (by decide) ?_
  obtain ⟨v1, ev1, bv1, hf⟩ := rds hf
  refine lM_cA X hP ev1 bv1 dX2_nameIn_11 ?_
  obtain ⟨c2, ec2, bc2, hf⟩ := wrs hf
  refine sM_cNm X hP hD hS ec2 bc2 dX2_nameIn_12 (fun H locs hP hD hS => ?_)
  refine lv_aload_n hx hb dX2_nameIn_13 rfl (lv_at hl 0 rfl) ?_
  refine gM20 X hP dX2_nameIn_14 ?_
  refine lv_iconst (v := 1) hx hb dX2_nameIn_17 (by decide) ?_
  refine lv_iload_n hx hb dX2_nameIn_18 rfl (lv_at hl 1 rfl) ?_
  obtain ⟨c3, ec3, bc3, hf⟩ := wrs hf
  refine sM_cNm X hP hD hS ec3 bc3 dX2_nameIn_19 (fun H locs hP hD hS => ?_)
  refine lv_aload_n hx hb dX2_nameIn_20 rfl (lv_at hl 0 rfl) ?_
  refine gM20 X hP dX2_nameIn_21 ?_
  refine lv_iconst (v := 2) hx hb dX2_nameIn_24 (by decide) ?_
  refine lv_aload_n hx hb dX2_nameIn_25 rfl (lv_at hl 0 rfl) ?_
  refine lv_iload_n hx hb dX2_nameIn_26 rfl (lv_at hl 1 rfl) ?_
  refine lv_bipush (v := 7) hx hb dX2_nameIn_27 (by decide) ?_
  obtain ⟨r4, k5, hf⟩ := bd1s hf
  refine cVi (rest := [.int 2, .ref (ad 5)]) X (met_M_get k5) gw_X2_X2_get dy_X2_get ⟨⟨rfl, rfl⟩, Nat.le_of_ble_eq_true rfl, Nat.le_of_ble_eq_true rfl⟩ hP hD hS hl.1 rcM rfl rfl ⟨Nat.zero_le _, Nat.zero_le _⟩ (Nat.le_of_ble_eq_true rfl) dX2_nameIn_29 (fun H locs hP hD hS => ?_)
  obtain ⟨c6, ec6, bc6, hf⟩ := wrs hf
  refine sM_cNm X hP hD hS ec6 bc6 dX2_nameIn_32 (fun H locs hP hD hS => ?_)
  refine lv_aload_n hx hb dX2_nameIn_33 rfl (lv_at hl 0 rfl) ?_
  refine gM20 X hP dX2_nameIn_34 ?_
  refine lv_iconst (v := 3) hx hb dX2_nameIn_37 (by decide) ?_
  refine lv_iload_n hx hb dX2_nameIn_38 rfl (lv_at hl 2 rfl) ?_
  obtain ⟨c7, ec7, bc7, hf⟩ := wrs hf
  refine sM_cNm X hP hD hS ec7 bc7 dX2_nameIn_39 (fun H locs hP hD hS => ?_)
  refine lv_aload_n hx hb dX2_nameIn_40 rfl (lv_at hl 0 rfl) ?_
  refine gM20 X hP dX2_nameIn_41 ?_
  refine lv_iconst (v := 4) hx hb dX2_nameIn_44 (by decide) ?_
  refine lv_aload_n hx hb dX2_nameIn_45 rfl (lv_at hl 0 rfl) ?_
  refine gM0 X hP dX2_nameIn_46 ?_
  refine lv_bipush (v := 80) hx hb dX2_nameIn_49 (by decide) ?_
  refine lv_iload_n hx hb dX2_nameIn_51 rfl (lv_at hl 2 rfl) ?_
  refine lv_iadd hx hb dX2_nameIn_52 ?_
  obtain ⟨v8, ev8, bv8, hf⟩ := rds hf
  refine lM_cA X hP ev8 bv8 dX2_nameIn_53 ?_
  obtain ⟨c9, ec9, bc9, hf⟩ := wrs hf
  refine sM_cNm X hP hD hS ec9 bc9 dX2_nameIn_54 (fun H locs hP hD hS => ?_)
  refine lv_aload_n hx hb dX2_nameIn_55 rfl (lv_at hl 0 rfl) ?_
  refine gM20 X hP dX2_nameIn_56 ?_
  refine lv_iconst (v := 5) hx hb dX2_nameIn_59 (by decide) ?_
  refine lv_aload_n hx hb dX2_nameIn_60 rfl (lv_at hl 0 rfl) ?_
  refine lv_iload_n hx hb dX2_nameIn_61 rfl (lv_at hl 1 rfl) ?_
  refine lv_iconst (v := 4) hx hb dX2_nameIn_62 (by decide) ?_
  obtain ⟨r10, k11, hf⟩ := bd1s hf
  refine cVi (rest := [.int 5, .ref (ad 5)]) X (met_M_get k11) gw_X2_X2_get dy_X2_get ⟨⟨rfl, rfl⟩, Nat.le_of_ble_eq_true rfl, Nat.le_of_ble_eq_true rfl⟩ hP hD hS hl.1 rcM rfl rfl ⟨Nat.zero_le _, Nat.zero_le _⟩ (Nat.le_of_ble_eq_true rfl) dX2_nameIn_63 (fun H locs hP hD hS => ?_)
  obtain ⟨c12, ec12, bc12, hf⟩ := wrs hf
  refine sM_cNm X hP hD hS ec12 bc12 dX2_nameIn_66 (fun H locs hP hD hS => ?_)
  refine lv_aload_n hx hb dX2_nameIn_67 rfl (lv_at hl 0 rfl) ?_
  refine gM20 X hP dX2_nameIn_68 ?_
  refine lv_bipush (v := 6) hx hb dX2_nameIn_71 (by decide) ?_
  refine lv_aload_n hx hb dX2_nameIn_73 rfl (lv_at hl 0 rfl) ?_
  refine lv_iload_n hx hb dX2_nameIn_74 rfl (lv_at hl 1 rfl) ?_
  refine lv_iconst (v := 5) hx hb dX2_nameIn_75 (by decide) ?_
  obtain ⟨r13, k14, hf⟩ := bd1s hf
  refine cVi (rest := [.int 6, .ref (ad 5)]) X (met_M_get k14) gw_X2_X2_get dy_X2_get ⟨⟨rfl, rfl⟩, Nat.le_of_ble_eq_true rfl, Nat.le_of_ble_eq_true rfl⟩ hP hD hS hl.1 rcM rfl rfl ⟨Nat.zero_le _, Nat.zero_le _⟩ (Nat.le_of_ble_eq_true rfl) dX2_nameIn_76 (fun H locs hP hD hS => ?_)
  obtain ⟨c15, ec15, bc15, hf⟩ := wrs hf
  refine sM_cNm X hP hD hS ec15 bc15 dX2_nameIn_79 (fun H locs hP hD hS => ?_)
  refine lv_aload_n hx hb dX2_nameIn_80 rfl (lv_at hl 0 rfl) ?_
  refine gM20 X hP dX2_nameIn_81 ?_
  refine lv_bipush (v := 7) hx hb dX2_nameIn_84 (by decide) ?_
  refine lv_aload_n hx hb dX2_nameIn_86 rfl (lv_at hl 0 rfl) ?_
  refine lv_iload_n hx hb dX2_nameIn_87 rfl (lv_at hl 1 rfl) ?_
  refine lv_iconst (v := 1) hx hb dX2_nameIn_88 (by decide) ?_
  obtain ⟨r16, k17, hf⟩ := bd1s hf
  refine cVi (rest := [.int 7, .ref (ad 5)]) X (met_M_get k17) gw_X2_X2_get dy_X2_get ⟨⟨rfl, rfl⟩, Nat.le_of_ble_eq_true rfl, Nat.le_of_ble_eq_true rfl⟩ hP hD hS hl.1 rcM rfl rfl ⟨Nat.zero_le _, Nat.zero_le _⟩ (Nat.le_of_ble_eq_true rfl) dX2_nameIn_89 (fun H locs hP hD hS => ?_)
  obtain ⟨c18, ec18, bc18, hf⟩ := wrs hf
  refine sM_cNm X hP hD hS ec18 bc18 dX2_nameIn_92 (fun H locs hP hD hS => ?_)
  refine lv_aload_n hx hb dX2_nameIn_93 rfl (lv_at hl 0 rfl) ?_
  refine gM20 X hP dX2_nameIn_94 ?_
  refine lv_bipush (v := 8) hx hb dX2_nameIn_97 (by decide) ?_
  refine lv_aload_n hx hb dX2_nameIn_99 rfl (lv_at hl 0 rfl) ?_
  refine lv_iload_n hx hb dX2_nameIn_100 rfl (lv_at hl 1 rfl) ?_
  refine lv_iconst (v := 2) hx hb dX2_nameIn_101 (by decide) ?_
  obtain ⟨r19, k20, hf⟩ := bd1s hf
  refine cVi (rest := [.int 8, .ref (ad 5)]) X (met_M_get k20) gw_X2_X2_get dy_X2_get ⟨⟨rfl, rfl⟩, Nat.le_of_ble_eq_true rfl, Nat.le_of_ble_eq_true rfl⟩ hP hD hS hl.1 rcM rfl rfl ⟨Nat.zero_le _, Nat.zero_le _⟩ (Nat.le_of_ble_eq_true rfl) dX2_nameIn_102 (fun H locs hP hD hS => ?_)
  obtain ⟨c21, ec21, bc21, hf⟩ := wrs hf
  refine sM_cNm X hP hD hS ec21 bc21 dX2_nameIn_105 (fun H locs hP hD hS => ?_)
  refine lv_aload_n hx hb dX2_nameIn_106 rfl (lv_at hl 0 rfl) ?_
  refine gM20 X hP dX2_nameIn_107 ?_
  refine lv_bipush (v := 9) hx hb dX2_nameIn_110 (by decide) ?_
  refine lv_aload_n hx hb dX2_nameIn_112 rfl (lv_at hl 0 rfl) ?_
  refine lv_iload_n hx hb dX2_nameIn_113 rfl (lv_at hl 1 rfl) ?_
  refine lv_iload_n hx hb dX2_nameIn_114 rfl (lv_at hl 2 rfl) ?_
  obtain ⟨r22, k23, hf⟩ := bd1s hf
  refine cVi (rest := [.int 9, .ref (ad 5)]) X (met_M_crowdOf k23) gw_X2_X2_crowdOf dy_X2_crowdOf ⟨⟨rfl, rfl⟩, Nat.le_of_ble_eq_true rfl, Nat.le_of_ble_eq_true rfl⟩ hP hD hS hl.1 rcM rfl rfl ⟨Nat.zero_le _, Nat.zero_le _⟩ (Nat.le_of_ble_eq_true rfl) dX2_nameIn_115 (fun H locs hP hD hS => ?_)
  obtain ⟨c24, ec24, bc24, hf⟩ := wrs hf
  refine sM_cNm X hP hD hS ec24 bc24 dX2_nameIn_118 (fun H locs hP hD hS => ?_)
  cases hf
  exact rV X hP hD hS dX2_nameIn_119
theorem gw_X2_X2_fearOf : GoodIn lw_all (wsV RX2 272 RX2 yX2_fearOf (ws_ yX2_fearOf cX2_fearOf 3 (some .long))) := lw_V q1777 q1779 qs114 q148 q1780
theorem dy_X2_fearOf : Dy yX2_fearOf RX2 1 := by decide +kernel
set_option maxHeartbeats 4000000 in
theorem met_M_prefixed {l : Launch} {g : gG} {h : Nat} {ad : Nat → Nat} {sTaped : Int32} {sFault : Int32} {sFaultP : Int32} {sAt : Int32} {sPlace : Int32} {sToken : Int32} {sNumber : Int32} {sWord : Int64} {sText0 : Int32} {sWritten : Int32} {sSort0 : Int32} {sPiled : Int32} {sOpens : Int32} {sWhole : Int32} {sOnce : Int32} {sIsW : Int32} {sDied : Int32} {cA : Nat → Int32} {cIm : Nat → Int32} {cTx : Nat → Int32} {cTp : Nat → Int32} {cPl : Nat → Int32} {cNm : Nat → Int32} {cVa : Nat → Int64} {cTr : Nat → Int32} {cAs : Nat → Int32} {cLi : Nat → Int32} {cSa : Nat → Int32} {cHd : Nat → Int32} {x1 : Int32} {x2 : Int64} {r : Int64} {φ : Nat} (hf : M_prefixed φ cA x1 x2 = some r) : CC l yX2_prefixed (ws_ yX2_prefixed cX2_prefixed 4 (some .long)) ({ frames := 2, cells := 0, slots := 0, locals := 44 } : Room) g [.ref h, .int x1, .long x2] (mW g h ad sTaped sFault sFaultP sAt sPlace sToken sNumber sWord sText0 sWritten sSort0 sPiled sOpens sWhole sOnce sIsW sDied cA cIm cTx cTp cPl cNm cVa cTr cAs cLi cSa cHd) (some (.long r)) (mW g h ad sTaped sFault sFaultP sAt sPlace sToken sNumber sWord sText0 sWritten sSort0 sPiled sOpens sWhole sOnce sIsW sDied cA cIm cTx cTp cPl cNm cVa cTr cAs cLi cSa cHd) 0 0 := by
  refine CC.of RX2 rfl plain_X2 (Nat.le_of_ble_eq_true rfl) (fun p e s m below meth c A ls X hP hD hS hl => ?_)
  have hx := X.1
  have hb := X.2.1
  have hown := X.2.2.2.2.2.1
  have hts := X.2.2.2.2.2.2.1
  have hl : lv_has ls 4 [(0, .ref h), (1, .int x1), (2, .long x2)] := hl
  unfold M_prefixed at hf
  refine lv_iload_n hx hb dX2_prefixed_0 rfl (lv_at hl 1 rfl) ?_
  refine lv_iconst (v := 5) hx hb dX2_prefixed_1 (by decide) ?_
  refine bc_ne (tgt := 10) hx hb hf dX2_prefixed_2 (by decide) (fun hf => ?_) (fun hf => ?_)
  · refine lv_iload_n hx hb dX2_prefixed_10 rfl (lv_at hl 1 rfl) ?_
    refine lv_iconst (v := 2) hx hb dX2_prefixed_11 (by decide) ?_
    refine bc_ne (tgt := 34) hx hb hf dX2_prefixed_12 (by decide) (fun hf => ?_) (fun hf => ?_)
    · refine lv_aload_n hx hb dX2_prefixed_34 rfl (lv_at hl 0 rfl) ?_
      refine lv_lload_n hx hb dX2_prefixed_35 rfl (lv_at hl 2 rfl) ?_
      obtain ⟨r1, k2, hf⟩ := bd1s hf
      refine cVl (rest := []) X (met_M_fearOf k2) gw_X2_X2_fearOf dy_X2_fearOf ⟨⟨rfl, rfl⟩, Nat.le_of_ble_eq_true rfl, Nat.le_of_ble_eq_true rfl⟩ hP hD hS hl.1 rcM rfl rfl ⟨Nat.zero_le _, Nat.zero_le _⟩ (Nat.le_of_ble_eq_true rfl) dX2_prefixed_36 (fun H locs hP hD hS => ?_)
      cases hf
      exact rL X hP hD hS dX2_prefixed_39
    · refine lv_lload_n hx hb dX2_prefixed_15 rfl (lv_at hl 2 rfl) ?_
      refine lv_lconst (v := 0) hx hb dX2_prefixed_16 (by decide) ?_
      refine W.lcmp hx hb dX2_prefixed_17 ?_
      refine bq_ge (tgt := 26) hx hb hf dX2_prefixed_18 (by decide) (fun hf => ?_) (fun hf => ?_)
      · refine lv_lload_n hx hb dX2_prefixed_26 rfl (lv_at hl 2 rfl) ?_
        obtain ⟨r3, k4, hf⟩ := bd1s hf
        refine cSi (rest := []) X (met_M_bits (g := g) k4) gs_X2_X2_bits dy_X2_bits ⟨⟨rfl, rfl⟩, Nat.le_of_ble_eq_true rfl, Nat.le_of_ble_eq_true rfl⟩ hP hD hS hl.1 rfl rfl ⟨Nat.zero_le _, Nat.zero_le _⟩ (Nat.le_of_ble_eq_true rfl) dX2_prefixed_27 (fun H locs hP hD hS => ?_)
        refine lv_i2l hx hb dX2_prefixed_30 rfl ?_
        refine lv_goto (tgt := 39) hx hb dX2_prefixed_31 (by decide) ?_
        cases hf
        exact rL X hP hD hS dX2_prefixed_39
      · refine lv_lload_n hx hb dX2_prefixed_21 rfl (lv_at hl 2 rfl) ?_
        refine lv_lneg hx hb dX2_prefixed_22 ?_
        refine lv_goto (tgt := 27) hx hb dX2_prefixed_23 (by decide) ?_
        obtain ⟨r5, k6, hf⟩ := bd1s hf
        refine cSi (rest := []) X (met_M_bits (g := g) k6) gs_X2_X2_bits dy_X2_bits ⟨⟨rfl, rfl⟩, Nat.le_of_ble_eq_true rfl, Nat.le_of_ble_eq_true rfl⟩ hP hD hS hl.1 rfl rfl ⟨Nat.zero_le _, Nat.zero_le _⟩ (Nat.le_of_ble_eq_true rfl) dX2_prefixed_27 (fun H locs hP hD hS => ?_)
        refine lv_i2l hx hb dX2_prefixed_30 rfl ?_
        refine lv_goto (tgt := 39) hx hb dX2_prefixed_31 (by decide) ?_
        cases hf
        exact rL X hP hD hS dX2_prefixed_39
  · refine lv_lload_n hx hb dX2_prefixed_5 rfl (lv_at hl 2 rfl) ?_
    refine lv_lneg hx hb dX2_prefixed_6 ?_
    refine lv_goto (tgt := 39) hx hb dX2_prefixed_7 (by decide) ?_
    cases hf
    exact rL X hP hD hS dX2_prefixed_39
theorem gs_X2_X2_clip : GoodIn lw_all (va_wsS RX2 264 yX2_clip (ws_ yX2_clip cX2_clip 2 (some .long))) := lw_S q1784 q1785 q148 q1786
theorem dy_X2_clip : Dy yX2_clip RX2 1 := by decide +kernel
set_option maxHeartbeats 4000000 in
theorem met_M_two {l : Launch} {g : gG} {x0 : Int32} {x1 : Int64} {x3 : Int64} {r : Int64} (hf : M_two x0 x1 x3 = some r) : CC l yX2_two (ws_ yX2_two cX2_two 5 (some .long)) ({ frames := 1, cells := 0, slots := 0, locals := 21 } : Room) g [.int x0, .long x1, .long x3] ([] : va_W) (some (.long r)) ([] : va_W) 0 0 := by
  refine CC.of RX2 rfl plain_X2 (Nat.le_of_ble_eq_true rfl) (fun p e s m below meth c A ls X hP hD hS hl => ?_)
  have hx := X.1
  have hb := X.2.1
  have hown := X.2.2.2.2.2.1
  have hts := X.2.2.2.2.2.2.1
  have hl : lv_has ls 5 [(0, .int x0), (1, .long x1), (3, .long x3)] := hl
  unfold M_two at hf
  refine lv_iload_n hx hb dX2_two_0 rfl (lv_at hl 0 rfl) ?_
  refine swc hf (fun q hf => ?_) (fun q0 hf => ?_)
  · refine lv_tableOut (tgt := 49) hx hb dX2_two_1 (Or.inl q) (by decide) ?_
    refine lv_lload_n hx hb dX2_two_49 rfl (lv_at hl 2 rfl) ?_
    refine lv_lconst (v := 0) hx hb dX2_two_50 (by decide) ?_
    refine W.lcmp hx hb dX2_two_51 ?_
    refine bq_ne (tgt := 59) hx hb hf dX2_two_52 (by decide) (fun hf => ?_) (fun hf => ?_)
    · refine lv_lload_n hx hb dX2_two_59 rfl (lv_at hl 1 rfl) ?_
      refine lv_lload_n hx hb dX2_two_60 rfl (lv_at hl 2 rfl) ?_
      obtain ⟨z1, hf⟩ := nzLs hf
      refine lv_ldiv hx hb dX2_two_61 z1 ?_
      obtain ⟨r2, k3, hf⟩ := bd1s hf
      refine cSl (rest := []) X (met_M_clip (g := g) k3) gs_X2_X2_clip dy_X2_clip ⟨⟨rfl, rfl⟩, Nat.le_of_ble_eq_true rfl, Nat.le_of_ble_eq_true rfl⟩ hP hD hS hl.1 rfl rfl ⟨Nat.zero_le _, Nat.zero_le _⟩ (Nat.le_of_ble_eq_true rfl) dX2_two_62 (fun H locs hP hD hS => ?_)
      cases hf
      exact rL X hP hD hS dX2_two_65
    · refine lv_lconst (v := 0) hx hb dX2_two_55 (by decide) ?_
      refine lv_goto (tgt := 65) hx hb dX2_two_56 (by decide) ?_
      cases hf
      exact rL X hP hD hS dX2_two_65
  refine swc hf (fun q hf => ?_) (fun q1 hf => ?_)
  · refine lv_tableOut (tgt := 49) hx hb dX2_two_1 (Or.inr q) (by decide) ?_
    refine lv_lload_n hx hb dX2_two_49 rfl (lv_at hl 2 rfl) ?_
    refine lv_lconst (v := 0) hx hb dX2_two_50 (by decide) ?_
    refine W.lcmp hx hb dX2_two_51 ?_
    refine bq_ne (tgt := 59) hx hb hf dX2_two_52 (by decide) (fun hf => ?_) (fun hf => ?_)
    · refine lv_lload_n hx hb dX2_two_59 rfl (lv_at hl 1 rfl) ?_
      refine lv_lload_n hx hb dX2_two_60 rfl (lv_at hl 2 rfl) ?_
      obtain ⟨z4, hf⟩ := nzLs hf
      refine lv_ldiv hx hb dX2_two_61 z4 ?_
      obtain ⟨r5, k6, hf⟩ := bd1s hf
      refine cSl (rest := []) X (met_M_clip (g := g) k6) gs_X2_X2_clip dy_X2_clip ⟨⟨rfl, rfl⟩, Nat.le_of_ble_eq_true rfl, Nat.le_of_ble_eq_true rfl⟩ hP hD hS hl.1 rfl rfl ⟨Nat.zero_le _, Nat.zero_le _⟩ (Nat.le_of_ble_eq_true rfl) dX2_two_62 (fun H locs hP hD hS => ?_)
      cases hf
      exact rL X hP hD hS dX2_two_65
    · refine lv_lconst (v := 0) hx hb dX2_two_55 (by decide) ?_
      refine lv_goto (tgt := 65) hx hb dX2_two_56 (by decide) ?_
      cases hf
      exact rL X hP hD hS dX2_two_65
  refine swc hf (fun q hf => ?_) (fun q2 hf => ?_)
  · refine lv_tableIn (off := 27) (tgt := 28) hx hb dX2_two_1 q0 q1 (by rw [q]; rfl) (by decide) ?_
    refine lv_lload_n hx hb dX2_two_28 rfl (lv_at hl 1 rfl) ?_
    refine lv_lload_n hx hb dX2_two_29 rfl (lv_at hl 2 rfl) ?_
    refine lv_ladd hx hb dX2_two_30 ?_
    obtain ⟨r7, k8, hf⟩ := bd1s hf
    refine cSl (rest := []) X (met_M_clip (g := g) k8) gs_X2_X2_clip dy_X2_clip ⟨⟨rfl, rfl⟩, Nat.le_of_ble_eq_true rfl, Nat.le_of_ble_eq_true rfl⟩ hP hD hS hl.1 rfl rfl ⟨Nat.zero_le _, Nat.zero_le _⟩ (Nat.le_of_ble_eq_true rfl) dX2_two_31 (fun H locs hP hD hS => ?_)
    cases hf
    exact rL X hP hD hS dX2_two_34
  refine swc hf (fun q hf => ?_) (fun q2 hf => ?_)
  · refine lv_tableIn (off := 34) (tgt := 35) hx hb dX2_two_1 q0 q1 (by rw [q]; rfl) (by decide) ?_
    refine lv_lload_n hx hb dX2_two_35 rfl (lv_at hl 1 rfl) ?_
    refine lv_lload_n hx hb dX2_two_36 rfl (lv_at hl 2 rfl) ?_
    refine lv_lsub hx hb dX2_two_37 ?_
    obtain ⟨r9, k10, hf⟩ := bd1s hf
    refine cSl (rest := []) X (met_M_clip (g := g) k10) gs_X2_X2_clip dy_X2_clip ⟨⟨rfl, rfl⟩, Nat.le_of_ble_eq_true rfl, Nat.le_of_ble_eq_true rfl⟩ hP hD hS hl.1 rfl rfl ⟨Nat.zero_le _, Nat.zero_le _⟩ (Nat.le_of_ble_eq_true rfl) dX2_two_38 (fun H locs hP hD hS => ?_)
    cases hf
    exact rL X hP hD hS dX2_two_41
  refine swc hf (fun q hf => ?_) (fun q2 hf => ?_)
  · refine lv_tableIn (off := 41) (tgt := 42) hx hb dX2_two_1 q0 q1 (by rw [q]; rfl) (by decide) ?_
    refine lv_lload_n hx hb dX2_two_42 rfl (lv_at hl 1 rfl) ?_
    refine lv_lload_n hx hb dX2_two_43 rfl (lv_at hl 2 rfl) ?_
    refine lv_lmul hx hb dX2_two_44 ?_
    obtain ⟨r11, k12, hf⟩ := bd1s hf
    refine cSl (rest := []) X (met_M_clip (g := g) k12) gs_X2_X2_clip dy_X2_clip ⟨⟨rfl, rfl⟩, Nat.le_of_ble_eq_true rfl, Nat.le_of_ble_eq_true rfl⟩ hP hD hS hl.1 rfl rfl ⟨Nat.zero_le _, Nat.zero_le _⟩ (Nat.le_of_ble_eq_true rfl) dX2_two_45 (fun H locs hP hD hS => ?_)
    cases hf
    exact rL X hP hD hS dX2_two_48
  exact nn hf
theorem gw_X2_X2_anew : GoodIn lw_all (wsV RX2 310 RX2 yX2_anew (ws_ yX2_anew cX2_anew 1 none)) := lw_V q1802 q1804 qs116 q148 q1805
theorem dy_X2_anew : Dy yX2_anew RX2 0 := by decide +kernel
set_option maxHeartbeats 4000000 in
theorem met_M_drawn {l : Launch} {g : gG} {h : Nat} {ad : Nat → Nat} {sTaped : Int32} {sFault : Int32} {sFaultP : Int32} {sAt : Int32} {sPlace : Int32} {sToken : Int32} {sNumber : Int32} {sWord : Int64} {sText0 : Int32} {sWritten : Int32} {sSort0 : Int32} {sPiled : Int32} {sOpens : Int32} {sWhole : Int32} {sOnce : Int32} {sIsW : Int32} {sDied : Int32} {cA : Nat → Int32} {cIm : Nat → Int32} {cTx : Nat → Int32} {cTp : Nat → Int32} {cPl : Nat → Int32} {cNm : Nat → Int32} {cVa : Nat → Int64} {cTr : Nat → Int32} {cAs : Nat → Int32} {cLi : Nat → Int32} {cSa : Nat → Int32} {cHd : Nat → Int32} {x1 : Int32} {r : Int32} {ncA : Nat → Int32} (hf : M_drawn cA x1 = some (r, ncA)) : CC l yX2_drawn (ws_ yX2_drawn cX2_drawn 3 (some .int)) ({ frames := 1, cells := 0, slots := 0, locals := 20 } : Room) g [.ref h, .int x1] (mW g h ad sTaped sFault sFaultP sAt sPlace sToken sNumber sWord sText0 sWritten sSort0 sPiled sOpens sWhole sOnce sIsW sDied cA cIm cTx cTp cPl cNm cVa cTr cAs cLi cSa cHd) (some (.int r)) (mW g h ad sTaped sFault sFaultP sAt sPlace sToken sNumber sWord sText0 sWritten sSort0 sPiled sOpens sWhole sOnce sIsW sDied ncA cIm cTx cTp cPl cNm cVa cTr cAs cLi cSa cHd) 0 0 := by
  refine CC.of RX2 rfl plain_X2 (Nat.le_of_ble_eq_true rfl) (fun p e s m below meth c A ls X hP hD hS hl => ?_)
  have hx := X.1
  have hb := X.2.1
  have hown := X.2.2.2.2.2.1
  have hts := X.2.2.2.2.2.2.1
  have hl : lv_has ls 3 [(0, .ref h), (1, .int x1)] := hl
  unfold M_drawn at hf
  refine lv_aload_n hx hb dX2_drawn_0 rfl (lv_at hl 0 rfl) ?_
  refine gM0 X hP dX2_drawn_1 ?_
  refine lv_bipush (v := 11) hx hb dX2_drawn_4 (by decide) ?_
  obtain ⟨v1, ev1, bv1, hf⟩ := rds hf
  refine lM_cA X hP ev1 bv1 dX2_drawn_6 ?_
  refine lv_iload_n hx hb dX2_drawn_7 rfl (lv_at hl 1 rfl) ?_
  obtain ⟨z2, hf⟩ := nzs hf
  refine lv_irem hx hb dX2_drawn_8 z2 ?_
  obtain ⟨v3, ev3, hf⟩ := lts hf
  refine tpi ev3 ?_
  refine lv_istore_n (lv' := [(2, .int v3), (0, .ref h), (1, .int x1)]) hx hb dX2_drawn_9 rfl hl (by decide) rfl (fun ls hl => ?_)
  refine lv_aload_n hx hb dX2_drawn_10 rfl (lv_at hl 1 rfl) ?_
  obtain ⟨c4, k5, hf⟩ := bd1s hf
  refine cVv (rest := []) X (met_M_anew k5) gw_X2_X2_anew dy_X2_anew ⟨⟨rfl, rfl⟩, Nat.le_of_ble_eq_true rfl, Nat.le_of_ble_eq_true rfl⟩ hP hD hS hl.1 rcM rfl rfl ⟨Nat.zero_le _, Nat.zero_le _⟩ (Nat.le_of_ble_eq_true rfl) dX2_drawn_11 (fun H locs hP hD hS => ?_)
  refine lv_iload_n hx hb dX2_drawn_14 rfl (lv_at hl 0 rfl) ?_
  cases hf
  exact rI X hP hD hS dX2_drawn_15
theorem gw_X2_X2_die : GoodIn lw_all (wsV RX2 331 RX2 yX2_die (ws_ yX2_die cX2_die 3 none)) := lw_V q1817 q1819 qs118 q148 q1820
theorem dy_X2_die : Dy yX2_die RX2 2 := by decide +kernel
theorem gw_X2_X2_pardonNow : GoodIn lw_all (wsV RX2 367 RX2 yX2_pardonNow (ws_ yX2_pardonNow cX2_pardonNow 2 none)) := lw_V q1821 q1823 qs119 q148 q1824
theorem dy_X2_pardonNow : Dy yX2_pardonNow RX2 1 := by decide +kernel
set_option maxHeartbeats 4000000 in
theorem met_M_killNow {l : Launch} {g : gG} {h : Nat} {ad : Nat → Nat} {sTaped : Int32} {sFault : Int32} {sFaultP : Int32} {sAt : Int32} {sPlace : Int32} {sToken : Int32} {sNumber : Int32} {sWord : Int64} {sText0 : Int32} {sWritten : Int32} {sSort0 : Int32} {sPiled : Int32} {sOpens : Int32} {sWhole : Int32} {sOnce : Int32} {sIsW : Int32} {sDied : Int32} {cA : Nat → Int32} {cIm : Nat → Int32} {cTx : Nat → Int32} {cTp : Nat → Int32} {cPl : Nat → Int32} {cNm : Nat → Int32} {cVa : Nat → Int64} {cTr : Nat → Int32} {cAs : Nat → Int32} {cLi : Nat → Int32} {cSa : Nat → Int32} {cHd : Nat → Int32} {x1 : Int32} {x2 : Int32} {nsDied : Int32} {ncA : Nat → Int32} (hf : M_killNow sIsW sDied cA x1 x2 = some (nsDied, ncA)) : CC l yX2_killNow (ws_ yX2_killNow cX2_killNow 3 none) ({ frames := 2, cells := 0, slots := 0, locals := 45 } : Room) g [.ref h, .int x1, .int x2] (mW g h ad sTaped sFault sFaultP sAt sPlace sToken sNumber sWord sText0 sWritten sSort0 sPiled sOpens sWhole sOnce sIsW sDied cA cIm cTx cTp cPl cNm cVa cTr cAs cLi cSa cHd) none (mW g h ad sTaped sFault sFaultP sAt sPlace sToken sNumber sWord sText0 sWritten sSort0 sPiled sOpens sWhole sOnce sIsW nsDied ncA cIm cTx cTp cPl cNm cVa cTr cAs cLi cSa cHd) 0 0 := by
  refine CC.of RX2 rfl plain_X2 (Nat.le_of_ble_eq_true rfl) (fun p e s m below meth c A ls X hP hD hS hl => ?_)
  have hx := X.1
  have hb := X.2.1
  have hown := X.2.2.2.2.2.1
  have hts := X.2.2.2.2.2.2.1
  have hl : lv_has ls 3 [(0, .ref h), (1, .int x1), (2, .int x2)] := hl
  unfold M_killNow at hf
  refine lv_aload_n hx hb dX2_killNow_0 rfl (lv_at hl 0 rfl) ?_
  refine lv_iload_n hx hb dX2_killNow_1 rfl (lv_at hl 1 rfl) ?_
  refine lv_iconst (v := 5) hx hb dX2_killNow_2 (by decide) ?_
  obtain ⟨c1, c2, k3, hf⟩ := bd2s hf
  refine cVv (rest := []) X (met_M_die k3) gw_X2_X2_die dy_X2_die ⟨⟨rfl, rfl⟩, Nat.le_of_ble_eq_true rfl, Nat.le_of_ble_eq_true rfl⟩ hP hD hS hl.1 rcM rfl rfl ⟨Nat.zero_le _, Nat.zero_le _⟩ (Nat.le_of_ble_eq_true rfl) dX2_killNow_3 (fun H locs hP hD hS => ?_)
  refine lv_aload_n hx hb dX2_killNow_6 rfl (lv_at hl 0 rfl) ?_
  refine lv_iload_n hx hb dX2_killNow_7 rfl (lv_at hl 2 rfl) ?_
  refine lv_bipush (v := 6) hx hb dX2_killNow_8 (by decide) ?_
  obtain ⟨r4, k5, hf⟩ := bd1s hf
  refine cVi (rest := []) X (met_M_get k5) gw_X2_X2_get dy_X2_get ⟨⟨rfl, rfl⟩, Nat.le_of_ble_eq_true rfl, Nat.le_of_ble_eq_true rfl⟩ hP hD hS hl.1 rcM rfl rfl ⟨Nat.zero_le _, Nat.zero_le _⟩ (Nat.le_of_ble_eq_true rfl) dX2_killNow_10 (fun H locs hP hD hS => ?_)
  refine lv_iconst (v := 1) hx hb dX2_killNow_13 (by decide) ?_
  refine bc_ne (tgt := 22) hx hb hf dX2_killNow_14 (by decide) (fun hf => ?_) (fun hf => ?_)
  · cases hf
    exact rV X hP hD hS dX2_killNow_22
  · refine lv_aload_n hx hb dX2_killNow_17 rfl (lv_at hl 0 rfl) ?_
    refine lv_iload_n hx hb dX2_killNow_18 rfl (lv_at hl 2 rfl) ?_
    obtain ⟨c6, k7, hf⟩ := bd1s hf
    refine cVv (rest := []) X (met_M_pardonNow k7) gw_X2_X2_pardonNow dy_X2_pardonNow ⟨⟨rfl, rfl⟩, Nat.le_of_ble_eq_true rfl, Nat.le_of_ble_eq_true rfl⟩ hP hD hS hl.1 rcM rfl rfl ⟨Nat.zero_le _, Nat.zero_le _⟩ (Nat.le_of_ble_eq_true rfl) dX2_killNow_19 (fun H locs hP hD hS => ?_)
    cases hf
    exact rV X hP hD hS dX2_killNow_22
set_option maxHeartbeats 4000000 in
theorem met_M_ofLand {l : Launch} {g : gG} {h : Nat} {ad : Nat → Nat} {sTaped : Int32} {sFault : Int32} {sFaultP : Int32} {sAt : Int32} {sPlace : Int32} {sToken : Int32} {sNumber : Int32} {sWord : Int64} {sText0 : Int32} {sWritten : Int32} {sSort0 : Int32} {sPiled : Int32} {sOpens : Int32} {sWhole : Int32} {sOnce : Int32} {sIsW : Int32} {sDied : Int32} {cA : Nat → Int32} {cIm : Nat → Int32} {cTx : Nat → Int32} {cTp : Nat → Int32} {cPl : Nat → Int32} {cNm : Nat → Int32} {cVa : Nat → Int64} {cTr : Nat → Int32} {cAs : Nat → Int32} {cLi : Nat → Int32} {cSa : Nat → Int32} {cHd : Nat → Int32} {x1 : Int32} {x2 : Int32} {r : Int32} {φ : Nat} (hf : M_ofLand φ cA x1 x2 = some r) : CC l yX2_ofLand (ws_ yX2_ofLand cX2_ofLand 3 (some .int)) ({ frames := 2, cells := 0, slots := 0, locals := 45 } : Room) g [.ref h, .int x1, .int x2] (mW g h ad sTaped sFault sFaultP sAt sPlace sToken sNumber sWord sText0 sWritten sSort0 sPiled sOpens sWhole sOnce sIsW sDied cA cIm cTx cTp cPl cNm cVa cTr cAs cLi cSa cHd) (some (.int r)) (mW g h ad sTaped sFault sFaultP sAt sPlace sToken sNumber sWord sText0 sWritten sSort0 sPiled sOpens sWhole sOnce sIsW sDied cA cIm cTx cTp cPl cNm cVa cTr cAs cLi cSa cHd) 0 0 := by
  refine CC.of RX2 rfl plain_X2 (Nat.le_of_ble_eq_true rfl) (fun p e s m below meth c A ls X hP hD hS hl => ?_)
  have hx := X.1
  have hb := X.2.1
  have hown := X.2.2.2.2.2.1
  have hts := X.2.2.2.2.2.2.1
  have hl : lv_has ls 3 [(0, .ref h), (1, .int x1), (2, .int x2)] := hl
  unfold M_ofLand at hf
  refine lv_aload_n hx hb dX2_ofLand_0 rfl (lv_at hl 0 rfl) ?_
  refine lv_iload_n hx hb dX2_ofLand_1 rfl (lv_at hl 1 rfl) ?_
  obtain ⟨r1, k2, hf⟩ := bd1s hf
  refine cVi (rest := []) X (met_M_isLand k2) gw_X2_X2_isLand dy_X2_isLand ⟨⟨rfl, rfl⟩, Nat.le_of_ble_eq_true rfl, Nat.le_of_ble_eq_true rfl⟩ hP hD hS hl.1 rcM rfl rfl ⟨Nat.zero_le _, Nat.zero_le _⟩ (Nat.le_of_ble_eq_true rfl) dX2_ofLand_2 (fun H locs hP hD hS => ?_)
  refine bq_ne (tgt := 10) hx hb hf dX2_ofLand_5 (by decide) (fun hf => ?_) (fun hf => ?_)
  · refine lv_iload_n hx hb dX2_ofLand_10 rfl (lv_at hl 2 rfl) ?_
    refine bq_ne (tgt := 26) hx hb hf dX2_ofLand_11 (by decide) (fun hf => ?_) (fun hf => ?_)
    · refine lv_iload_n hx hb dX2_ofLand_26 rfl (lv_at hl 2 rfl) ?_
      refine lv_iconst (v := 1) hx hb dX2_ofLand_27 (by decide) ?_
      refine bc_ne (tgt := 43) hx hb hf dX2_ofLand_28 (by decide) (fun hf => ?_) (fun hf => ?_)
      · refine lv_iload_n hx hb dX2_ofLand_43 rfl (lv_at hl 2 rfl) ?_
        refine lv_iconst (v := 2) hx hb dX2_ofLand_44 (by decide) ?_
        refine bc_ne (tgt := 56) hx hb hf dX2_ofLand_45 (by decide) (fun hf => ?_) (fun hf => ?_)
        · refine lv_iconst (v := (-1)) hx hb dX2_ofLand_56 (by decide) ?_
          cases hf
          exact rI X hP hD hS dX2_ofLand_57
        · refine lv_aload_n hx hb dX2_ofLand_48 rfl (lv_at hl 0 rfl) ?_
          refine lv_iload_n hx hb dX2_ofLand_49 rfl (lv_at hl 1 rfl) ?_
          obtain ⟨r3, k4, hf⟩ := bd1s hf
          refine cVi (rest := []) X (met_M_aliveIn k4) gw_X2_X2_aliveIn dy_X2_aliveIn ⟨⟨rfl, rfl⟩, Nat.le_of_ble_eq_true rfl, Nat.le_of_ble_eq_true rfl⟩ hP hD hS hl.1 rcM rfl rfl ⟨Nat.zero_le _, Nat.zero_le _⟩ (Nat.le_of_ble_eq_true rfl) dX2_ofLand_50 (fun H locs hP hD hS => ?_)
          refine lv_goto (tgt := 57) hx hb dX2_ofLand_53 (by decide) ?_
          cases hf
          exact rI X hP hD hS dX2_ofLand_57
      · refine lv_aload_n hx hb dX2_ofLand_31 rfl (lv_at hl 0 rfl) ?_
        refine gM0 X hP dX2_ofLand_32 ?_
        refine lv_bipush (v := 88) hx hb dX2_ofLand_35 (by decide) ?_
        refine lv_iload_n hx hb dX2_ofLand_37 rfl (lv_at hl 1 rfl) ?_
        refine lv_iadd hx hb dX2_ofLand_38 ?_
        obtain ⟨v5, ev5, bv5, hf⟩ := rds hf
        refine lM_cA X hP ev5 bv5 dX2_ofLand_39 ?_
        refine lv_goto (tgt := 57) hx hb dX2_ofLand_40 (by decide) ?_
        cases hf
        exact rI X hP hD hS dX2_ofLand_57
    · refine lv_aload_n hx hb dX2_ofLand_14 rfl (lv_at hl 0 rfl) ?_
      refine gM0 X hP dX2_ofLand_15 ?_
      refine lv_bipush (v := 80) hx hb dX2_ofLand_18 (by decide) ?_
      refine lv_iload_n hx hb dX2_ofLand_20 rfl (lv_at hl 1 rfl) ?_
      refine lv_iadd hx hb dX2_ofLand_21 ?_
      obtain ⟨v6, ev6, bv6, hf⟩ := rds hf
      refine lM_cA X hP ev6 bv6 dX2_ofLand_22 ?_
      refine lv_goto (tgt := 57) hx hb dX2_ofLand_23 (by decide) ?_
      cases hf
      exact rI X hP hD hS dX2_ofLand_57
  · refine lv_iconst (v := (-1)) hx hb dX2_ofLand_8 (by decide) ?_
    cases hf
    exact rI X hP hD hS dX2_ofLand_9
set_option maxHeartbeats 4000000 in
theorem met_M_book {l : Launch} {g : gG} {h : Nat} {ad : Nat → Nat} {sTaped : Int32} {sFault : Int32} {sFaultP : Int32} {sAt : Int32} {sPlace : Int32} {sToken : Int32} {sNumber : Int32} {sWord : Int64} {sText0 : Int32} {sWritten : Int32} {sSort0 : Int32} {sPiled : Int32} {sOpens : Int32} {sWhole : Int32} {sOnce : Int32} {sIsW : Int32} {sDied : Int32} {cA : Nat → Int32} {cIm : Nat → Int32} {cTx : Nat → Int32} {cTp : Nat → Int32} {cPl : Nat → Int32} {cNm : Nat → Int32} {cVa : Nat → Int64} {cTr : Nat → Int32} {cAs : Nat → Int32} {cLi : Nat → Int32} {cSa : Nat → Int32} {cHd : Nat → Int32} {x1 : Int32} {x2 : Int32} {r : Int32} (hf : M_book cA x1 x2 = some r) : CC l yX2_book (ws_ yX2_book cX2_book 3 (some .int)) ({ frames := 2, cells := 0, slots := 0, locals := 43 } : Room) g [.ref h, .int x1, .int x2] (mW g h ad sTaped sFault sFaultP sAt sPlace sToken sNumber sWord sText0 sWritten sSort0 sPiled sOpens sWhole sOnce sIsW sDied cA cIm cTx cTp cPl cNm cVa cTr cAs cLi cSa cHd) (some (.int r)) (mW g h ad sTaped sFault sFaultP sAt sPlace sToken sNumber sWord sText0 sWritten sSort0 sPiled sOpens sWhole sOnce sIsW sDied cA cIm cTx cTp cPl cNm cVa cTr cAs cLi cSa cHd) 0 0 := by
  refine CC.of RX2 rfl plain_X2 (Nat.le_of_ble_eq_true rfl) (fun p e s m below meth c A ls X hP hD hS hl => ?_)
  have hx := X.1
  have hb := X.2.1
  have hown := X.2.2.2.2.2.1
  have hts := X.2.2.2.2.2.2.1
  have hl : lv_has ls 3 [(0, .ref h), (1, .int x1), (2, .int x2)] := hl
  unfold M_book at hf
  refine lv_iload_n hx hb dX2_book_0 rfl (lv_at hl 1 rfl) ?_
  refine lv_iconst (v := (-1)) hx hb dX2_book_1 (by decide) ?_
  refine bc_ne (tgt := 10) hx hb hf dX2_book_2 (by decide) (fun hf => ?_) (fun hf => ?_)
  · refine lv_iload_n hx hb dX2_book_10 rfl (lv_at hl 1 rfl) ?_
    refine lv_iconst (v := 0) hx hb dX2_book_11 (by decide) ?_
    refine lv_aload_n hx hb dX2_book_12 rfl (lv_at hl 0 rfl) ?_
    obtain ⟨r1, k2, hf⟩ := bd1s hf
    refine cVi (rest := [.int 0, .int x1]) X (met_M_shown k2) gw_X2_X2_shown dy_X2_shown ⟨⟨rfl, rfl⟩, Nat.le_of_ble_eq_true rfl, Nat.le_of_ble_eq_true rfl⟩ hP hD hS hl.1 rcM rfl rfl ⟨Nat.zero_le _, Nat.zero_le _⟩ (Nat.le_of_ble_eq_true rfl) dX2_book_13 (fun H locs hP hD hS => ?_)
    refine lv_iconst (v := 1) hx hb dX2_book_16 (by decide) ?_
    refine lv_isub hx hb dX2_book_17 ?_
    obtain ⟨r3, k4, hf⟩ := bd1s hf
    refine cSi (rest := []) X (met_M_isIn (g := g) k4) gs_X2_X2_isIn dy_X2_isIn ⟨⟨rfl, rfl⟩, Nat.le_of_ble_eq_true rfl, Nat.le_of_ble_eq_true rfl⟩ hP hD hS hl.1 rfl rfl ⟨Nat.zero_le _, Nat.zero_le _⟩ (Nat.le_of_ble_eq_true rfl) dX2_book_18 (fun H locs hP hD hS => ?_)
    refine bq_eq (tgt := 42) hx hb hf dX2_book_21 (by decide) (fun hf => ?_) (fun hf => ?_)
    · refine lv_bipush (v := (-2)) hx hb dX2_book_42 (by decide) ?_
      cases hf
      exact rI X hP hD hS dX2_book_44
    · refine lv_iload_n hx hb dX2_book_24 rfl (lv_at hl 2 rfl) ?_
      refine lv_iconst (v := 0) hx hb dX2_book_25 (by decide) ?_
      refine lv_iconst (v := 2) hx hb dX2_book_26 (by decide) ?_
      obtain ⟨r5, k6, hf⟩ := bd1s hf
      refine cSi (rest := []) X (met_M_isIn (g := g) k6) gs_X2_X2_isIn dy_X2_isIn ⟨⟨rfl, rfl⟩, Nat.le_of_ble_eq_true rfl, Nat.le_of_ble_eq_true rfl⟩ hP hD hS hl.1 rfl rfl ⟨Nat.zero_le _, Nat.zero_le _⟩ (Nat.le_of_ble_eq_true rfl) dX2_book_27 (fun H locs hP hD hS => ?_)
      refine bq_eq (tgt := 42) hx hb hf dX2_book_30 (by decide) (fun hf => ?_) (fun hf => ?_)
      · refine lv_bipush (v := (-2)) hx hb dX2_book_42 (by decide) ?_
        cases hf
        exact rI X hP hD hS dX2_book_44
      · refine lv_aload_n hx hb dX2_book_33 rfl (lv_at hl 0 rfl) ?_
        refine lv_iload_n hx hb dX2_book_34 rfl (lv_at hl 1 rfl) ?_
        refine lv_iload_n hx hb dX2_book_35 rfl (lv_at hl 2 rfl) ?_
        obtain ⟨r7, k8, hf⟩ := bd1s hf
        refine cVi (rest := []) X (met_M_entry k8) gw_X2_X2_entry dy_X2_entry ⟨⟨rfl, rfl⟩, Nat.le_of_ble_eq_true rfl, Nat.le_of_ble_eq_true rfl⟩ hP hD hS hl.1 rcM rfl rfl ⟨Nat.zero_le _, Nat.zero_le _⟩ (Nat.le_of_ble_eq_true rfl) dX2_book_36 (fun H locs hP hD hS => ?_)
        refine lv_goto (tgt := 44) hx hb dX2_book_39 (by decide) ?_
        cases hf
        exact rI X hP hD hS dX2_book_44
  · refine lv_aload_n hx hb dX2_book_5 rfl (lv_at hl 0 rfl) ?_
    obtain ⟨r9, k10, hf⟩ := bd1s hf
    refine cVi (rest := []) X (met_M_shown k10) gw_X2_X2_shown dy_X2_shown ⟨⟨rfl, rfl⟩, Nat.le_of_ble_eq_true rfl, Nat.le_of_ble_eq_true rfl⟩ hP hD hS hl.1 rcM rfl rfl ⟨Nat.zero_le _, Nat.zero_le _⟩ (Nat.le_of_ble_eq_true rfl) dX2_book_6 (fun H locs hP hD hS => ?_)
    cases hf
    exact rI X hP hD hS dX2_book_9
set_option maxHeartbeats 4000000 in
theorem met_M_nextFrom {l : Launch} {g : gG} {h : Nat} {ad : Nat → Nat} {sTaped : Int32} {sFault : Int32} {sFaultP : Int32} {sAt : Int32} {sPlace : Int32} {sToken : Int32} {sNumber : Int32} {sWord : Int64} {sText0 : Int32} {sWritten : Int32} {sSort0 : Int32} {sPiled : Int32} {sOpens : Int32} {sWhole : Int32} {sOnce : Int32} {sIsW : Int32} {sDied : Int32} {cA : Nat → Int32} {cIm : Nat → Int32} {cTx : Nat → Int32} {cTp : Nat → Int32} {cPl : Nat → Int32} {cNm : Nat → Int32} {cVa : Nat → Int64} {cTr : Nat → Int32} {cAs : Nat → Int32} {cLi : Nat → Int32} {cSa : Nat → Int32} {cHd : Nat → Int32} {x1 : Int32} {x2 : Int32} {r : Int32} {φ : Nat} (hf : M_nextFrom φ cA cLi cSa x1 x2 = some r) : CC l yX2_nextFrom (ws_ yX2_nextFrom cX2_nextFrom 5 (some .int)) ({ frames := 1, cells := 0, slots := 0, locals := 21 } : Room) g [.ref h, .int x1, .int x2] (mW g h ad sTaped sFault sFaultP sAt sPlace sToken sNumber sWord sText0 sWritten sSort0 sPiled sOpens sWhole sOnce sIsW sDied cA cIm cTx cTp cPl cNm cVa cTr cAs cLi cSa cHd) (some (.int r)) (mW g h ad sTaped sFault sFaultP sAt sPlace sToken sNumber sWord sText0 sWritten sSort0 sPiled sOpens sWhole sOnce sIsW sDied cA cIm cTx cTp cPl cNm cVa cTr cAs cLi cSa cHd) 0 0 := by
  refine CC.of RX2 rfl plain_X2 (Nat.le_of_ble_eq_true rfl) (fun p e s m below meth c A ls X hP hD hS hl => ?_)
  have hx := X.1
  have hb := X.2.1
  have hown := X.2.2.2.2.2.1
  have hts := X.2.2.2.2.2.2.1
  have hl : lv_has ls 5 [(0, .ref h), (1, .int x1), (2, .int x2)] := hl
  unfold M_nextFrom at hf
  refine lv_iconst (v := (-1)) hx hb dX2_nextFrom_0 (by decide) ?_
  refine lv_istore_n (lv' := [(3, .int (-1)), (0, .ref h), (1, .int x1), (2, .int x2)]) hx hb dX2_nextFrom_1 rfl hl (by decide) rfl (fun ls hl => ?_)
  refine lv_iconst (v := 0) hx hb dX2_nextFrom_2 (by decide) ?_
  refine lv_istore (lv' := [(4, .int 0), (3, .int (-1)), (0, .ref h), (1, .int x1), (2, .int x2)]) hx hb dX2_nextFrom_3 hl (by decide) rfl (fun ls hl => ?_)
  obtain ⟨v3, k8, hf⟩ := bd1s hf
  have hE5 : ∀ (H : Heap) (locs : List Loc) (ls : Array Slot), va_P g.1 vwCl (mW g h ad sTaped sFault sFaultP sAt sPlace sToken sNumber sWord sText0 sWritten sSort0 sPiled sOpens sWhole sOnce sIsW sDied cA cIm cTx cTp cPl cNm cVa cTr cAs cLi cSa cHd) H → va_D A (mW g h ad sTaped sFault sFaultP sAt sPlace sToken sNumber sWord sText0 sWritten sSort0 sPiled sOpens sWhole sOnce sIsW sDied cA cIm cTx cTp cPl cNm cVa cTr cAs cLi cSa cHd) → va_S A s.heap H locs → lv_has ls 5 [(3, .int v3)] → W p l e ({ frames := 1, cells := 0, slots := 0, locals := 21 } : Room) s m ([.ref h, .int x1, .int x2] : List Value).toArray below meth c H locs 0 0 (MQ below (QQ g (some (.int r)) (mW g h ad sTaped sFault sFaultP sAt sPlace sToken sNumber sWord sText0 sWritten sSort0 sPiled sOpens sWhole sOnce sIsW sDied cA cIm cTx cTp cPl cNm cVa cTr cAs cLi cSa cHd) A) ([.ref h, .int x1, .int x2] : List Value).toArray s 0 0 A) (F0 m 88 ls []) := by
    intro H locs ls hP hD hS hl
    refine lv_iload_n hx hb dX2_nextFrom_88 rfl (lv_at hl 0 rfl) ?_
    cases hf
    exact rI X hP hD hS dX2_nextFrom_89
  have hL6 : ∀ (n4 : Nat) (v1 : Int32) (v2 : Int32), M_nextFrom_L5 φ x1 x2 cA cLi cSa n4 v1 v2 = some v3 → ∀ (H : Heap) (locs : List Loc) (ls : Array Slot), va_P g.1 vwCl (mW g h ad sTaped sFault sFaultP sAt sPlace sToken sNumber sWord sText0 sWritten sSort0 sPiled sOpens sWhole sOnce sIsW sDied cA cIm cTx cTp cPl cNm cVa cTr cAs cLi cSa cHd) H → va_D A (mW g h ad sTaped sFault sFaultP sAt sPlace sToken sNumber sWord sText0 sWritten sSort0 sPiled sOpens sWhole sOnce sIsW sDied cA cIm cTx cTp cPl cNm cVa cTr cAs cLi cSa cHd) → va_S A s.heap H locs → lv_has ls 5 [(0, .ref h), (1, .int x1), (2, .int x2), (3, .int v1), (4, .int v2)] → W p l e ({ frames := 1, cells := 0, slots := 0, locals := 21 } : Room) s m ([.ref h, .int x1, .int x2] : List Value).toArray below meth c H locs 0 0 (MQ below (QQ g (some (.int r)) (mW g h ad sTaped sFault sFaultP sAt sPlace sToken sNumber sWord sText0 sWritten sSort0 sPiled sOpens sWhole sOnce sIsW sDied cA cIm cTx cTp cPl cNm cVa cTr cAs cLi cSa cHd) A) ([.ref h, .int x1, .int x2] : List Value).toArray s 0 0 A) (F0 m 5 ls []) := by
    intro n4
    induction n4 with
    | zero =>
      intro v1 v2 hf
      exact nn hf
    | succ n4 ih7 =>
      intro v1 v2 hf H locs ls hP hD hS hl
      rw [M_nextFrom_L5] at hf
      refine lv_iload hx hb dX2_nextFrom_5 (lv_at hl 4 rfl) ?_
      refine lv_aload_n hx hb dX2_nextFrom_7 rfl (lv_at hl 0 rfl) ?_
      refine gM0 X hP dX2_nextFrom_8 ?_
      refine lv_iconst (v := 0) hx hb dX2_nextFrom_11 (by decide) ?_
      obtain ⟨v9, ev9, bv9, hf⟩ := rds hf
      refine lM_cA X hP ev9 bv9 dX2_nextFrom_12 ?_
      refine bc_ge (tgt := 88) hx hb hf dX2_nextFrom_13 (by decide) (fun hf => ?_) (fun hf => ?_)
      · cases hf
        exact hE5 _ _ _ hP hD hS (lv_sub hl [3] rfl)
      · refine lv_aload_n hx hb dX2_nextFrom_16 rfl (lv_at hl 0 rfl) ?_
        refine lv_iload_n hx hb dX2_nextFrom_17 rfl (lv_at hl 1 rfl) ?_
        obtain ⟨r10, k11, hf⟩ := bd1s hf
        refine cVi (rest := []) X (met_M_reachOf k11) gw_X2_X2_reachOf dy_X2_reachOf ⟨⟨rfl, rfl⟩, Nat.le_of_ble_eq_true rfl, Nat.le_of_ble_eq_true rfl⟩ hP hD hS hl.1 rcM rfl rfl ⟨Nat.zero_le _, Nat.zero_le _⟩ (Nat.le_of_ble_eq_true rfl) dX2_nextFrom_18 (fun H locs hP hD hS => ?_)
        refine lv_iload hx hb dX2_nextFrom_21 (lv_at hl 4 rfl) ?_
        obtain ⟨r12, k13, hf⟩ := bd1s hf
        refine cSi (rest := []) X (met_M_isWith (g := g) k13) gs_X2_X2_isWith dy_X2_isWith ⟨⟨rfl, rfl⟩, Nat.le_of_ble_eq_true rfl, Nat.le_of_ble_eq_true rfl⟩ hP hD hS hl.1 rfl rfl ⟨Nat.zero_le _, Nat.zero_le _⟩ (Nat.le_of_ble_eq_true rfl) dX2_nextFrom_23 (fun H locs hP hD hS => ?_)
        refine bq_eq (tgt := 82) hx hb hf dX2_nextFrom_26 (by decide) (fun hf => ?_) (fun hf => ?_)
        · obtain ⟨v14, ev14, hf⟩ := lts hf
          refine lv_iinc (v := v14) (lv' := [(4, .int v14), (0, .ref h), (1, .int x1), (2, .int x2), (3, .int v1)]) hx hb dX2_nextFrom_82 hl (k := 4) rfl (by rw [ev14]; rfl) (by decide) rfl (fun ls hl => ?_)
          refine lv_goto (tgt := 5) hx hb dX2_nextFrom_85 (by decide) ?_
          exact ih7 _ _ hf _ _ _ hP hD hS (lv_sub hl [1, 2, 3, 4, 0] rfl)
        · refine lv_iload_n hx hb dX2_nextFrom_29 rfl (lv_at hl 3 rfl) ?_
          refine lv_iconst (v := (-1)) hx hb dX2_nextFrom_30 (by decide) ?_
          refine bc_eq (tgt := 79) hx hb hf dX2_nextFrom_31 (by decide) (fun hf => ?_) (fun hf => ?_)
          · refine lv_iload hx hb dX2_nextFrom_79 (lv_at hl 4 rfl) ?_
            refine lv_istore_n (lv' := [(3, .int v2), (0, .ref h), (1, .int x1), (2, .int x2), (4, .int v2)]) hx hb dX2_nextFrom_81 rfl hl (by decide) rfl (fun ls hl => ?_)
            obtain ⟨v15, ev15, hf⟩ := lts hf
            refine lv_iinc (v := v15) (lv' := [(4, .int v15), (3, .int v2), (0, .ref h), (1, .int x1), (2, .int x2)]) hx hb dX2_nextFrom_82 hl (k := 4) rfl (by rw [ev15]; rfl) (by decide) rfl (fun ls hl => ?_)
            refine lv_goto (tgt := 5) hx hb dX2_nextFrom_85 (by decide) ?_
            exact ih7 _ _ hf _ _ _ hP hD hS (lv_sub hl [2, 3, 4, 1, 0] rfl)
          · refine lv_aload_n hx hb dX2_nextFrom_34 rfl (lv_at hl 0 rfl) ?_
            refine gM27 X hP dX2_nextFrom_35 ?_
            refine lv_iload hx hb dX2_nextFrom_38 (lv_at hl 4 rfl) ?_
            obtain ⟨v16, ev16, bv16, hf⟩ := rds hf
            refine lM_cSa X hP ev16 bv16 dX2_nextFrom_40 ?_
            refine lv_aload_n hx hb dX2_nextFrom_41 rfl (lv_at hl 0 rfl) ?_
            refine gM26 X hP dX2_nextFrom_42 ?_
            refine lv_bipush (v := 8) hx hb dX2_nextFrom_45 (by decide) ?_
            refine lv_iload_n hx hb dX2_nextFrom_47 rfl (lv_at hl 2 rfl) ?_
            refine lv_iconst (v := 1) hx hb dX2_nextFrom_48 (by decide) ?_
            refine lv_isub hx hb dX2_nextFrom_49 ?_
            refine lv_imul hx hb dX2_nextFrom_50 ?_
            refine lv_iload hx hb dX2_nextFrom_51 (lv_at hl 4 rfl) ?_
            refine lv_iadd hx hb dX2_nextFrom_53 ?_
            obtain ⟨v17, ev17, bv17, hf⟩ := rds hf
            refine lM_cLi X hP ev17 bv17 dX2_nextFrom_54 ?_
            refine lv_imul hx hb dX2_nextFrom_55 ?_
            refine lv_aload_n hx hb dX2_nextFrom_56 rfl (lv_at hl 0 rfl) ?_
            refine gM27 X hP dX2_nextFrom_57 ?_
            refine lv_iload_n hx hb dX2_nextFrom_60 rfl (lv_at hl 3 rfl) ?_
            obtain ⟨v18, ev18, bv18, hf⟩ := rds hf
            refine lM_cSa X hP ev18 bv18 dX2_nextFrom_61 ?_
            refine lv_aload_n hx hb dX2_nextFrom_62 rfl (lv_at hl 0 rfl) ?_
            refine gM26 X hP dX2_nextFrom_63 ?_
            refine lv_bipush (v := 8) hx hb dX2_nextFrom_66 (by decide) ?_
            refine lv_iload_n hx hb dX2_nextFrom_68 rfl (lv_at hl 2 rfl) ?_
            refine lv_iconst (v := 1) hx hb dX2_nextFrom_69 (by decide) ?_
            refine lv_isub hx hb dX2_nextFrom_70 ?_
            refine lv_imul hx hb dX2_nextFrom_71 ?_
            refine lv_iload_n hx hb dX2_nextFrom_72 rfl (lv_at hl 3 rfl) ?_
            refine lv_iadd hx hb dX2_nextFrom_73 ?_
            obtain ⟨v19, ev19, bv19, hf⟩ := rds hf
            refine lM_cLi X hP ev19 bv19 dX2_nextFrom_74 ?_
            refine lv_imul hx hb dX2_nextFrom_75 ?_
            refine bc_le (tgt := 82) hx hb hf dX2_nextFrom_76 (by decide) (fun hf => ?_) (fun hf => ?_)
            · obtain ⟨v20, ev20, hf⟩ := lts hf
              refine lv_iinc (v := v20) (lv' := [(4, .int v20), (0, .ref h), (1, .int x1), (2, .int x2), (3, .int v1)]) hx hb dX2_nextFrom_82 hl (k := 4) rfl (by rw [ev20]; rfl) (by decide) rfl (fun ls hl => ?_)
              refine lv_goto (tgt := 5) hx hb dX2_nextFrom_85 (by decide) ?_
              exact ih7 _ _ hf _ _ _ hP hD hS (lv_sub hl [1, 2, 3, 4, 0] rfl)
            · refine lv_iload hx hb dX2_nextFrom_79 (lv_at hl 4 rfl) ?_
              refine lv_istore_n (lv' := [(3, .int v2), (0, .ref h), (1, .int x1), (2, .int x2), (4, .int v2)]) hx hb dX2_nextFrom_81 rfl hl (by decide) rfl (fun ls hl => ?_)
              obtain ⟨v21, ev21, hf⟩ := lts hf
              refine lv_iinc (v := v21) (lv' := [(4, .int v21), (3, .int v2), (0, .ref h), (1, .int x1), (2, .int x2)]) hx hb dX2_nextFrom_82 hl (k := 4) rfl (by rw [ev21]; rfl) (by decide) rfl (fun ls hl => ?_)
              refine lv_goto (tgt := 5) hx hb dX2_nextFrom_85 (by decide) ?_
              exact ih7 _ _ hf _ _ _ hP hD hS (lv_sub hl [2, 3, 4, 1, 0] rfl)
  exact hL6 _ _ _ k8 _ _ _ hP hD hS (lv_sub hl [2, 3, 4, 1, 0] rfl)
set_option maxHeartbeats 4000000 in
theorem met_M_steps {l : Launch} {g : gG} {h : Nat} {ad : Nat → Nat} {sTaped : Int32} {sFault : Int32} {sFaultP : Int32} {sAt : Int32} {sPlace : Int32} {sToken : Int32} {sNumber : Int32} {sWord : Int64} {sText0 : Int32} {sWritten : Int32} {sSort0 : Int32} {sPiled : Int32} {sOpens : Int32} {sWhole : Int32} {sOnce : Int32} {sIsW : Int32} {sDied : Int32} {cA : Nat → Int32} {cIm : Nat → Int32} {cTx : Nat → Int32} {cTp : Nat → Int32} {cPl : Nat → Int32} {cNm : Nat → Int32} {cVa : Nat → Int64} {cTr : Nat → Int32} {cAs : Nat → Int32} {cLi : Nat → Int32} {cSa : Nat → Int32} {cHd : Nat → Int32} {x1 : Int32} {x2 : Int32} {r : Int32} {φ : Nat} (hf : M_steps φ cA x1 x2 = some r) : CC l yX2_steps (ws_ yX2_steps cX2_steps 5 (some .int)) ({ frames := 2, cells := 0, slots := 0, locals := 45 } : Room) g [.ref h, .int x1, .int x2] (mW g h ad sTaped sFault sFaultP sAt sPlace sToken sNumber sWord sText0 sWritten sSort0 sPiled sOpens sWhole sOnce sIsW sDied cA cIm cTx cTp cPl cNm cVa cTr cAs cLi cSa cHd) (some (.int r)) (mW g h ad sTaped sFault sFaultP sAt sPlace sToken sNumber sWord sText0 sWritten sSort0 sPiled sOpens sWhole sOnce sIsW sDied cA cIm cTx cTp cPl cNm cVa cTr cAs cLi cSa cHd) 0 0 := by
  refine CC.of RX2 rfl plain_X2 (Nat.le_of_ble_eq_true rfl) (fun p e s m below meth c A ls X hP hD hS hl => ?_)
  have hx := X.1
  have hb := X.2.1
  have hown := X.2.2.2.2.2.1
  have hts := X.2.2.2.2.2.2.1
  have hl : lv_has ls 5 [(0, .ref h), (1, .int x1), (2, .int x2)] := hl
  unfold M_steps at hf
  refine lv_aload_n hx hb dX2_steps_0 rfl (lv_at hl 0 rfl) ?_
  refine lv_iload_n hx hb dX2_steps_1 rfl (lv_at hl 1 rfl) ?_
  obtain ⟨r1, k2, hf⟩ := bd1s hf
  refine cVi (rest := []) X (met_M_isLand k2) gw_X2_X2_isLand dy_X2_isLand ⟨⟨rfl, rfl⟩, Nat.le_of_ble_eq_true rfl, Nat.le_of_ble_eq_true rfl⟩ hP hD hS hl.1 rcM rfl rfl ⟨Nat.zero_le _, Nat.zero_le _⟩ (Nat.le_of_ble_eq_true rfl) dX2_steps_2 (fun H locs hP hD hS => ?_)
  refine bq_eq (tgt := 16) hx hb hf dX2_steps_5 (by decide) (fun hf => ?_) (fun hf => ?_)
  · refine lv_iconst (v := (-1)) hx hb dX2_steps_16 (by decide) ?_
    cases hf
    exact rI X hP hD hS dX2_steps_17
  · refine lv_aload_n hx hb dX2_steps_8 rfl (lv_at hl 0 rfl) ?_
    refine lv_iload_n hx hb dX2_steps_9 rfl (lv_at hl 2 rfl) ?_
    obtain ⟨r3, k4, hf⟩ := bd1s hf
    refine cVi (rest := []) X (met_M_isLand k4) gw_X2_X2_isLand dy_X2_isLand ⟨⟨rfl, rfl⟩, Nat.le_of_ble_eq_true rfl, Nat.le_of_ble_eq_true rfl⟩ hP hD hS hl.1 rcM rfl rfl ⟨Nat.zero_le _, Nat.zero_le _⟩ (Nat.le_of_ble_eq_true rfl) dX2_steps_10 (fun H locs hP hD hS => ?_)
    refine bq_ne (tgt := 18) hx hb hf dX2_steps_13 (by decide) (fun hf => ?_) (fun hf => ?_)
    · refine lv_iconst (v := 1) hx hb dX2_steps_18 (by decide) ?_
      refine lv_iload_n hx hb dX2_steps_19 rfl (lv_at hl 1 rfl) ?_
      refine lv_ishl hx hb dX2_steps_20 ?_
      obtain ⟨v5, ev5, hf⟩ := lts hf
      refine tpi ev5 ?_
      refine lv_istore_n (lv' := [(3, .int v5), (0, .ref h), (1, .int x1), (2, .int x2)]) hx hb dX2_steps_21 rfl hl (by decide) rfl (fun ls hl => ?_)
      refine lv_iconst (v := 0) hx hb dX2_steps_22 (by decide) ?_
      refine lv_istore (lv' := [(4, .int 0), (3, .int v5), (0, .ref h), (1, .int x1), (2, .int x2)]) hx hb dX2_steps_23 hl (by decide) rfl (fun ls hl => ?_)
      have hL10 : ∀ (n8 : Nat) (v6 : Int32) (v7 : Int32), M_steps_L25 φ x2 cA n8 v6 v7 = some r → ∀ (H : Heap) (locs : List Loc) (ls : Array Slot), va_P g.1 vwCl (mW g h ad sTaped sFault sFaultP sAt sPlace sToken sNumber sWord sText0 sWritten sSort0 sPiled sOpens sWhole sOnce sIsW sDied cA cIm cTx cTp cPl cNm cVa cTr cAs cLi cSa cHd) H → va_D A (mW g h ad sTaped sFault sFaultP sAt sPlace sToken sNumber sWord sText0 sWritten sSort0 sPiled sOpens sWhole sOnce sIsW sDied cA cIm cTx cTp cPl cNm cVa cTr cAs cLi cSa cHd) → va_S A s.heap H locs → lv_has ls 5 [(0, .ref h), (2, .int x2), (3, .int v6), (4, .int v7)] → W p l e ({ frames := 2, cells := 0, slots := 0, locals := 45 } : Room) s m ([.ref h, .int x1, .int x2] : List Value).toArray below meth c H locs 0 0 (MQ below (QQ g (some (.int r)) (mW g h ad sTaped sFault sFaultP sAt sPlace sToken sNumber sWord sText0 sWritten sSort0 sPiled sOpens sWhole sOnce sIsW sDied cA cIm cTx cTp cPl cNm cVa cTr cAs cLi cSa cHd) A) ([.ref h, .int x1, .int x2] : List Value).toArray s 0 0 A) (F0 m 25 ls []) := by
        intro n8
        induction n8 with
        | zero =>
          intro v6 v7 hf
          exact nn hf
        | succ n8 ih11 =>
          intro v6 v7 hf H locs ls hP hD hS hl
          rw [M_steps_L25] at hf
          refine lv_iload hx hb dX2_steps_25 (lv_at hl 3 rfl) ?_
          refine lv_bipush (v := 8) hx hb dX2_steps_27 (by decide) ?_
          refine bc_ge (tgt := 56) hx hb hf dX2_steps_29 (by decide) (fun hf => ?_) (fun hf => ?_)
          · refine lv_iconst (v := (-1)) hx hb dX2_steps_56 (by decide) ?_
            cases hf
            exact rI X hP hD hS dX2_steps_57
          · refine lv_iload_n hx hb dX2_steps_32 rfl (lv_at hl 2 rfl) ?_
            refine lv_iload_n hx hb dX2_steps_33 rfl (lv_at hl 1 rfl) ?_
            obtain ⟨r13, k14, hf⟩ := bd1s hf
            refine cSi (rest := []) X (met_M_isWith (g := g) k14) gs_X2_X2_isWith dy_X2_isWith ⟨⟨rfl, rfl⟩, Nat.le_of_ble_eq_true rfl, Nat.le_of_ble_eq_true rfl⟩ hP hD hS hl.1 rfl rfl ⟨Nat.zero_le _, Nat.zero_le _⟩ (Nat.le_of_ble_eq_true rfl) dX2_steps_34 (fun H locs hP hD hS => ?_)
            refine bq_eq (tgt := 43) hx hb hf dX2_steps_37 (by decide) (fun hf => ?_) (fun hf => ?_)
            · refine lv_aload_n hx hb dX2_steps_43 rfl (lv_at hl 0 rfl) ?_
              refine lv_iload_n hx hb dX2_steps_44 rfl (lv_at hl 2 rfl) ?_
              refine lv_iconst (v := 0) hx hb dX2_steps_45 (by decide) ?_
              obtain ⟨r15, k16, hf⟩ := bd1s hf
              refine cVi (rest := []) X (met_M_spread k16) gw_X2_X2_spread dy_X2_spread ⟨⟨rfl, rfl⟩, Nat.le_of_ble_eq_true rfl, Nat.le_of_ble_eq_true rfl⟩ hP hD hS hl.1 rcM rfl rfl ⟨Nat.zero_le _, Nat.zero_le _⟩ (Nat.le_of_ble_eq_true rfl) dX2_steps_46 (fun H locs hP hD hS => ?_)
              refine lv_istore_n (lv' := [(3, .int r15), (0, .ref h), (2, .int x2), (4, .int v7)]) hx hb dX2_steps_49 rfl hl (by decide) rfl (fun ls hl => ?_)
              obtain ⟨v17, ev17, hf⟩ := lts hf
              refine lv_iinc (v := v17) (lv' := [(4, .int v17), (3, .int r15), (0, .ref h), (2, .int x2)]) hx hb dX2_steps_50 hl (k := 3) rfl (by rw [ev17]; rfl) (by decide) rfl (fun ls hl => ?_)
              refine lv_goto (tgt := 25) hx hb dX2_steps_53 (by decide) ?_
              exact ih11 _ _ hf _ _ _ hP hD hS (lv_sub hl [2, 3, 1, 0] rfl)
            · refine lv_iload hx hb dX2_steps_40 (lv_at hl 3 rfl) ?_
              cases hf
              exact rI X hP hD hS dX2_steps_42
      exact hL10 _ _ _ hf _ _ _ hP hD hS (lv_sub hl [2, 4, 1, 0] rfl)
    · refine lv_iconst (v := (-1)) hx hb dX2_steps_16 (by decide) ?_
      cases hf
      exact rI X hP hD hS dX2_steps_17
theorem gw_X2_X2_isJoined : GoodIn lw_all (wsV RX2 454 RX2 yX2_isJoined (ws_ yX2_isJoined cX2_isJoined 6 (some .boolean))) := lw_V q2001 q2003 qs140 q148 q2004
theorem dy_X2_isJoined : Dy yX2_isJoined RX2 3 := by decide +kernel
set_option maxHeartbeats 4000000 in
theorem met_M_watch {l : Launch} {g : gG} {h : Nat} {ad : Nat → Nat} {sTaped : Int32} {sFault : Int32} {sFaultP : Int32} {sAt : Int32} {sPlace : Int32} {sToken : Int32} {sNumber : Int32} {sWord : Int64} {sText0 : Int32} {sWritten : Int32} {sSort0 : Int32} {sPiled : Int32} {sOpens : Int32} {sWhole : Int32} {sOnce : Int32} {sIsW : Int32} {sDied : Int32} {cA : Nat → Int32} {cIm : Nat → Int32} {cTx : Nat → Int32} {cTp : Nat → Int32} {cPl : Nat → Int32} {cNm : Nat → Int32} {cVa : Nat → Int64} {cTr : Nat → Int32} {cAs : Nat → Int32} {cLi : Nat → Int32} {cSa : Nat → Int32} {cHd : Nat → Int32} {x1 : Int32} {x2 : Int32} {r : Int32} {φ : Nat} (hf : M_watch φ cA x1 x2 = some r) : CC l yX2_watch (ws_ yX2_watch cX2_watch 5 (some .int)) ({ frames := 3, cells := 0, slots := 0, locals := 70 } : Room) g [.ref h, .int x1, .int x2] (mW g h ad sTaped sFault sFaultP sAt sPlace sToken sNumber sWord sText0 sWritten sSort0 sPiled sOpens sWhole sOnce sIsW sDied cA cIm cTx cTp cPl cNm cVa cTr cAs cLi cSa cHd) (some (.int r)) (mW g h ad sTaped sFault sFaultP sAt sPlace sToken sNumber sWord sText0 sWritten sSort0 sPiled sOpens sWhole sOnce sIsW sDied cA cIm cTx cTp cPl cNm cVa cTr cAs cLi cSa cHd) 0 0 := by
  refine CC.of RX2 rfl plain_X2 (Nat.le_of_ble_eq_true rfl) (fun p e s m below meth c A ls X hP hD hS hl => ?_)
  have hx := X.1
  have hb := X.2.1
  have hown := X.2.2.2.2.2.1
  have hts := X.2.2.2.2.2.2.1
  have hl : lv_has ls 5 [(0, .ref h), (1, .int x1), (2, .int x2)] := hl
  unfold M_watch at hf
  refine lv_aload_n hx hb dX2_watch_0 rfl (lv_at hl 0 rfl) ?_
  refine lv_iload_n hx hb dX2_watch_1 rfl (lv_at hl 1 rfl) ?_
  obtain ⟨r1, k2, hf⟩ := bd1s hf
  refine cVi (rest := []) X (met_M_isLand k2) gw_X2_X2_isLand dy_X2_isLand ⟨⟨rfl, rfl⟩, Nat.le_of_ble_eq_true rfl, Nat.le_of_ble_eq_true rfl⟩ hP hD hS hl.1 rcM rfl rfl ⟨Nat.zero_le _, Nat.zero_le _⟩ (Nat.le_of_ble_eq_true rfl) dX2_watch_2 (fun H locs hP hD hS => ?_)
  refine bq_eq (tgt := 37) hx hb hf dX2_watch_5 (by decide) (fun hf => ?_) (fun hf => ?_)
  · refine lv_iconst (v := (-1)) hx hb dX2_watch_37 (by decide) ?_
    cases hf
    exact rI X hP hD hS dX2_watch_38
  · refine lv_aload_n hx hb dX2_watch_8 rfl (lv_at hl 0 rfl) ?_
    refine lv_iload_n hx hb dX2_watch_9 rfl (lv_at hl 2 rfl) ?_
    obtain ⟨r3, k4, hf⟩ := bd1s hf
    refine cVi (rest := []) X (met_M_isLand k4) gw_X2_X2_isLand dy_X2_isLand ⟨⟨rfl, rfl⟩, Nat.le_of_ble_eq_true rfl, Nat.le_of_ble_eq_true rfl⟩ hP hD hS hl.1 rcM rfl rfl ⟨Nat.zero_le _, Nat.zero_le _⟩ (Nat.le_of_ble_eq_true rfl) dX2_watch_10 (fun H locs hP hD hS => ?_)
    refine bq_eq (tgt := 37) hx hb hf dX2_watch_13 (by decide) (fun hf => ?_) (fun hf => ?_)
    · refine lv_iconst (v := (-1)) hx hb dX2_watch_37 (by decide) ?_
      cases hf
      exact rI X hP hD hS dX2_watch_38
    · refine lv_iload_n hx hb dX2_watch_16 rfl (lv_at hl 1 rfl) ?_
      refine lv_iload_n hx hb dX2_watch_17 rfl (lv_at hl 2 rfl) ?_
      refine bc_eq (tgt := 37) hx hb hf dX2_watch_18 (by decide) (fun hf => ?_) (fun hf => ?_)
      · refine lv_iconst (v := (-1)) hx hb dX2_watch_37 (by decide) ?_
        cases hf
        exact rI X hP hD hS dX2_watch_38
      · refine lv_aload_n hx hb dX2_watch_21 rfl (lv_at hl 0 rfl) ?_
        refine gM0 X hP dX2_watch_22 ?_
        refine lv_bipush (v := 88) hx hb dX2_watch_25 (by decide) ?_
        refine lv_iload_n hx hb dX2_watch_27 rfl (lv_at hl 1 rfl) ?_
        refine lv_iadd hx hb dX2_watch_28 ?_
        obtain ⟨v5, ev5, bv5, hf⟩ := rds hf
        refine lM_cA X hP ev5 bv5 dX2_watch_29 ?_
        refine lv_iload_n hx hb dX2_watch_30 rfl (lv_at hl 2 rfl) ?_
        obtain ⟨r6, k7, hf⟩ := bd1s hf
        refine cSi (rest := []) X (met_M_isWith (g := g) k7) gs_X2_X2_isWith dy_X2_isWith ⟨⟨rfl, rfl⟩, Nat.le_of_ble_eq_true rfl, Nat.le_of_ble_eq_true rfl⟩ hP hD hS hl.1 rfl rfl ⟨Nat.zero_le _, Nat.zero_le _⟩ (Nat.le_of_ble_eq_true rfl) dX2_watch_31 (fun H locs hP hD hS => ?_)
        refine bq_eq (tgt := 39) hx hb hf dX2_watch_34 (by decide) (fun hf => ?_) (fun hf => ?_)
        · refine lv_iconst (v := (-1)) hx hb dX2_watch_39 (by decide) ?_
          refine lv_istore_n (lv' := [(3, .int (-1)), (0, .ref h), (1, .int x1), (2, .int x2)]) hx hb dX2_watch_40 rfl hl (by decide) rfl (fun ls hl => ?_)
          refine lv_iconst (v := 0) hx hb dX2_watch_41 (by decide) ?_
          refine lv_istore (lv' := [(4, .int 0), (3, .int (-1)), (0, .ref h), (1, .int x1), (2, .int x2)]) hx hb dX2_watch_42 hl (by decide) rfl (fun ls hl => ?_)
          obtain ⟨v10, k15, hf⟩ := bd1s hf
          have hE12 : ∀ (H : Heap) (locs : List Loc) (ls : Array Slot), va_P g.1 vwCl (mW g h ad sTaped sFault sFaultP sAt sPlace sToken sNumber sWord sText0 sWritten sSort0 sPiled sOpens sWhole sOnce sIsW sDied cA cIm cTx cTp cPl cNm cVa cTr cAs cLi cSa cHd) H → va_D A (mW g h ad sTaped sFault sFaultP sAt sPlace sToken sNumber sWord sText0 sWritten sSort0 sPiled sOpens sWhole sOnce sIsW sDied cA cIm cTx cTp cPl cNm cVa cTr cAs cLi cSa cHd) → va_S A s.heap H locs → lv_has ls 5 [(3, .int v10)] → W p l e ({ frames := 3, cells := 0, slots := 0, locals := 70 } : Room) s m ([.ref h, .int x1, .int x2] : List Value).toArray below meth c H locs 0 0 (MQ below (QQ g (some (.int r)) (mW g h ad sTaped sFault sFaultP sAt sPlace sToken sNumber sWord sText0 sWritten sSort0 sPiled sOpens sWhole sOnce sIsW sDied cA cIm cTx cTp cPl cNm cVa cTr cAs cLi cSa cHd) A) ([.ref h, .int x1, .int x2] : List Value).toArray s 0 0 A) (F0 m 117 ls []) := by
            intro H locs ls hP hD hS hl
            refine lv_iload_n hx hb dX2_watch_117 rfl (lv_at hl 0 rfl) ?_
            cases hf
            exact rI X hP hD hS dX2_watch_118
          have hL13 : ∀ (n11 : Nat) (v8 : Int32) (v9 : Int32), M_watch_L44 φ x1 x2 cA n11 v8 v9 = some v10 → ∀ (H : Heap) (locs : List Loc) (ls : Array Slot), va_P g.1 vwCl (mW g h ad sTaped sFault sFaultP sAt sPlace sToken sNumber sWord sText0 sWritten sSort0 sPiled sOpens sWhole sOnce sIsW sDied cA cIm cTx cTp cPl cNm cVa cTr cAs cLi cSa cHd) H → va_D A (mW g h ad sTaped sFault sFaultP sAt sPlace sToken sNumber sWord sText0 sWritten sSort0 sPiled sOpens sWhole sOnce sIsW sDied cA cIm cTx cTp cPl cNm cVa cTr cAs cLi cSa cHd) → va_S A s.heap H locs → lv_has ls 5 [(0, .ref h), (1, .int x1), (2, .int x2), (3, .int v8), (4, .int v9)] → W p l e ({ frames := 3, cells := 0, slots := 0, locals := 70 } : Room) s m ([.ref h, .int x1, .int x2] : List Value).toArray below meth c H locs 0 0 (MQ below (QQ g (some (.int r)) (mW g h ad sTaped sFault sFaultP sAt sPlace sToken sNumber sWord sText0 sWritten sSort0 sPiled sOpens sWhole sOnce sIsW sDied cA cIm cTx cTp cPl cNm cVa cTr cAs cLi cSa cHd) A) ([.ref h, .int x1, .int x2] : List Value).toArray s 0 0 A) (F0 m 44 ls []) := by
            intro n11
            induction n11 with
            | zero =>
              intro v8 v9 hf
              exact nn hf
            | succ n11 ih14 =>
              intro v8 v9 hf H locs ls hP hD hS hl
              rw [M_watch_L44] at hf
              refine lv_iload hx hb dX2_watch_44 (lv_at hl 4 rfl) ?_
              refine lv_iconst (v := 1) hx hb dX2_watch_46 (by decide) ?_
              refine lv_aload_n hx hb dX2_watch_47 rfl (lv_at hl 0 rfl) ?_
              refine gM0 X hP dX2_watch_48 ?_
              refine lv_iconst (v := 0) hx hb dX2_watch_51 (by decide) ?_
              obtain ⟨v16, ev16, bv16, hf⟩ := rds hf
              refine lM_cA X hP ev16 bv16 dX2_watch_52 ?_
              refine lv_ishl hx hb dX2_watch_53 ?_
              refine bc_ge (tgt := 117) hx hb hf dX2_watch_54 (by decide) (fun hf => ?_) (fun hf => ?_)
              · cases hf
                exact hE12 _ _ _ hP hD hS (lv_sub hl [3] rfl)
              · refine lv_iload hx hb dX2_watch_57 (lv_at hl 4 rfl) ?_
                refine lv_iload_n hx hb dX2_watch_59 rfl (lv_at hl 1 rfl) ?_
                obtain ⟨r17, k18, hf⟩ := bd1s hf
                refine cSi (rest := []) X (met_M_isWith (g := g) k18) gs_X2_X2_isWith dy_X2_isWith ⟨⟨rfl, rfl⟩, Nat.le_of_ble_eq_true rfl, Nat.le_of_ble_eq_true rfl⟩ hP hD hS hl.1 rfl rfl ⟨Nat.zero_le _, Nat.zero_le _⟩ (Nat.le_of_ble_eq_true rfl) dX2_watch_60 (fun H locs hP hD hS => ?_)
                refine bq_ne (tgt := 111) hx hb hf dX2_watch_63 (by decide) (fun hf => ?_) (fun hf => ?_)
                · obtain ⟨v19, ev19, hf⟩ := lts hf
                  refine lv_iinc (v := v19) (lv' := [(4, .int v19), (0, .ref h), (1, .int x1), (2, .int x2), (3, .int v8)]) hx hb dX2_watch_111 hl (k := 4) rfl (by rw [ev19]; rfl) (by decide) rfl (fun ls hl => ?_)
                  refine lv_goto (tgt := 44) hx hb dX2_watch_114 (by decide) ?_
                  exact ih14 _ _ hf _ _ _ hP hD hS (lv_sub hl [1, 2, 3, 4, 0] rfl)
                · refine lv_iload hx hb dX2_watch_66 (lv_at hl 4 rfl) ?_
                  refine lv_iload_n hx hb dX2_watch_68 rfl (lv_at hl 2 rfl) ?_
                  obtain ⟨r20, k21, hf⟩ := bd1s hf
                  refine cSi (rest := []) X (met_M_isWith (g := g) k21) gs_X2_X2_isWith dy_X2_isWith ⟨⟨rfl, rfl⟩, Nat.le_of_ble_eq_true rfl, Nat.le_of_ble_eq_true rfl⟩ hP hD hS hl.1 rfl rfl ⟨Nat.zero_le _, Nat.zero_le _⟩ (Nat.le_of_ble_eq_true rfl) dX2_watch_69 (fun H locs hP hD hS => ?_)
                  refine bq_ne (tgt := 111) hx hb hf dX2_watch_72 (by decide) (fun hf => ?_) (fun hf => ?_)
                  · obtain ⟨v22, ev22, hf⟩ := lts hf
                    refine lv_iinc (v := v22) (lv' := [(4, .int v22), (0, .ref h), (1, .int x1), (2, .int x2), (3, .int v8)]) hx hb dX2_watch_111 hl (k := 4) rfl (by rw [ev22]; rfl) (by decide) rfl (fun ls hl => ?_)
                    refine lv_goto (tgt := 44) hx hb dX2_watch_114 (by decide) ?_
                    exact ih14 _ _ hf _ _ _ hP hD hS (lv_sub hl [1, 2, 3, 4, 0] rfl)
                  · refine lv_iload_n hx hb dX2_watch_75 rfl (lv_at hl 3 rfl) ?_
                    refine lv_iconst (v := (-1)) hx hb dX2_watch_76 (by decide) ?_
                    obtain ⟨k23, ek23, hf⟩ := jns hf
                    have hj24 : k23 = some v10 → ∀ (H : Heap) (locs : List Loc) (ls : Array Slot), va_P g.1 vwCl (mW g h ad sTaped sFault sFaultP sAt sPlace sToken sNumber sWord sText0 sWritten sSort0 sPiled sOpens sWhole sOnce sIsW sDied cA cIm cTx cTp cPl cNm cVa cTr cAs cLi cSa cHd) H → va_D A (mW g h ad sTaped sFault sFaultP sAt sPlace sToken sNumber sWord sText0 sWritten sSort0 sPiled sOpens sWhole sOnce sIsW sDied cA cIm cTx cTp cPl cNm cVa cTr cAs cLi cSa cHd) → va_S A s.heap H locs → lv_has ls 5 [(0, .ref h), (1, .int x1), (2, .int x2), (3, .int v8), (4, .int v9)] → W p l e ({ frames := 3, cells := 0, slots := 0, locals := 70 } : Room) s m ([.ref h, .int x1, .int x2] : List Value).toArray below meth c H locs 0 0 (MQ below (QQ g (some (.int r)) (mW g h ad sTaped sFault sFaultP sAt sPlace sToken sNumber sWord sText0 sWritten sSort0 sPiled sOpens sWhole sOnce sIsW sDied cA cIm cTx cTp cPl cNm cVa cTr cAs cLi cSa cHd) A) ([.ref h, .int x1, .int x2] : List Value).toArray s 0 0 A) (F0 m 97 ls []) := by
                      intro hf H locs ls hP hD hS hl
                      rw [ek23] at hf
                      refine lv_aload_n hx hb dX2_watch_97 rfl (lv_at hl 0 rfl) ?_
                      refine lv_iload_n hx hb dX2_watch_98 rfl (lv_at hl 1 rfl) ?_
                      refine lv_iload_n hx hb dX2_watch_99 rfl (lv_at hl 2 rfl) ?_
                      refine lv_iload hx hb dX2_watch_100 (lv_at hl 4 rfl) ?_
                      obtain ⟨r25, k26, hf⟩ := bd1s hf
                      refine cVi (rest := []) X (met_M_isJoined k26) gw_X2_X2_isJoined dy_X2_isJoined ⟨⟨rfl, rfl⟩, Nat.le_of_ble_eq_true rfl, Nat.le_of_ble_eq_true rfl⟩ hP hD hS hl.1 rcM rfl rfl ⟨Nat.zero_le _, Nat.zero_le _⟩ (Nat.le_of_ble_eq_true rfl) dX2_watch_102 (fun H locs hP hD hS => ?_)
                      refine bq_ne (tgt := 111) hx hb hf dX2_watch_105 (by decide) (fun hf => ?_) (fun hf => ?_)
                      · obtain ⟨v27, ev27, hf⟩ := lts hf
                        refine lv_iinc (v := v27) (lv' := [(4, .int v27), (0, .ref h), (1, .int x1), (2, .int x2), (3, .int v8)]) hx hb dX2_watch_111 hl (k := 4) rfl (by rw [ev27]; rfl) (by decide) rfl (fun ls hl => ?_)
                        refine lv_goto (tgt := 44) hx hb dX2_watch_114 (by decide) ?_
                        exact ih14 _ _ hf _ _ _ hP hD hS (lv_sub hl [1, 2, 3, 4, 0] rfl)
                      · refine lv_iload hx hb dX2_watch_108 (lv_at hl 4 rfl) ?_
                        refine lv_istore_n (lv' := [(3, .int v9), (0, .ref h), (1, .int x1), (2, .int x2), (4, .int v9)]) hx hb dX2_watch_110 rfl hl (by decide) rfl (fun ls hl => ?_)
                        obtain ⟨v28, ev28, hf⟩ := lts hf
                        refine lv_iinc (v := v28) (lv' := [(4, .int v28), (3, .int v9), (0, .ref h), (1, .int x1), (2, .int x2)]) hx hb dX2_watch_111 hl (k := 4) rfl (by rw [ev28]; rfl) (by decide) rfl (fun ls hl => ?_)
                        refine lv_goto (tgt := 44) hx hb dX2_watch_114 (by decide) ?_
                        exact ih14 _ _ hf _ _ _ hP hD hS (lv_sub hl [2, 3, 4, 1, 0] rfl)
                    clear ek23
                    refine bc_eq (tgt := 97) hx hb hf dX2_watch_77 (by decide) (fun hf => ?_) (fun hf => ?_)
                    · exact hj24 hf _ _ _ hP hD hS (lv_sub hl [0, 1, 2, 3, 4] rfl)
                    · refine lv_iload hx hb dX2_watch_80 (lv_at hl 4 rfl) ?_
                      refine lv_i2l hx hb dX2_watch_82 rfl ?_
                      obtain ⟨r29, k30, hf⟩ := bd1s hf
                      refine cSi (rest := []) X (met_M_bits (g := g) k30) gs_X2_X2_bits dy_X2_bits ⟨⟨rfl, rfl⟩, Nat.le_of_ble_eq_true rfl, Nat.le_of_ble_eq_true rfl⟩ hP hD hS hl.1 rfl rfl ⟨Nat.zero_le _, Nat.zero_le _⟩ (Nat.le_of_ble_eq_true rfl) dX2_watch_83 (fun H locs hP hD hS => ?_)
                      refine lv_iload_n hx hb dX2_watch_86 rfl (lv_at hl 3 rfl) ?_
                      refine lv_i2l hx hb dX2_watch_87 rfl ?_
                      obtain ⟨r31, k32, hf⟩ := bd1s hf
                      refine cSi (rest := [.int r29]) X (met_M_bits (g := g) k32) gs_X2_X2_bits dy_X2_bits ⟨⟨rfl, rfl⟩, Nat.le_of_ble_eq_true rfl, Nat.le_of_ble_eq_true rfl⟩ hP hD hS hl.1 rfl rfl ⟨Nat.zero_le _, Nat.zero_le _⟩ (Nat.le_of_ble_eq_true rfl) dX2_watch_88 (fun H locs hP hD hS => ?_)
                      refine bc_lt (tgt := 97) hx hb hf dX2_watch_91 (by decide) (fun hf => ?_) (fun hf => ?_)
                      · exact hj24 hf _ _ _ hP hD hS (lv_sub hl [0, 1, 2, 3, 4] rfl)
                      · refine lv_goto (tgt := 111) hx hb dX2_watch_94 (by decide) ?_
                        obtain ⟨v33, ev33, hf⟩ := lts hf
                        refine lv_iinc (v := v33) (lv' := [(4, .int v33), (0, .ref h), (1, .int x1), (2, .int x2), (3, .int v8)]) hx hb dX2_watch_111 hl (k := 4) rfl (by rw [ev33]; rfl) (by decide) rfl (fun ls hl => ?_)
                        refine lv_goto (tgt := 44) hx hb dX2_watch_114 (by decide) ?_
                        exact ih14 _ _ hf _ _ _ hP hD hS (lv_sub hl [1, 2, 3, 4, 0] rfl)
          exact hL13 _ _ _ k15 _ _ _ hP hD hS (lv_sub hl [2, 3, 4, 1, 0] rfl)
        · refine lv_iconst (v := (-1)) hx hb dX2_watch_37 (by decide) ?_
          cases hf
          exact rI X hP hD hS dX2_watch_38
theorem gw_X2_X2_wasAt : GoodIn lw_all (wsV RX2 457 RX2 yX2_wasAt (ws_ yX2_wasAt cX2_wasAt 8 (some .int))) := lw_V q2013 q2015 qs141 q148 q2016
theorem dy_X2_wasAt : Dy yX2_wasAt RX2 2 := by decide +kernel
set_option maxHeartbeats 4000000 in
theorem met_M_inCrowd {l : Launch} {g : gG} {h : Nat} {ad : Nat → Nat} {sTaped : Int32} {sFault : Int32} {sFaultP : Int32} {sAt : Int32} {sPlace : Int32} {sToken : Int32} {sNumber : Int32} {sWord : Int64} {sText0 : Int32} {sWritten : Int32} {sSort0 : Int32} {sPiled : Int32} {sOpens : Int32} {sWhole : Int32} {sOnce : Int32} {sIsW : Int32} {sDied : Int32} {cA : Nat → Int32} {cIm : Nat → Int32} {cTx : Nat → Int32} {cTp : Nat → Int32} {cPl : Nat → Int32} {cNm : Nat → Int32} {cVa : Nat → Int64} {cTr : Nat → Int32} {cAs : Nat → Int32} {cLi : Nat → Int32} {cSa : Nat → Int32} {cHd : Nat → Int32} {x1 : Int32} {x2 : Int32} {x3 : Int32} {r : Int32} {φ : Nat} (hf : M_inCrowd φ cA x1 x2 x3 = some r) : CC l yX2_inCrowd (ws_ yX2_inCrowd cX2_inCrowd 10 (some .int)) ({ frames := 3, cells := 0, slots := 0, locals := 70 } : Room) g [.ref h, .int x1, .int x2, .int x3] (mW g h ad sTaped sFault sFaultP sAt sPlace sToken sNumber sWord sText0 sWritten sSort0 sPiled sOpens sWhole sOnce sIsW sDied cA cIm cTx cTp cPl cNm cVa cTr cAs cLi cSa cHd) (some (.int r)) (mW g h ad sTaped sFault sFaultP sAt sPlace sToken sNumber sWord sText0 sWritten sSort0 sPiled sOpens sWhole sOnce sIsW sDied cA cIm cTx cTp cPl cNm cVa cTr cAs cLi cSa cHd) 0 0 := by
  refine CC.of RX2 rfl plain_X2 (Nat.le_of_ble_eq_true rfl) (fun p e s m below meth c A ls X hP hD hS hl => ?_)
  have hx := X.1
  have hb := X.2.1
  have hown := X.2.2.2.2.2.1
  have hts := X.2.2.2.2.2.2.1
  have hl : lv_has ls 10 [(0, .ref h), (1, .int x1), (2, .int x2), (3, .int x3)] := hl
  unfold M_inCrowd at hf
  refine lv_aload_n hx hb dX2_inCrowd_0 rfl (lv_at hl 0 rfl) ?_
  refine lv_iload_n hx hb dX2_inCrowd_1 rfl (lv_at hl 1 rfl) ?_
  obtain ⟨r1, k2, hf⟩ := bd1s hf
  refine cVi (rest := []) X (met_M_isLand k2) gw_X2_X2_isLand dy_X2_isLand ⟨⟨rfl, rfl⟩, Nat.le_of_ble_eq_true rfl, Nat.le_of_ble_eq_true rfl⟩ hP hD hS hl.1 rcM rfl rfl ⟨Nat.zero_le _, Nat.zero_le _⟩ (Nat.le_of_ble_eq_true rfl) dX2_inCrowd_2 (fun H locs hP hD hS => ?_)
  refine bq_eq (tgt := 35) hx hb hf dX2_inCrowd_5 (by decide) (fun hf => ?_) (fun hf => ?_)
  · refine lv_iconst (v := (-1)) hx hb dX2_inCrowd_35 (by decide) ?_
    cases hf
    exact rI X hP hD hS dX2_inCrowd_36
  · refine lv_iload_n hx hb dX2_inCrowd_8 rfl (lv_at hl 2 rfl) ?_
    refine lv_iconst (v := 0) hx hb dX2_inCrowd_9 (by decide) ?_
    refine lv_iconst (v := 5) hx hb dX2_inCrowd_10 (by decide) ?_
    obtain ⟨r3, k4, hf⟩ := bd1s hf
    refine cSi (rest := []) X (met_M_isIn (g := g) k4) gs_X2_X2_isIn dy_X2_isIn ⟨⟨rfl, rfl⟩, Nat.le_of_ble_eq_true rfl, Nat.le_of_ble_eq_true rfl⟩ hP hD hS hl.1 rfl rfl ⟨Nat.zero_le _, Nat.zero_le _⟩ (Nat.le_of_ble_eq_true rfl) dX2_inCrowd_11 (fun H locs hP hD hS => ?_)
    refine bq_eq (tgt := 35) hx hb hf dX2_inCrowd_14 (by decide) (fun hf => ?_) (fun hf => ?_)
    · refine lv_iconst (v := (-1)) hx hb dX2_inCrowd_35 (by decide) ?_
      cases hf
      exact rI X hP hD hS dX2_inCrowd_36
    · refine lv_iload_n hx hb dX2_inCrowd_17 rfl (lv_at hl 3 rfl) ?_
      refine lv_iconst (v := 0) hx hb dX2_inCrowd_18 (by decide) ?_
      refine lv_iconst (v := 2) hx hb dX2_inCrowd_19 (by decide) ?_
      obtain ⟨r5, k6, hf⟩ := bd1s hf
      refine cSi (rest := []) X (met_M_isIn (g := g) k6) gs_X2_X2_isIn dy_X2_isIn ⟨⟨rfl, rfl⟩, Nat.le_of_ble_eq_true rfl, Nat.le_of_ble_eq_true rfl⟩ hP hD hS hl.1 rfl rfl ⟨Nat.zero_le _, Nat.zero_le _⟩ (Nat.le_of_ble_eq_true rfl) dX2_inCrowd_20 (fun H locs hP hD hS => ?_)
      refine bq_eq (tgt := 35) hx hb hf dX2_inCrowd_23 (by decide) (fun hf => ?_) (fun hf => ?_)
      · refine lv_iconst (v := (-1)) hx hb dX2_inCrowd_35 (by decide) ?_
        cases hf
        exact rI X hP hD hS dX2_inCrowd_36
      · refine lv_aload_n hx hb dX2_inCrowd_26 rfl (lv_at hl 0 rfl) ?_
        refine gM0 X hP dX2_inCrowd_27 ?_
        refine lv_iconst (v := 5) hx hb dX2_inCrowd_30 (by decide) ?_
        obtain ⟨v7, ev7, bv7, hf⟩ := rds hf
        refine lM_cA X hP ev7 bv7 dX2_inCrowd_31 ?_
        refine bq_ne (tgt := 37) hx hb hf dX2_inCrowd_32 (by decide) (fun hf => ?_) (fun hf => ?_)
        · refine lv_iconst (v := 1) hx hb dX2_inCrowd_37 (by decide) ?_
          refine lv_istore (lv' := [(4, .int 1), (0, .ref h), (1, .int x1), (2, .int x2), (3, .int x3)]) hx hb dX2_inCrowd_38 hl (by decide) rfl (fun ls hl => ?_)
          refine lv_iconst (v := 1) hx hb dX2_inCrowd_40 (by decide) ?_
          refine lv_istore (lv' := [(5, .int 1), (4, .int 1), (0, .ref h), (1, .int x1), (2, .int x2), (3, .int x3)]) hx hb dX2_inCrowd_41 hl (by decide) rfl (fun ls hl => ?_)
          obtain ⟨v10, k15, hf⟩ := bd1s hf
          have hE12 : ∀ (H : Heap) (locs : List Loc) (ls : Array Slot), va_P g.1 vwCl (mW g h ad sTaped sFault sFaultP sAt sPlace sToken sNumber sWord sText0 sWritten sSort0 sPiled sOpens sWhole sOnce sIsW sDied cA cIm cTx cTp cPl cNm cVa cTr cAs cLi cSa cHd) H → va_D A (mW g h ad sTaped sFault sFaultP sAt sPlace sToken sNumber sWord sText0 sWritten sSort0 sPiled sOpens sWhole sOnce sIsW sDied cA cIm cTx cTp cPl cNm cVa cTr cAs cLi cSa cHd) → va_S A s.heap H locs → lv_has ls 10 [(0, .ref h), (1, .int x1), (2, .int x2), (3, .int x3), (4, .int v10)] → W p l e ({ frames := 3, cells := 0, slots := 0, locals := 70 } : Room) s m ([.ref h, .int x1, .int x2, .int x3] : List Value).toArray below meth c H locs 0 0 (MQ below (QQ g (some (.int r)) (mW g h ad sTaped sFault sFaultP sAt sPlace sToken sNumber sWord sText0 sWritten sSort0 sPiled sOpens sWhole sOnce sIsW sDied cA cIm cTx cTp cPl cNm cVa cTr cAs cLi cSa cHd) A) ([.ref h, .int x1, .int x2, .int x3] : List Value).toArray s 0 0 A) (F0 m 67 ls []) := by
            intro H locs ls hP hD hS hl
            refine lv_iconst (v := 0) hx hb dX2_inCrowd_67 (by decide) ?_
            refine lv_istore (lv' := [(5, .int 0), (0, .ref h), (1, .int x1), (2, .int x2), (3, .int x3), (4, .int v10)]) hx hb dX2_inCrowd_68 hl (by decide) rfl (fun ls hl => ?_)
            refine lv_iconst (v := 0) hx hb dX2_inCrowd_70 (by decide) ?_
            refine lv_istore (lv' := [(6, .int 0), (5, .int 0), (0, .ref h), (1, .int x1), (2, .int x2), (3, .int x3), (4, .int v10)]) hx hb dX2_inCrowd_71 hl (by decide) rfl (fun ls hl => ?_)
            refine lv_bipush (v := 31) hx hb dX2_inCrowd_73 (by decide) ?_
            refine lv_istore (lv' := [(7, .int 31), (6, .int 0), (5, .int 0), (0, .ref h), (1, .int x1), (2, .int x2), (3, .int x3), (4, .int v10)]) hx hb dX2_inCrowd_75 hl (by decide) rfl (fun ls hl => ?_)
            refine lv_iconst (v := 0) hx hb dX2_inCrowd_77 (by decide) ?_
            refine lv_istore (lv' := [(8, .int 0), (7, .int 31), (6, .int 0), (5, .int 0), (0, .ref h), (1, .int x1), (2, .int x2), (3, .int x3), (4, .int v10)]) hx hb dX2_inCrowd_78 hl (by decide) rfl (fun ls hl => ?_)
            obtain ⟨v20, v21, v22, k27, hf⟩ := bd3s hf
            have hE24 : ∀ (H : Heap) (locs : List Loc) (ls : Array Slot), va_P g.1 vwCl (mW g h ad sTaped sFault sFaultP sAt sPlace sToken sNumber sWord sText0 sWritten sSort0 sPiled sOpens sWhole sOnce sIsW sDied cA cIm cTx cTp cPl cNm cVa cTr cAs cLi cSa cHd) H → va_D A (mW g h ad sTaped sFault sFaultP sAt sPlace sToken sNumber sWord sText0 sWritten sSort0 sPiled sOpens sWhole sOnce sIsW sDied cA cIm cTx cTp cPl cNm cVa cTr cAs cLi cSa cHd) → va_S A s.heap H locs → lv_has ls 10 [(3, .int x3), (5, .int v20), (6, .int v21), (7, .int v22)] → W p l e ({ frames := 3, cells := 0, slots := 0, locals := 70 } : Room) s m ([.ref h, .int x1, .int x2, .int x3] : List Value).toArray below meth c H locs 0 0 (MQ below (QQ g (some (.int r)) (mW g h ad sTaped sFault sFaultP sAt sPlace sToken sNumber sWord sText0 sWritten sSort0 sPiled sOpens sWhole sOnce sIsW sDied cA cIm cTx cTp cPl cNm cVa cTr cAs cLi cSa cHd) A) ([.ref h, .int x1, .int x2, .int x3] : List Value).toArray s 0 0 A) (F0 m 138 ls []) := by
              intro H locs ls hP hD hS hl
              refine lv_iload_n hx hb dX2_inCrowd_138 rfl (lv_at hl 0 rfl) ?_
              refine bq_ne (tgt := 147) hx hb hf dX2_inCrowd_139 (by decide) (fun hf => ?_) (fun hf => ?_)
              · refine lv_iload_n hx hb dX2_inCrowd_147 rfl (lv_at hl 0 rfl) ?_
                refine lv_iconst (v := 1) hx hb dX2_inCrowd_148 (by decide) ?_
                refine bc_ne (tgt := 157) hx hb hf dX2_inCrowd_149 (by decide) (fun hf => ?_) (fun hf => ?_)
                · refine lv_iload hx hb dX2_inCrowd_157 (lv_at hl 1 rfl) ?_
                  refine bq_ne (tgt := 166) hx hb hf dX2_inCrowd_159 (by decide) (fun hf => ?_) (fun hf => ?_)
                  · refine lv_iload hx hb dX2_inCrowd_166 (lv_at hl 3 rfl) ?_
                    cases hf
                    exact rI X hP hD hS dX2_inCrowd_168
                  · refine lv_iconst (v := 0) hx hb dX2_inCrowd_162 (by decide) ?_
                    refine lv_goto (tgt := 168) hx hb dX2_inCrowd_163 (by decide) ?_
                    cases hf
                    exact rI X hP hD hS dX2_inCrowd_168
                · refine lv_iload hx hb dX2_inCrowd_152 (lv_at hl 2 rfl) ?_
                  refine lv_goto (tgt := 168) hx hb dX2_inCrowd_154 (by decide) ?_
                  cases hf
                  exact rI X hP hD hS dX2_inCrowd_168
              · refine lv_iload hx hb dX2_inCrowd_142 (lv_at hl 1 rfl) ?_
                refine lv_goto (tgt := 168) hx hb dX2_inCrowd_144 (by decide) ?_
                cases hf
                exact rI X hP hD hS dX2_inCrowd_168
            have hL25 : ∀ (n23 : Nat) (v16 : Int32) (v17 : Int32) (v18 : Int32) (v19 : Int32), M_inCrowd_L80 φ x1 x2 x3 v10 cA n23 v16 v17 v18 v19 = some (v20, v21, v22) → ∀ (H : Heap) (locs : List Loc) (ls : Array Slot), va_P g.1 vwCl (mW g h ad sTaped sFault sFaultP sAt sPlace sToken sNumber sWord sText0 sWritten sSort0 sPiled sOpens sWhole sOnce sIsW sDied cA cIm cTx cTp cPl cNm cVa cTr cAs cLi cSa cHd) H → va_D A (mW g h ad sTaped sFault sFaultP sAt sPlace sToken sNumber sWord sText0 sWritten sSort0 sPiled sOpens sWhole sOnce sIsW sDied cA cIm cTx cTp cPl cNm cVa cTr cAs cLi cSa cHd) → va_S A s.heap H locs → lv_has ls 10 [(0, .ref h), (1, .int x1), (2, .int x2), (3, .int x3), (4, .int v10), (5, .int v16), (6, .int v17), (7, .int v18), (8, .int v19)] → W p l e ({ frames := 3, cells := 0, slots := 0, locals := 70 } : Room) s m ([.ref h, .int x1, .int x2, .int x3] : List Value).toArray below meth c H locs 0 0 (MQ below (QQ g (some (.int r)) (mW g h ad sTaped sFault sFaultP sAt sPlace sToken sNumber sWord sText0 sWritten sSort0 sPiled sOpens sWhole sOnce sIsW sDied cA cIm cTx cTp cPl cNm cVa cTr cAs cLi cSa cHd) A) ([.ref h, .int x1, .int x2, .int x3] : List Value).toArray s 0 0 A) (F0 m 80 ls []) := by
              intro n23
              induction n23 with
              | zero =>
                intro v16 v17 v18 v19 hf
                exact nn hf
              | succ n23 ih26 =>
                intro v16 v17 v18 v19 hf H locs ls hP hD hS hl
                rw [M_inCrowd_L80] at hf
                refine lv_iload hx hb dX2_inCrowd_80 (lv_at hl 8 rfl) ?_
                refine lv_iload hx hb dX2_inCrowd_82 (lv_at hl 4 rfl) ?_
                refine bc_ge (tgt := 138) hx hb hf dX2_inCrowd_84 (by decide) (fun hf => ?_) (fun hf => ?_)
                · cases hf
                  exact hE24 _ _ _ hP hD hS (lv_sub hl [3, 5, 6, 7] rfl)
                · refine lv_aload_n hx hb dX2_inCrowd_87 rfl (lv_at hl 0 rfl) ?_
                  refine lv_iload hx hb dX2_inCrowd_88 (lv_at hl 8 rfl) ?_
                  refine lv_iload_n hx hb dX2_inCrowd_90 rfl (lv_at hl 1 rfl) ?_
                  obtain ⟨r28, k29, hf⟩ := bd1s hf
                  refine cVi (rest := []) X (met_M_wasAt k29) gw_X2_X2_wasAt dy_X2_wasAt ⟨⟨rfl, rfl⟩, Nat.le_of_ble_eq_true rfl, Nat.le_of_ble_eq_true rfl⟩ hP hD hS hl.1 rcM rfl rfl ⟨Nat.zero_le _, Nat.zero_le _⟩ (Nat.le_of_ble_eq_true rfl) dX2_inCrowd_91 (fun H locs hP hD hS => ?_)
                  refine lv_istore (lv' := [(9, .int r28), (0, .ref h), (1, .int x1), (2, .int x2), (3, .int x3), (4, .int v10), (5, .int v16), (6, .int v17), (7, .int v18), (8, .int v19)]) hx hb dX2_inCrowd_94 hl (by decide) rfl (fun ls hl => ?_)
                  refine lv_iload hx hb dX2_inCrowd_96 (lv_at hl 0 rfl) ?_
                  refine lv_iconst (v := (-1)) hx hb dX2_inCrowd_98 (by decide) ?_
                  refine bc_eq (tgt := 132) hx hb hf dX2_inCrowd_99 (by decide) (fun hf => ?_) (fun hf => ?_)
                  · obtain ⟨v30, ev30, hf⟩ := lts hf
                    refine lv_iinc (v := v30) (lv' := [(8, .int v30), (9, .int r28), (0, .ref h), (1, .int x1), (2, .int x2), (3, .int x3), (4, .int v10), (5, .int v16), (6, .int v17), (7, .int v18)]) hx hb dX2_inCrowd_132 hl (k := 9) rfl (by rw [ev30]; rfl) (by decide) rfl (fun ls hl => ?_)
                    refine lv_goto (tgt := 80) hx hb dX2_inCrowd_135 (by decide) ?_
                    exact ih26 _ _ _ _ hf _ _ _ hP hD hS (lv_sub hl [2, 3, 4, 5, 6, 7, 8, 9, 0] rfl)
                  · refine lv_iload hx hb dX2_inCrowd_102 (lv_at hl 0 rfl) ?_
                    refine lv_i2l hx hb dX2_inCrowd_104 rfl ?_
                    obtain ⟨r31, k32, hf⟩ := bd1s hf
                    refine cSi (rest := []) X (met_M_bits (g := g) k32) gs_X2_X2_bits dy_X2_bits ⟨⟨rfl, rfl⟩, Nat.le_of_ble_eq_true rfl, Nat.le_of_ble_eq_true rfl⟩ hP hD hS hl.1 rfl rfl ⟨Nat.zero_le _, Nat.zero_le _⟩ (Nat.le_of_ble_eq_true rfl) dX2_inCrowd_105 (fun H locs hP hD hS => ?_)
                    refine lv_iload_n hx hb dX2_inCrowd_108 rfl (lv_at hl 3 rfl) ?_
                    refine bc_eq (tgt := 115) hx hb hf dX2_inCrowd_109 (by decide) (fun hf => ?_) (fun hf => ?_)
                    · obtain ⟨v33, ev33, hf⟩ := lts hf
                      refine lv_iinc (v := v33) (lv' := [(5, .int v33), (9, .int r28), (0, .ref h), (1, .int x1), (2, .int x2), (3, .int x3), (4, .int v10), (6, .int v17), (7, .int v18), (8, .int v19)]) hx hb dX2_inCrowd_115 hl (k := 6) rfl (by rw [ev33]; rfl) (by decide) rfl (fun ls hl => ?_)
                      refine lv_iload hx hb dX2_inCrowd_118 (lv_at hl 7 rfl) ?_
                      refine lv_iload hx hb dX2_inCrowd_120 (lv_at hl 1 rfl) ?_
                      refine lv_ior hx hb dX2_inCrowd_122 ?_
                      obtain ⟨v34, ev34, hf⟩ := lts hf
                      refine tpi ev34 ?_
                      refine lv_istore (lv' := [(6, .int v34), (5, .int v33), (9, .int r28), (0, .ref h), (1, .int x1), (2, .int x2), (3, .int x3), (4, .int v10), (7, .int v18), (8, .int v19)]) hx hb dX2_inCrowd_123 hl (by decide) rfl (fun ls hl => ?_)
                      refine lv_iload hx hb dX2_inCrowd_125 (lv_at hl 8 rfl) ?_
                      refine lv_iload hx hb dX2_inCrowd_127 (lv_at hl 2 rfl) ?_
                      refine lv_iand hx hb dX2_inCrowd_129 ?_
                      obtain ⟨v35, ev35, hf⟩ := lts hf
                      refine tpi ev35 ?_
                      refine lv_istore (lv' := [(7, .int v35), (6, .int v34), (5, .int v33), (9, .int r28), (0, .ref h), (1, .int x1), (2, .int x2), (3, .int x3), (4, .int v10), (8, .int v19)]) hx hb dX2_inCrowd_130 hl (by decide) rfl (fun ls hl => ?_)
                      obtain ⟨v36, ev36, hf⟩ := lts hf
                      refine lv_iinc (v := v36) (lv' := [(8, .int v36), (7, .int v35), (6, .int v34), (5, .int v33), (9, .int r28), (0, .ref h), (1, .int x1), (2, .int x2), (3, .int x3), (4, .int v10)]) hx hb dX2_inCrowd_132 hl (k := 9) rfl (by rw [ev36]; rfl) (by decide) rfl (fun ls hl => ?_)
                      refine lv_goto (tgt := 80) hx hb dX2_inCrowd_135 (by decide) ?_
                      exact ih26 _ _ _ _ hf _ _ _ hP hD hS (lv_sub hl [5, 6, 7, 8, 9, 3, 2, 1, 0] rfl)
                    · refine lv_goto (tgt := 132) hx hb dX2_inCrowd_112 (by decide) ?_
                      obtain ⟨v37, ev37, hf⟩ := lts hf
                      refine lv_iinc (v := v37) (lv' := [(8, .int v37), (9, .int r28), (0, .ref h), (1, .int x1), (2, .int x2), (3, .int x3), (4, .int v10), (5, .int v16), (6, .int v17), (7, .int v18)]) hx hb dX2_inCrowd_132 hl (k := 9) rfl (by rw [ev37]; rfl) (by decide) rfl (fun ls hl => ?_)
                      refine lv_goto (tgt := 80) hx hb dX2_inCrowd_135 (by decide) ?_
                      exact ih26 _ _ _ _ hf _ _ _ hP hD hS (lv_sub hl [2, 3, 4, 5, 6, 7, 8, 9, 0] rfl)
            exact hL25 _ _ _ _ _ k27 _ _ _ hP hD hS (lv_sub hl [4, 5, 6, 7, 8, 3, 2, 1, 0] rfl)
          have hL13 : ∀ (n11 : Nat) (v8 : Int32) (v9 : Int32), M_inCrowd_L43 φ x1 x2 x3 cA n11 v8 v9 = some v10 → ∀ (H : Heap) (locs : List Loc) (ls : Array Slot), va_P g.1 vwCl (mW g h ad sTaped sFault sFaultP sAt sPlace sToken sNumber sWord sText0 sWritten sSort0 sPiled sOpens sWhole sOnce sIsW sDied cA cIm cTx cTp cPl cNm cVa cTr cAs cLi cSa cHd) H → va_D A (mW g h ad sTaped sFault sFaultP sAt sPlace sToken sNumber sWord sText0 sWritten sSort0 sPiled sOpens sWhole sOnce sIsW sDied cA cIm cTx cTp cPl cNm cVa cTr cAs cLi cSa cHd) → va_S A s.heap H locs → lv_has ls 10 [(0, .ref h), (1, .int x1), (2, .int x2), (3, .int x3), (4, .int v8), (5, .int v9)] → W p l e ({ frames := 3, cells := 0, slots := 0, locals := 70 } : Room) s m ([.ref h, .int x1, .int x2, .int x3] : List Value).toArray below meth c H locs 0 0 (MQ below (QQ g (some (.int r)) (mW g h ad sTaped sFault sFaultP sAt sPlace sToken sNumber sWord sText0 sWritten sSort0 sPiled sOpens sWhole sOnce sIsW sDied cA cIm cTx cTp cPl cNm cVa cTr cAs cLi cSa cHd) A) ([.ref h, .int x1, .int x2, .int x3] : List Value).toArray s 0 0 A) (F0 m 43 ls []) := by
            intro n11
            induction n11 with
            | zero =>
              intro v8 v9 hf
              exact nn hf
            | succ n11 ih14 =>
              intro v8 v9 hf H locs ls hP hD hS hl
              rw [M_inCrowd_L43] at hf
              refine lv_iload hx hb dX2_inCrowd_43 (lv_at hl 5 rfl) ?_
              refine lv_aload_n hx hb dX2_inCrowd_45 rfl (lv_at hl 0 rfl) ?_
              refine gM0 X hP dX2_inCrowd_46 ?_
              refine lv_iconst (v := 5) hx hb dX2_inCrowd_49 (by decide) ?_
              obtain ⟨v38, ev38, bv38, hf⟩ := rds hf
              refine lM_cA X hP ev38 bv38 dX2_inCrowd_50 ?_
              refine bc_ge (tgt := 67) hx hb hf dX2_inCrowd_51 (by decide) (fun hf => ?_) (fun hf => ?_)
              · cases hf
                exact hE12 _ _ _ hP hD hS (lv_sub hl [0, 1, 2, 3, 4] rfl)
              · refine lv_iload hx hb dX2_inCrowd_54 (lv_at hl 4 rfl) ?_
                refine lv_bipush (v := 8) hx hb dX2_inCrowd_56 (by decide) ?_
                refine lv_imul hx hb dX2_inCrowd_58 ?_
                obtain ⟨v39, ev39, hf⟩ := lts hf
                refine tpi ev39 ?_
                refine lv_istore (lv' := [(4, .int v39), (0, .ref h), (1, .int x1), (2, .int x2), (3, .int x3), (5, .int v9)]) hx hb dX2_inCrowd_59 hl (by decide) rfl (fun ls hl => ?_)
                obtain ⟨v40, ev40, hf⟩ := lts hf
                refine lv_iinc (v := v40) (lv' := [(5, .int v40), (4, .int v39), (0, .ref h), (1, .int x1), (2, .int x2), (3, .int x3)]) hx hb dX2_inCrowd_61 hl (k := 5) rfl (by rw [ev40]; rfl) (by decide) rfl (fun ls hl => ?_)
                refine lv_goto (tgt := 43) hx hb dX2_inCrowd_64 (by decide) ?_
                exact ih14 _ _ hf _ _ _ hP hD hS (lv_sub hl [2, 3, 4, 5, 1, 0] rfl)
          exact hL13 _ _ _ k15 _ _ _ hP hD hS (lv_sub hl [2, 3, 4, 5, 1, 0] rfl)
        · refine lv_iconst (v := (-1)) hx hb dX2_inCrowd_35 (by decide) ?_
          cases hf
          exact rI X hP hD hS dX2_inCrowd_36
theorem gw_X2_X2_canBe : GoodIn lw_all (wsV RX2 460 RX2 yX2_canBe (ws_ yX2_canBe cX2_canBe 6 (some .boolean))) := lw_V q2033 q2035 qs143 q148 q2036
theorem dy_X2_canBe : Dy yX2_canBe RX2 2 := by decide +kernel
set_option maxHeartbeats 4000000 in
theorem met_M_isExplained {l : Launch} {g : gG} {h : Nat} {ad : Nat → Nat} {sTaped : Int32} {sFault : Int32} {sFaultP : Int32} {sAt : Int32} {sPlace : Int32} {sToken : Int32} {sNumber : Int32} {sWord : Int64} {sText0 : Int32} {sWritten : Int32} {sSort0 : Int32} {sPiled : Int32} {sOpens : Int32} {sWhole : Int32} {sOnce : Int32} {sIsW : Int32} {sDied : Int32} {cA : Nat → Int32} {cIm : Nat → Int32} {cTx : Nat → Int32} {cTp : Nat → Int32} {cPl : Nat → Int32} {cNm : Nat → Int32} {cVa : Nat → Int64} {cTr : Nat → Int32} {cAs : Nat → Int32} {cLi : Nat → Int32} {cSa : Nat → Int32} {cHd : Nat → Int32} {x1 : Int32} {r : Int32} {ncHd : Nat → Int32} {φ : Nat} (hf : M_isExplained φ cA cHd x1 = some (r, ncHd)) : CC l yX2_isExplained (ws_ yX2_isExplained cX2_isExplained 4 (some .boolean)) ({ frames := 1, cells := 0, slots := 0, locals := 25 } : Room) g [.ref h, .int x1] (mW g h ad sTaped sFault sFaultP sAt sPlace sToken sNumber sWord sText0 sWritten sSort0 sPiled sOpens sWhole sOnce sIsW sDied cA cIm cTx cTp cPl cNm cVa cTr cAs cLi cSa cHd) (some (.int r)) (mW g h ad sTaped sFault sFaultP sAt sPlace sToken sNumber sWord sText0 sWritten sSort0 sPiled sOpens sWhole sOnce sIsW sDied cA cIm cTx cTp cPl cNm cVa cTr cAs cLi cSa ncHd) 0 0 := by
  refine CC.of RX2 rfl plain_X2 (Nat.le_of_ble_eq_true rfl) (fun p e s m below meth c A ls X hP hD hS hl => ?_)
  have hx := X.1
  have hb := X.2.1
  have hown := X.2.2.2.2.2.1
  have hts := X.2.2.2.2.2.2.1
  have hl : lv_has ls 4 [(0, .ref h), (1, .int x1)] := hl
  unfold M_isExplained at hf
  refine lv_iconst (v := 0) hx hb dX2_isExplained_0 (by decide) ?_
  refine lv_istore_n (lv' := [(2, .int 0), (0, .ref h), (1, .int x1)]) hx hb dX2_isExplained_1 rfl hl (by decide) rfl (fun ls hl => ?_)
  refine lv_iconst (v := 0) hx hb dX2_isExplained_2 (by decide) ?_
  refine lv_istore_n (lv' := [(3, .int 0), (2, .int 0), (0, .ref h), (1, .int x1)]) hx hb dX2_isExplained_3 rfl hl (by decide) rfl (fun ls hl => ?_)
  obtain ⟨v4, c5, k10, hf⟩ := bd2s hf
  have hE7 : ∀ (H : Heap) (locs : List Loc) (ls : Array Slot), va_P g.1 vwCl (mW g h ad sTaped sFault sFaultP sAt sPlace sToken sNumber sWord sText0 sWritten sSort0 sPiled sOpens sWhole sOnce sIsW sDied cA cIm cTx cTp cPl cNm cVa cTr cAs cLi cSa c5) H → va_D A (mW g h ad sTaped sFault sFaultP sAt sPlace sToken sNumber sWord sText0 sWritten sSort0 sPiled sOpens sWhole sOnce sIsW sDied cA cIm cTx cTp cPl cNm cVa cTr cAs cLi cSa c5) → va_S A s.heap H locs → lv_has ls 4 [(2, .int v4)] → W p l e ({ frames := 1, cells := 0, slots := 0, locals := 25 } : Room) s m ([.ref h, .int x1] : List Value).toArray below meth c H locs 0 0 (MQ below (QQ g (some (.int r)) (mW g h ad sTaped sFault sFaultP sAt sPlace sToken sNumber sWord sText0 sWritten sSort0 sPiled sOpens sWhole sOnce sIsW sDied cA cIm cTx cTp cPl cNm cVa cTr cAs cLi cSa ncHd) A) ([.ref h, .int x1] : List Value).toArray s 0 0 A) (F0 m 82 ls []) := by
    intro H locs ls hP hD hS hl
    refine lv_iload_n hx hb dX2_isExplained_82 rfl (lv_at hl 0 rfl) ?_
    refine bq_lt (tgt := 90) hx hb hf dX2_isExplained_83 (by decide) (fun hf => ?_) (fun hf => ?_)
    · refine lv_iconst (v := 0) hx hb dX2_isExplained_90 (by decide) ?_
      cases hf
      exact rZ X rfl hP hD hS dX2_isExplained_91
    · refine lv_iconst (v := 1) hx hb dX2_isExplained_86 (by decide) ?_
      refine lv_goto (tgt := 91) hx hb dX2_isExplained_87 (by decide) ?_
      cases hf
      exact rZ X rfl hP hD hS dX2_isExplained_91
  have hL8 : ∀ (n6 : Nat) (v1 : Int32) (v2 : Int32) (c3 : Nat → Int32), M_isExplained_L4 φ x1 cA n6 v1 v2 c3 = some (v4, c5) → ∀ (H : Heap) (locs : List Loc) (ls : Array Slot), va_P g.1 vwCl (mW g h ad sTaped sFault sFaultP sAt sPlace sToken sNumber sWord sText0 sWritten sSort0 sPiled sOpens sWhole sOnce sIsW sDied cA cIm cTx cTp cPl cNm cVa cTr cAs cLi cSa c3) H → va_D A (mW g h ad sTaped sFault sFaultP sAt sPlace sToken sNumber sWord sText0 sWritten sSort0 sPiled sOpens sWhole sOnce sIsW sDied cA cIm cTx cTp cPl cNm cVa cTr cAs cLi cSa c3) → va_S A s.heap H locs → lv_has ls 4 [(0, .ref h), (1, .int x1), (2, .int v1), (3, .int v2)] → W p l e ({ frames := 1, cells := 0, slots := 0, locals := 25 } : Room) s m ([.ref h, .int x1] : List Value).toArray below meth c H locs 0 0 (MQ below (QQ g (some (.int r)) (mW g h ad sTaped sFault sFaultP sAt sPlace sToken sNumber sWord sText0 sWritten sSort0 sPiled sOpens sWhole sOnce sIsW sDied cA cIm cTx cTp cPl cNm cVa cTr cAs cLi cSa ncHd) A) ([.ref h, .int x1] : List Value).toArray s 0 0 A) (F0 m 4 ls []) := by
    intro n6
    induction n6 with
    | zero =>
      intro v1 v2 c3 hf
      exact nn hf
    | succ n6 ih9 =>
      intro v1 v2 c3 hf H locs ls hP hD hS hl
      rw [M_isExplained_L4] at hf
      refine lv_iload_n hx hb dX2_isExplained_4 rfl (lv_at hl 2 rfl) ?_
      refine bq_lt (tgt := 82) hx hb hf dX2_isExplained_5 (by decide) (fun hf => ?_) (fun hf => ?_)
      · cases hf
        exact hE7 _ _ _ hP hD hS (lv_sub hl [2] rfl)
      · refine lv_iload_n hx hb dX2_isExplained_8 rfl (lv_at hl 2 rfl) ?_
        refine lv_aload_n hx hb dX2_isExplained_9 rfl (lv_at hl 0 rfl) ?_
        refine gM0 X hP dX2_isExplained_10 ?_
        refine lv_bipush (v := 6) hx hb dX2_isExplained_13 (by decide) ?_
        obtain ⟨v11, ev11, bv11, hf⟩ := rds hf
        refine lM_cA X hP ev11 bv11 dX2_isExplained_15 ?_
        refine bc_ge (tgt := 82) hx hb hf dX2_isExplained_16 (by decide) (fun hf => ?_) (fun hf => ?_)
        · cases hf
          exact hE7 _ _ _ hP hD hS (lv_sub hl [2] rfl)
        · obtain ⟨v13, k18, hf⟩ := bd1s hf
          have hE15 : ∀ (H : Heap) (locs : List Loc) (ls : Array Slot), va_P g.1 vwCl (mW g h ad sTaped sFault sFaultP sAt sPlace sToken sNumber sWord sText0 sWritten sSort0 sPiled sOpens sWhole sOnce sIsW sDied cA cIm cTx cTp cPl cNm cVa cTr cAs cLi cSa c3) H → va_D A (mW g h ad sTaped sFault sFaultP sAt sPlace sToken sNumber sWord sText0 sWritten sSort0 sPiled sOpens sWhole sOnce sIsW sDied cA cIm cTx cTp cPl cNm cVa cTr cAs cLi cSa c3) → va_S A s.heap H locs → lv_has ls 4 [(0, .ref h), (1, .int x1), (2, .int v1), (3, .int v13)] → W p l e ({ frames := 1, cells := 0, slots := 0, locals := 25 } : Room) s m ([.ref h, .int x1] : List Value).toArray below meth c H locs 0 0 (MQ below (QQ g (some (.int r)) (mW g h ad sTaped sFault sFaultP sAt sPlace sToken sNumber sWord sText0 sWritten sSort0 sPiled sOpens sWhole sOnce sIsW sDied cA cIm cTx cTp cPl cNm cVa cTr cAs cLi cSa ncHd) A) ([.ref h, .int x1] : List Value).toArray s 0 0 A) (F0 m 39 ls []) := by
            intro H locs ls hP hD hS hl
            refine lv_iload_n hx hb dX2_isExplained_39 rfl (lv_at hl 3 rfl) ?_
            refine lv_iload_n hx hb dX2_isExplained_40 rfl (lv_at hl 1 rfl) ?_
            refine bc_ge (tgt := 59) hx hb hf dX2_isExplained_41 (by decide) (fun hf => ?_) (fun hf => ?_)
            · obtain ⟨v19, ev19, hf⟩ := lts hf
              refine lv_iinc (v := v19) (lv' := [(2, .int v19), (0, .ref h), (1, .int x1), (3, .int v13)]) hx hb dX2_isExplained_59 hl (k := 2) rfl (by rw [ev19]; rfl) (by decide) rfl (fun ls hl => ?_)
              refine lv_iload_n hx hb dX2_isExplained_62 rfl (lv_at hl 0 rfl) ?_
              refine bq_ge (tgt := 70) hx hb hf dX2_isExplained_63 (by decide) (fun hf => ?_) (fun hf => ?_)
              · refine lv_aload_n hx hb dX2_isExplained_70 rfl (lv_at hl 1 rfl) ?_
                refine gM28 X hP dX2_isExplained_71 ?_
                refine lv_iload_n hx hb dX2_isExplained_74 rfl (lv_at hl 0 rfl) ?_
                obtain ⟨v20, ev20, bv20, hf⟩ := rds hf
                refine lM_cHd X hP ev20 bv20 dX2_isExplained_75 ?_
                refine lv_iconst (v := 1) hx hb dX2_isExplained_76 (by decide) ?_
                refine lv_iadd hx hb dX2_isExplained_77 ?_
                obtain ⟨v21, ev21, hf⟩ := lts hf
                refine tpi ev21 ?_
                refine lv_istore_n (lv' := [(3, .int v21), (2, .int v19), (0, .ref h), (1, .int x1)]) hx hb dX2_isExplained_78 rfl hl (by decide) rfl (fun ls hl => ?_)
                refine lv_goto (tgt := 4) hx hb dX2_isExplained_79 (by decide) ?_
                exact ih9 _ _ _ hf _ _ _ hP hD hS (lv_sub hl [2, 3, 1, 0] rfl)
              · refine lv_iconst (v := 0) hx hb dX2_isExplained_66 (by decide) ?_
                refine lv_goto (tgt := 78) hx hb dX2_isExplained_67 (by decide) ?_
                refine lv_istore_n (lv' := [(3, .int 0), (2, .int v19), (0, .ref h), (1, .int x1)]) hx hb dX2_isExplained_78 rfl hl (by decide) rfl (fun ls hl => ?_)
                refine lv_goto (tgt := 4) hx hb dX2_isExplained_79 (by decide) ?_
                exact ih9 _ _ _ hf _ _ _ hP hD hS (lv_sub hl [2, 3, 1, 0] rfl)
            · refine lv_aload_n hx hb dX2_isExplained_44 rfl (lv_at hl 0 rfl) ?_
              refine gM28 X hP dX2_isExplained_45 ?_
              refine lv_iload_n hx hb dX2_isExplained_48 rfl (lv_at hl 2 rfl) ?_
              refine lv_iload_n hx hb dX2_isExplained_49 rfl (lv_at hl 3 rfl) ?_
              obtain ⟨c22, ec22, bc22, hf⟩ := wrs hf
              refine sM_cHd X hP hD hS ec22 bc22 dX2_isExplained_50 (fun H locs hP hD hS => ?_)
              obtain ⟨v23, ev23, hf⟩ := lts hf
              refine lv_iinc (v := v23) (lv' := [(2, .int v23), (0, .ref h), (1, .int x1), (3, .int v13)]) hx hb dX2_isExplained_51 hl (k := 2) rfl (by rw [ev23]; rfl) (by decide) rfl (fun ls hl => ?_)
              refine lv_iconst (v := 0) hx hb dX2_isExplained_54 (by decide) ?_
              refine lv_istore_n (lv' := [(3, .int 0), (2, .int v23), (0, .ref h), (1, .int x1)]) hx hb dX2_isExplained_55 rfl hl (by decide) rfl (fun ls hl => ?_)
              refine lv_goto (tgt := 4) hx hb dX2_isExplained_56 (by decide) ?_
              exact ih9 _ _ _ hf _ _ _ hP hD hS (lv_sub hl [2, 3, 1, 0] rfl)
          have hL16 : ∀ (n14 : Nat) (v12 : Int32), M_isExplained_L19 φ x1 v1 cA c3 n14 v12 = some v13 → ∀ (H : Heap) (locs : List Loc) (ls : Array Slot), va_P g.1 vwCl (mW g h ad sTaped sFault sFaultP sAt sPlace sToken sNumber sWord sText0 sWritten sSort0 sPiled sOpens sWhole sOnce sIsW sDied cA cIm cTx cTp cPl cNm cVa cTr cAs cLi cSa c3) H → va_D A (mW g h ad sTaped sFault sFaultP sAt sPlace sToken sNumber sWord sText0 sWritten sSort0 sPiled sOpens sWhole sOnce sIsW sDied cA cIm cTx cTp cPl cNm cVa cTr cAs cLi cSa c3) → va_S A s.heap H locs → lv_has ls 4 [(0, .ref h), (1, .int x1), (2, .int v1), (3, .int v12)] → W p l e ({ frames := 1, cells := 0, slots := 0, locals := 25 } : Room) s m ([.ref h, .int x1] : List Value).toArray below meth c H locs 0 0 (MQ below (QQ g (some (.int r)) (mW g h ad sTaped sFault sFaultP sAt sPlace sToken sNumber sWord sText0 sWritten sSort0 sPiled sOpens sWhole sOnce sIsW sDied cA cIm cTx cTp cPl cNm cVa cTr cAs cLi cSa ncHd) A) ([.ref h, .int x1] : List Value).toArray s 0 0 A) (F0 m 19 ls []) := by
            intro n14
            induction n14 with
            | zero =>
              intro v12 hf
              exact nn hf
            | succ n14 ih17 =>
              intro v12 hf H locs ls hP hD hS hl
              rw [M_isExplained_L19] at hf
              refine lv_iload_n hx hb dX2_isExplained_19 rfl (lv_at hl 3 rfl) ?_
              refine lv_iload_n hx hb dX2_isExplained_20 rfl (lv_at hl 1 rfl) ?_
              refine bc_ge (tgt := 39) hx hb hf dX2_isExplained_21 (by decide) (fun hf => ?_) (fun hf => ?_)
              · cases hf
                exact hE15 _ _ _ hP hD hS (lv_sub hl [0, 1, 2, 3] rfl)
              · refine lv_aload_n hx hb dX2_isExplained_24 rfl (lv_at hl 0 rfl) ?_
                refine lv_iload_n hx hb dX2_isExplained_25 rfl (lv_at hl 2 rfl) ?_
                refine lv_iload_n hx hb dX2_isExplained_26 rfl (lv_at hl 3 rfl) ?_
                obtain ⟨r24, k25, hf⟩ := bd1s hf
                refine cVi (rest := []) X (met_M_canBe k25) gw_X2_X2_canBe dy_X2_canBe ⟨⟨rfl, rfl⟩, Nat.le_of_ble_eq_true rfl, Nat.le_of_ble_eq_true rfl⟩ hP hD hS hl.1 rcM rfl rfl ⟨Nat.zero_le _, Nat.zero_le _⟩ (Nat.le_of_ble_eq_true rfl) dX2_isExplained_27 (fun H locs hP hD hS => ?_)
                refine bq_ne (tgt := 39) hx hb hf dX2_isExplained_30 (by decide) (fun hf => ?_) (fun hf => ?_)
                · cases hf
                  exact hE15 _ _ _ hP hD hS (lv_sub hl [0, 1, 2, 3] rfl)
                · obtain ⟨v26, ev26, hf⟩ := lts hf
                  refine lv_iinc (v := v26) (lv' := [(3, .int v26), (0, .ref h), (1, .int x1), (2, .int v1)]) hx hb dX2_isExplained_33 hl (k := 3) rfl (by rw [ev26]; rfl) (by decide) rfl (fun ls hl => ?_)
                  refine lv_goto (tgt := 19) hx hb dX2_isExplained_36 (by decide) ?_
                  exact ih17 _ hf _ _ _ hP hD hS (lv_sub hl [1, 2, 3, 0] rfl)
          exact hL16 _ _ k18 _ _ _ hP hD hS (lv_sub hl [0, 1, 2, 3] rfl)
  exact hL8 _ _ _ _ k10 _ _ _ hP hD hS (lv_sub hl [2, 3, 1, 0] rfl)
set_option maxHeartbeats 4000000 in
theorem met_M_person {l : Launch} {g : gG} {h : Nat} {ad : Nat → Nat} {sTaped : Int32} {sFault : Int32} {sFaultP : Int32} {sAt : Int32} {sPlace : Int32} {sToken : Int32} {sNumber : Int32} {sWord : Int64} {sText0 : Int32} {sWritten : Int32} {sSort0 : Int32} {sPiled : Int32} {sOpens : Int32} {sWhole : Int32} {sOnce : Int32} {sIsW : Int32} {sDied : Int32} {cA : Nat → Int32} {cIm : Nat → Int32} {cTx : Nat → Int32} {cTp : Nat → Int32} {cPl : Nat → Int32} {cNm : Nat → Int32} {cVa : Nat → Int64} {cTr : Nat → Int32} {cAs : Nat → Int32} {cLi : Nat → Int32} {cSa : Nat → Int32} {cHd : Nat → Int32} {x1 : Int32} {x2 : Int32} {x3 : Int32} {x4 : Int32} {r : Int32} {ncA : Nat → Int32} {φ : Nat} (hf : M_person φ cA x1 x2 x3 x4 = some (r, ncA)) : CC l yX2_person (ws_ yX2_person cX2_person 6 (some .int)) ({ frames := 2, cells := 0, slots := 0, locals := 45 } : Room) g [.ref h, .int x1, .int x2, .int x3, .int x4] (mW g h ad sTaped sFault sFaultP sAt sPlace sToken sNumber sWord sText0 sWritten sSort0 sPiled sOpens sWhole sOnce sIsW sDied cA cIm cTx cTp cPl cNm cVa cTr cAs cLi cSa cHd) (some (.int r)) (mW g h ad sTaped sFault sFaultP sAt sPlace sToken sNumber sWord sText0 sWritten sSort0 sPiled sOpens sWhole sOnce sIsW sDied ncA cIm cTx cTp cPl cNm cVa cTr cAs cLi cSa cHd) 0 0 := by
  refine CC.of RX2 rfl plain_X2 (Nat.le_of_ble_eq_true rfl) (fun p e s m below meth c A ls X hP hD hS hl => ?_)
  have hx := X.1
  have hb := X.2.1
  have hown := X.2.2.2.2.2.1
  have hts := X.2.2.2.2.2.2.1
  have hl : lv_has ls 6 [(0, .ref h), (1, .int x1), (2, .int x2), (3, .int x3), (4, .int x4)] := hl
  unfold M_person at hf
  refine lv_aload_n hx hb dX2_person_0 rfl (lv_at hl 0 rfl) ?_
  refine lv_iload_n hx hb dX2_person_1 rfl (lv_at hl 1 rfl) ?_
  obtain ⟨r1, k2, hf⟩ := bd1s hf
  refine cVi (rest := []) X (met_M_isLand k2) gw_X2_X2_isLand dy_X2_isLand ⟨⟨rfl, rfl⟩, Nat.le_of_ble_eq_true rfl, Nat.le_of_ble_eq_true rfl⟩ hP hD hS hl.1 rcM rfl rfl ⟨Nat.zero_le _, Nat.zero_le _⟩ (Nat.le_of_ble_eq_true rfl) dX2_person_2 (fun H locs hP hD hS => ?_)
  refine bq_eq (tgt := 52) hx hb hf dX2_person_5 (by decide) (fun hf => ?_) (fun hf => ?_)
  · refine lv_iconst (v := (-1)) hx hb dX2_person_52 (by decide) ?_
    cases hf
    exact rI X hP hD hS dX2_person_53
  · refine lv_iload_n hx hb dX2_person_8 rfl (lv_at hl 2 rfl) ?_
    refine lv_iconst (v := 0) hx hb dX2_person_9 (by decide) ?_
    refine lv_bipush (v := 9) hx hb dX2_person_10 (by decide) ?_
    obtain ⟨r3, k4, hf⟩ := bd1s hf
    refine cSi (rest := []) X (met_M_isIn (g := g) k4) gs_X2_X2_isIn dy_X2_isIn ⟨⟨rfl, rfl⟩, Nat.le_of_ble_eq_true rfl, Nat.le_of_ble_eq_true rfl⟩ hP hD hS hl.1 rfl rfl ⟨Nat.zero_le _, Nat.zero_le _⟩ (Nat.le_of_ble_eq_true rfl) dX2_person_12 (fun H locs hP hD hS => ?_)
    refine bq_eq (tgt := 52) hx hb hf dX2_person_15 (by decide) (fun hf => ?_) (fun hf => ?_)
    · refine lv_iconst (v := (-1)) hx hb dX2_person_52 (by decide) ?_
      cases hf
      exact rI X hP hD hS dX2_person_53
    · refine lv_iload_n hx hb dX2_person_18 rfl (lv_at hl 3 rfl) ?_
      refine lv_iconst (v := 0) hx hb dX2_person_19 (by decide) ?_
      refine lv_sipush (v := 9999) hx hb dX2_person_20 (by decide) ?_
      obtain ⟨r5, k6, hf⟩ := bd1s hf
      refine cSi (rest := []) X (met_M_isIn (g := g) k6) gs_X2_X2_isIn dy_X2_isIn ⟨⟨rfl, rfl⟩, Nat.le_of_ble_eq_true rfl, Nat.le_of_ble_eq_true rfl⟩ hP hD hS hl.1 rfl rfl ⟨Nat.zero_le _, Nat.zero_le _⟩ (Nat.le_of_ble_eq_true rfl) dX2_person_23 (fun H locs hP hD hS => ?_)
      refine bq_eq (tgt := 52) hx hb hf dX2_person_26 (by decide) (fun hf => ?_) (fun hf => ?_)
      · refine lv_iconst (v := (-1)) hx hb dX2_person_52 (by decide) ?_
        cases hf
        exact rI X hP hD hS dX2_person_53
      · refine lv_iload hx hb dX2_person_29 (lv_at hl 4 rfl) ?_
        refine lv_iconst (v := 0) hx hb dX2_person_31 (by decide) ?_
        refine lv_sipush (v := 9999) hx hb dX2_person_32 (by decide) ?_
        obtain ⟨r7, k8, hf⟩ := bd1s hf
        refine cSi (rest := []) X (met_M_isIn (g := g) k8) gs_X2_X2_isIn dy_X2_isIn ⟨⟨rfl, rfl⟩, Nat.le_of_ble_eq_true rfl, Nat.le_of_ble_eq_true rfl⟩ hP hD hS hl.1 rfl rfl ⟨Nat.zero_le _, Nat.zero_le _⟩ (Nat.le_of_ble_eq_true rfl) dX2_person_35 (fun H locs hP hD hS => ?_)
        refine bq_eq (tgt := 52) hx hb hf dX2_person_38 (by decide) (fun hf => ?_) (fun hf => ?_)
        · refine lv_iconst (v := (-1)) hx hb dX2_person_52 (by decide) ?_
          cases hf
          exact rI X hP hD hS dX2_person_53
        · refine lv_aload_n hx hb dX2_person_41 rfl (lv_at hl 0 rfl) ?_
          refine gM0 X hP dX2_person_42 ?_
          refine lv_iconst (v := 1) hx hb dX2_person_45 (by decide) ?_
          obtain ⟨v9, ev9, bv9, hf⟩ := rds hf
          refine lM_cA X hP ev9 bv9 dX2_person_46 ?_
          refine lv_bipush (v := 6) hx hb dX2_person_47 (by decide) ?_
          refine bc_ne (tgt := 54) hx hb hf dX2_person_49 (by decide) (fun hf => ?_) (fun hf => ?_)
          · refine lv_aload_n hx hb dX2_person_54 rfl (lv_at hl 0 rfl) ?_
            refine gM0 X hP dX2_person_55 ?_
            refine lv_iconst (v := 1) hx hb dX2_person_58 (by decide) ?_
            obtain ⟨v10, ev10, bv10, hf⟩ := rds hf
            refine lM_cA X hP ev10 bv10 dX2_person_59 ?_
            refine lv_istore (lv' := [(5, .int v10), (0, .ref h), (1, .int x1), (2, .int x2), (3, .int x3), (4, .int x4)]) hx hb dX2_person_60 hl (by decide) rfl (fun ls hl => ?_)
            refine lv_aload_n hx hb dX2_person_62 rfl (lv_at hl 1 rfl) ?_
            refine lv_iload hx hb dX2_person_63 (lv_at hl 0 rfl) ?_
            refine lv_bipush (v := 7) hx hb dX2_person_65 (by decide) ?_
            refine lv_iload_n hx hb dX2_person_67 rfl (lv_at hl 3 rfl) ?_
            obtain ⟨c11, k12, hf⟩ := bd1s hf
            refine cVv (rest := []) X (met_M_put k12) gw_X2_X2_put dy_X2_put ⟨⟨rfl, rfl⟩, Nat.le_of_ble_eq_true rfl, Nat.le_of_ble_eq_true rfl⟩ hP hD hS hl.1 rcM rfl rfl ⟨Nat.zero_le _, Nat.zero_le _⟩ (Nat.le_of_ble_eq_true rfl) dX2_person_68 (fun H locs hP hD hS => ?_)
            refine lv_aload_n hx hb dX2_person_71 rfl (lv_at hl 1 rfl) ?_
            refine lv_iload hx hb dX2_person_72 (lv_at hl 0 rfl) ?_
            refine lv_bipush (v := 8) hx hb dX2_person_74 (by decide) ?_
            refine lv_iload_n hx hb dX2_person_76 rfl (lv_at hl 2 rfl) ?_
            obtain ⟨c13, k14, hf⟩ := bd1s hf
            refine cVv (rest := []) X (met_M_put k14) gw_X2_X2_put dy_X2_put ⟨⟨rfl, rfl⟩, Nat.le_of_ble_eq_true rfl, Nat.le_of_ble_eq_true rfl⟩ hP hD hS hl.1 rcM rfl rfl ⟨Nat.zero_le _, Nat.zero_le _⟩ (Nat.le_of_ble_eq_true rfl) dX2_person_77 (fun H locs hP hD hS => ?_)
            refine lv_aload_n hx hb dX2_person_80 rfl (lv_at hl 1 rfl) ?_
            refine lv_iload hx hb dX2_person_81 (lv_at hl 0 rfl) ?_
            refine lv_bipush (v := 9) hx hb dX2_person_83 (by decide) ?_
            refine lv_iload_n hx hb dX2_person_85 rfl (lv_at hl 4 rfl) ?_
            obtain ⟨c15, k16, hf⟩ := bd1s hf
            refine cVv (rest := []) X (met_M_put k16) gw_X2_X2_put dy_X2_put ⟨⟨rfl, rfl⟩, Nat.le_of_ble_eq_true rfl, Nat.le_of_ble_eq_true rfl⟩ hP hD hS hl.1 rcM rfl rfl ⟨Nat.zero_le _, Nat.zero_le _⟩ (Nat.le_of_ble_eq_true rfl) dX2_person_86 (fun H locs hP hD hS => ?_)
            refine lv_aload_n hx hb dX2_person_89 rfl (lv_at hl 1 rfl) ?_
            refine lv_iload hx hb dX2_person_90 (lv_at hl 0 rfl) ?_
            refine lv_bipush (v := 10) hx hb dX2_person_92 (by decide) ?_
            refine lv_iload hx hb dX2_person_94 (lv_at hl 5 rfl) ?_
            obtain ⟨c17, k18, hf⟩ := bd1s hf
            refine cVv (rest := []) X (met_M_put k18) gw_X2_X2_put dy_X2_put ⟨⟨rfl, rfl⟩, Nat.le_of_ble_eq_true rfl, Nat.le_of_ble_eq_true rfl⟩ hP hD hS hl.1 rcM rfl rfl ⟨Nat.zero_le _, Nat.zero_le _⟩ (Nat.le_of_ble_eq_true rfl) dX2_person_96 (fun H locs hP hD hS => ?_)
            refine lv_aload_n hx hb dX2_person_99 rfl (lv_at hl 1 rfl) ?_
            refine lv_iload hx hb dX2_person_100 (lv_at hl 0 rfl) ?_
            obtain ⟨c19, k20, hf⟩ := bd1s hf
            refine cVv (rest := []) X (met_M_begin k20) gw_X2_X2_begin dy_X2_begin ⟨⟨rfl, rfl⟩, Nat.le_of_ble_eq_true rfl, Nat.le_of_ble_eq_true rfl⟩ hP hD hS hl.1 rcM rfl rfl ⟨Nat.zero_le _, Nat.zero_le _⟩ (Nat.le_of_ble_eq_true rfl) dX2_person_102 (fun H locs hP hD hS => ?_)
            refine lv_aload_n hx hb dX2_person_105 rfl (lv_at hl 1 rfl) ?_
            refine gM0 X hP dX2_person_106 ?_
            refine lv_iconst (v := 1) hx hb dX2_person_109 (by decide) ?_
            refine lv_dup2_11 hx hb dX2_person_110 rfl rfl ?_
            obtain ⟨v21, ev21, bv21, hf⟩ := rds hf
            refine lM_cA X hP ev21 bv21 dX2_person_111 ?_
            refine lv_iconst (v := 1) hx hb dX2_person_112 (by decide) ?_
            refine lv_iadd hx hb dX2_person_113 ?_
            obtain ⟨v22, ev22, hf⟩ := lts hf
            refine tpi ev22 ?_
            obtain ⟨c23, ec23, bc23, hf⟩ := wrs hf
            refine sM_cA X hP hD hS ec23 bc23 dX2_person_114 (fun H locs hP hD hS => ?_)
            refine lv_iload hx hb dX2_person_115 (lv_at hl 0 rfl) ?_
            cases hf
            exact rI X hP hD hS dX2_person_117
          · refine lv_iconst (v := (-1)) hx hb dX2_person_52 (by decide) ?_
            cases hf
            exact rI X hP hD hS dX2_person_53
