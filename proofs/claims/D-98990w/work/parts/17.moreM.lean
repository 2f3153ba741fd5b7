/-! the model's copies of its row -/
theorem cSWv {p : Program} {l : Launch} {e : Env} {R : Room} {s : State} {m : MethodId} {args : Array Value} {below : List Frame} {meth : Method} {c : Code} {H : Heap} {locs : List Loc} {cells slots : Nat} {Q : State → Prop} {A : Nat → Prop} {own : String} {cc : ByteArray} {nL : Nat} {ret : Option FieldType} {g : gG} {ls : Array Slot} {st0 rest : List Value} {pc : Nat} {y : MethodName} {cy : ByteArray} {nLy : Nat} {rety : Option FieldType} {rmy : Room} {As : List Value} {w w' : va_W} {C : String} {index n : Nat} (X : Cx p s m meth c args own cc nL ret g A) (hM : CC l y (ws_ y cy nLy rety) rmy g As w none w' 0 0) (hG : GoodIn lw_all (va_wsS own index y (ws_ y cy nLy rety))) (hd : Dy y C n) (hR : Ry rmy R nLy 0 0) (hP : va_P g.1 vwCl w H) (hD : va_D A w) (hS : va_S A s.heap H locs) (hl : ls.size = nL) (hn : As.length = n) (hst : st0 = As.reverse ++ rest) (hf : cells ≤ R.cells ∧ slots ≤ R.slots) (hw : (rest.map fun v => v.category).sum ≤ 8) (hdg : decode cc pc = .ok (.invokestatic index, 3))
    (kk : ∀ (H1 : Heap) (locs1 : List Loc), va_P g.1 vwCl w' H1 → va_D A w' → va_S A s.heap H1 locs1 → W p l e R s m args below meth c H1 locs1 cells slots Q (F0 m (pc + 3) ls rest)) : W p l e R s m args below meth c H locs cells slots Q (F0 m pc ls st0) :=
  cS0 (wf := []) X hM hG hd hR hf (by rw [List.append_nil]; exact hP) (by rw [List.append_nil]; exact hD) hS hn hl hst hw hdg (fun H1 locs1 h1 h2 h3 => kk H1 locs1 (by rw [List.append_nil] at h1; exact h1) (by rw [List.append_nil] at h2; exact h2) h3)
noncomputable def M_copyI_L2 (φ : Nat) (cA : Nat → Int32) : Nat → Int32 → (Nat → Int32) → Option ((Nat → Int32))
  | 0, _, _ => none
  | n4 + 1, v1, c2 =>
    if 8762 ≤ v1 then (some c2) else ((rd cA 8762 v1).bind fun v9 =>
    (wr c2 8762 v1 v9).bind fun c10 =>
    lt ((v1 + 1) : Int32) fun v11 =>
    M_copyI_L2 φ cA n4 v11 c10)
noncomputable def M_copyI (φ : Nat) (cA : Nat → Int32) (cIm : Nat → Int32) : Option ((Nat → Int32)) :=
bd1 (M_copyI_L2 φ cA φ 0 cIm) fun c3 =>
some c3
noncomputable def M_copyB_L2 (φ : Nat) (cIm : Nat → Int32) : Nat → Int32 → (Nat → Int32) → Option ((Nat → Int32))
  | 0, _, _ => none
  | n4 + 1, v1, c2 =>
    if 8762 ≤ v1 then (some c2) else ((rd cIm 8762 v1).bind fun v9 =>
    (wr c2 8762 v1 v9).bind fun c10 =>
    lt ((v1 + 1) : Int32) fun v11 =>
    M_copyB_L2 φ cIm n4 v11 c10)
noncomputable def M_copyB (φ : Nat) (cA : Nat → Int32) (cIm : Nat → Int32) : Option ((Nat → Int32)) :=
bd1 (M_copyB_L2 φ cIm φ 0 cA) fun c3 =>
some c3
noncomputable def M_image (φ : Nat) (cA : Nat → Int32) (cIm : Nat → Int32) : Option (Int32 × (Nat → Int32)) :=
bd1 (M_copyI φ cA cIm) fun c1 =>
(rd cA 8762 10).bind fun v3 =>
some (v3, c1)
noncomputable def M_back (φ : Nat) (cA : Nat → Int32) (cIm : Nat → Int32) : Option (Int32 × (Nat → Int32)) :=
bd1 (M_copyB φ cA cIm) fun c1 =>
(rd c1 8762 10).bind fun v3 =>
some (v3, c1)
set_option maxHeartbeats 4000000 in
theorem met_M_copyI {l : Launch} {g : gG} {h : Nat} {ad : Nat → Nat} {sTaped : Int32} {sFault : Int32} {sFaultP : Int32} {sAt : Int32} {sPlace : Int32} {sToken : Int32} {sNumber : Int32} {sWord : Int64} {sText0 : Int32} {sWritten : Int32} {sSort0 : Int32} {sPiled : Int32} {sOpens : Int32} {sWhole : Int32} {sOnce : Int32} {sIsW : Int32} {sDied : Int32} {cA : Nat → Int32} {cIm : Nat → Int32} {cTx : Nat → Int32} {cTp : Nat → Int32} {cPl : Nat → Int32} {cNm : Nat → Int32} {cVa : Nat → Int64} {cTr : Nat → Int32} {cAs : Nat → Int32} {cLi : Nat → Int32} {cSa : Nat → Int32} {cHd : Nat → Int32} {ncIm : Nat → Int32} {φ : Nat} (hf : M_copyI φ cA cIm = some ncIm) : CC l yX2_copy (ws_ yX2_copy cX2_copy 3 none) ({ frames := 0, cells := 0, slots := 0, locals := 0 } : Room) g [.ref (ad 0), .ref (ad 1)] (mW g h ad sTaped sFault sFaultP sAt sPlace sToken sNumber sWord sText0 sWritten sSort0 sPiled sOpens sWhole sOnce sIsW sDied cA cIm cTx cTp cPl cNm cVa cTr cAs cLi cSa cHd) none (mW g h ad sTaped sFault sFaultP sAt sPlace sToken sNumber sWord sText0 sWritten sSort0 sPiled sOpens sWhole sOnce sIsW sDied cA ncIm cTx cTp cPl cNm cVa cTr cAs cLi cSa cHd) 0 0 := by
  refine CC.of RX2 rfl plain_X2 (Nat.le_of_ble_eq_true rfl) (fun p e s m below meth c A ls X hP hD hS hl => ?_)
  have hx := X.1
  have hb := X.2.1
  have hown := X.2.2.2.2.2.1
  have hts := X.2.2.2.2.2.2.1
  have hl : lv_has ls 3 [(0, .ref (ad 0)), (1, .ref (ad 1))] := hl
  unfold M_copyI at hf
  refine lv_iconst (v := 0) hx hb dX2_copy_0 (by decide) ?_
  refine lv_istore_n (lv' := [(2, .int 0), (0, .ref (ad 0)), (1, .ref (ad 1))]) hx hb dX2_copy_1 rfl hl (by decide) rfl (fun ls hl => ?_)
  obtain ⟨c3, k8, hf⟩ := bd1s hf
  have hE5 : ∀ (H : Heap) (locs : List Loc) (ls : Array Slot), va_P g.1 vwCl (mW g h ad sTaped sFault sFaultP sAt sPlace sToken sNumber sWord sText0 sWritten sSort0 sPiled sOpens sWhole sOnce sIsW sDied cA c3 cTx cTp cPl cNm cVa cTr cAs cLi cSa cHd) H → va_D A (mW g h ad sTaped sFault sFaultP sAt sPlace sToken sNumber sWord sText0 sWritten sSort0 sPiled sOpens sWhole sOnce sIsW sDied cA c3 cTx cTp cPl cNm cVa cTr cAs cLi cSa cHd) → va_S A s.heap H locs → lv_has ls 3 [] → W p l e ({ frames := 0, cells := 0, slots := 0, locals := 0 } : Room) s m ([.ref (ad 0), .ref (ad 1)] : List Value).toArray below meth c H locs 0 0 (MQ below (QQ g none (mW g h ad sTaped sFault sFaultP sAt sPlace sToken sNumber sWord sText0 sWritten sSort0 sPiled sOpens sWhole sOnce sIsW sDied cA ncIm cTx cTp cPl cNm cVa cTr cAs cLi cSa cHd) A) ([.ref (ad 0), .ref (ad 1)] : List Value).toArray s 0 0 A) (F0 m 21 ls []) := by
    intro H locs ls hP hD hS hl
    cases hf
    exact rV X hP hD hS dX2_copy_21
  have hL6 : ∀ (n4 : Nat) (v1 : Int32) (c2 : Nat → Int32), M_copyI_L2 φ cA n4 v1 c2 = some c3 → ∀ (H : Heap) (locs : List Loc) (ls : Array Slot), va_P g.1 vwCl (mW g h ad sTaped sFault sFaultP sAt sPlace sToken sNumber sWord sText0 sWritten sSort0 sPiled sOpens sWhole sOnce sIsW sDied cA c2 cTx cTp cPl cNm cVa cTr cAs cLi cSa cHd) H → va_D A (mW g h ad sTaped sFault sFaultP sAt sPlace sToken sNumber sWord sText0 sWritten sSort0 sPiled sOpens sWhole sOnce sIsW sDied cA c2 cTx cTp cPl cNm cVa cTr cAs cLi cSa cHd) → va_S A s.heap H locs → lv_has ls 3 [(0, .ref (ad 0)), (1, .ref (ad 1)), (2, .int v1)] → W p l e ({ frames := 0, cells := 0, slots := 0, locals := 0 } : Room) s m ([.ref (ad 0), .ref (ad 1)] : List Value).toArray below meth c H locs 0 0 (MQ below (QQ g none (mW g h ad sTaped sFault sFaultP sAt sPlace sToken sNumber sWord sText0 sWritten sSort0 sPiled sOpens sWhole sOnce sIsW sDied cA ncIm cTx cTp cPl cNm cVa cTr cAs cLi cSa cHd) A) ([.ref (ad 0), .ref (ad 1)] : List Value).toArray s 0 0 A) (F0 m 2 ls []) := by
    intro n4
    induction n4 with
    | zero =>
      intro v1 c2 hf
      exact nn hf
    | succ n4 ih7 =>
      intro v1 c2 hf H locs ls hP hD hS hl
      rw [M_copyI_L2] at hf
      refine lv_iload_n hx hb dX2_copy_2 rfl (lv_at hl 2 rfl) ?_
      refine lv_sipush (v := 8762) hx hb dX2_copy_3 (by decide) ?_
      refine bc_ge (tgt := 21) hx hb hf dX2_copy_6 (by decide) (fun hf => ?_) (fun hf => ?_)
      · cases hf
        exact hE5 _ _ _ hP hD hS (lv_sub hl [] rfl)
      · refine lv_aload_n hx hb dX2_copy_9 rfl (lv_at hl 1 rfl) ?_
        refine lv_iload_n hx hb dX2_copy_10 rfl (lv_at hl 2 rfl) ?_
        refine lv_aload_n hx hb dX2_copy_11 rfl (lv_at hl 0 rfl) ?_
        refine lv_iload_n hx hb dX2_copy_12 rfl (lv_at hl 2 rfl) ?_
        obtain ⟨v9, ev9, bv9, hf⟩ := rds hf
        refine lM_cA X hP ev9 bv9 dX2_copy_13 ?_
        obtain ⟨c10, ec10, bc10, hf⟩ := wrs hf
        refine sM_cIm X hP hD hS ec10 bc10 dX2_copy_14 (fun H locs hP hD hS => ?_)
        obtain ⟨v11, ev11, hf⟩ := lts hf
        refine lv_iinc (v := v11) (lv' := [(2, .int v11), (0, .ref (ad 0)), (1, .ref (ad 1))]) hx hb dX2_copy_15 hl (k := 2) rfl (by rw [ev11]; rfl) (by decide) rfl (fun ls hl => ?_)
        refine lv_goto (tgt := 2) hx hb dX2_copy_18 (by decide) ?_
        exact ih7 _ _ hf _ _ _ hP hD hS (lv_sub hl [1, 2, 0] rfl)
  exact hL6 _ _ _ k8 _ _ _ hP hD hS (lv_sub hl [1, 2, 0] rfl)
set_option maxHeartbeats 4000000 in
theorem met_M_copyB {l : Launch} {g : gG} {h : Nat} {ad : Nat → Nat} {sTaped : Int32} {sFault : Int32} {sFaultP : Int32} {sAt : Int32} {sPlace : Int32} {sToken : Int32} {sNumber : Int32} {sWord : Int64} {sText0 : Int32} {sWritten : Int32} {sSort0 : Int32} {sPiled : Int32} {sOpens : Int32} {sWhole : Int32} {sOnce : Int32} {sIsW : Int32} {sDied : Int32} {cA : Nat → Int32} {cIm : Nat → Int32} {cTx : Nat → Int32} {cTp : Nat → Int32} {cPl : Nat → Int32} {cNm : Nat → Int32} {cVa : Nat → Int64} {cTr : Nat → Int32} {cAs : Nat → Int32} {cLi : Nat → Int32} {cSa : Nat → Int32} {cHd : Nat → Int32} {ncA : Nat → Int32} {φ : Nat} (hf : M_copyB φ cA cIm = some ncA) : CC l yX2_copy (ws_ yX2_copy cX2_copy 3 none) ({ frames := 0, cells := 0, slots := 0, locals := 0 } : Room) g [.ref (ad 1), .ref (ad 0)] (mW g h ad sTaped sFault sFaultP sAt sPlace sToken sNumber sWord sText0 sWritten sSort0 sPiled sOpens sWhole sOnce sIsW sDied cA cIm cTx cTp cPl cNm cVa cTr cAs cLi cSa cHd) none (mW g h ad sTaped sFault sFaultP sAt sPlace sToken sNumber sWord sText0 sWritten sSort0 sPiled sOpens sWhole sOnce sIsW sDied ncA cIm cTx cTp cPl cNm cVa cTr cAs cLi cSa cHd) 0 0 := by
  refine CC.of RX2 rfl plain_X2 (Nat.le_of_ble_eq_true rfl) (fun p e s m below meth c A ls X hP hD hS hl => ?_)
  have hx := X.1
  have hb := X.2.1
  have hown := X.2.2.2.2.2.1
  have hts := X.2.2.2.2.2.2.1
  have hl : lv_has ls 3 [(0, .ref (ad 1)), (1, .ref (ad 0))] := hl
  unfold M_copyB at hf
  refine lv_iconst (v := 0) hx hb dX2_copy_0 (by decide) ?_
  refine lv_istore_n (lv' := [(2, .int 0), (0, .ref (ad 1)), (1, .ref (ad 0))]) hx hb dX2_copy_1 rfl hl (by decide) rfl (fun ls hl => ?_)
  obtain ⟨c3, k8, hf⟩ := bd1s hf
  have hE5 : ∀ (H : Heap) (locs : List Loc) (ls : Array Slot), va_P g.1 vwCl (mW g h ad sTaped sFault sFaultP sAt sPlace sToken sNumber sWord sText0 sWritten sSort0 sPiled sOpens sWhole sOnce sIsW sDied c3 cIm cTx cTp cPl cNm cVa cTr cAs cLi cSa cHd) H → va_D A (mW g h ad sTaped sFault sFaultP sAt sPlace sToken sNumber sWord sText0 sWritten sSort0 sPiled sOpens sWhole sOnce sIsW sDied c3 cIm cTx cTp cPl cNm cVa cTr cAs cLi cSa cHd) → va_S A s.heap H locs → lv_has ls 3 [] → W p l e ({ frames := 0, cells := 0, slots := 0, locals := 0 } : Room) s m ([.ref (ad 1), .ref (ad 0)] : List Value).toArray below meth c H locs 0 0 (MQ below (QQ g none (mW g h ad sTaped sFault sFaultP sAt sPlace sToken sNumber sWord sText0 sWritten sSort0 sPiled sOpens sWhole sOnce sIsW sDied ncA cIm cTx cTp cPl cNm cVa cTr cAs cLi cSa cHd) A) ([.ref (ad 1), .ref (ad 0)] : List Value).toArray s 0 0 A) (F0 m 21 ls []) := by
    intro H locs ls hP hD hS hl
    cases hf
    exact rV X hP hD hS dX2_copy_21
  have hL6 : ∀ (n4 : Nat) (v1 : Int32) (c2 : Nat → Int32), M_copyB_L2 φ cIm n4 v1 c2 = some c3 → ∀ (H : Heap) (locs : List Loc) (ls : Array Slot), va_P g.1 vwCl (mW g h ad sTaped sFault sFaultP sAt sPlace sToken sNumber sWord sText0 sWritten sSort0 sPiled sOpens sWhole sOnce sIsW sDied c2 cIm cTx cTp cPl cNm cVa cTr cAs cLi cSa cHd) H → va_D A (mW g h ad sTaped sFault sFaultP sAt sPlace sToken sNumber sWord sText0 sWritten sSort0 sPiled sOpens sWhole sOnce sIsW sDied c2 cIm cTx cTp cPl cNm cVa cTr cAs cLi cSa cHd) → va_S A s.heap H locs → lv_has ls 3 [(0, .ref (ad 1)), (1, .ref (ad 0)), (2, .int v1)] → W p l e ({ frames := 0, cells := 0, slots := 0, locals := 0 } : Room) s m ([.ref (ad 1), .ref (ad 0)] : List Value).toArray below meth c H locs 0 0 (MQ below (QQ g none (mW g h ad sTaped sFault sFaultP sAt sPlace sToken sNumber sWord sText0 sWritten sSort0 sPiled sOpens sWhole sOnce sIsW sDied ncA cIm cTx cTp cPl cNm cVa cTr cAs cLi cSa cHd) A) ([.ref (ad 1), .ref (ad 0)] : List Value).toArray s 0 0 A) (F0 m 2 ls []) := by
    intro n4
    induction n4 with
    | zero =>
      intro v1 c2 hf
      exact nn hf
    | succ n4 ih7 =>
      intro v1 c2 hf H locs ls hP hD hS hl
      rw [M_copyB_L2] at hf
      refine lv_iload_n hx hb dX2_copy_2 rfl (lv_at hl 2 rfl) ?_
      refine lv_sipush (v := 8762) hx hb dX2_copy_3 (by decide) ?_
      refine bc_ge (tgt := 21) hx hb hf dX2_copy_6 (by decide) (fun hf => ?_) (fun hf => ?_)
      · cases hf
        exact hE5 _ _ _ hP hD hS (lv_sub hl [] rfl)
      · refine lv_aload_n hx hb dX2_copy_9 rfl (lv_at hl 1 rfl) ?_
        refine lv_iload_n hx hb dX2_copy_10 rfl (lv_at hl 2 rfl) ?_
        refine lv_aload_n hx hb dX2_copy_11 rfl (lv_at hl 0 rfl) ?_
        refine lv_iload_n hx hb dX2_copy_12 rfl (lv_at hl 2 rfl) ?_
        obtain ⟨v9, ev9, bv9, hf⟩ := rds hf
        refine lM_cIm X hP ev9 bv9 dX2_copy_13 ?_
        obtain ⟨c10, ec10, bc10, hf⟩ := wrs hf
        refine sM_cA X hP hD hS ec10 bc10 dX2_copy_14 (fun H locs hP hD hS => ?_)
        obtain ⟨v11, ev11, hf⟩ := lts hf
        refine lv_iinc (v := v11) (lv' := [(2, .int v11), (0, .ref (ad 1)), (1, .ref (ad 0))]) hx hb dX2_copy_15 hl (k := 2) rfl (by rw [ev11]; rfl) (by decide) rfl (fun ls hl => ?_)
        refine lv_goto (tgt := 2) hx hb dX2_copy_18 (by decide) ?_
        exact ih7 _ _ hf _ _ _ hP hD hS (lv_sub hl [1, 2, 0] rfl)
  exact hL6 _ _ _ k8 _ _ _ hP hD hS (lv_sub hl [1, 2, 0] rfl)
theorem gs_X2_X2_copy : GoodIn lw_all (va_wsS RX2 59 yX2_copy (ws_ yX2_copy cX2_copy 3 none)) := lw_S q1398 q1399 q148 q1400
theorem dy_X2_copy : Dy yX2_copy RX2 2 := by decide +kernel
set_option maxHeartbeats 4000000 in
theorem met_M_image {l : Launch} {g : gG} {h : Nat} {ad : Nat → Nat} {sTaped : Int32} {sFault : Int32} {sFaultP : Int32} {sAt : Int32} {sPlace : Int32} {sToken : Int32} {sNumber : Int32} {sWord : Int64} {sText0 : Int32} {sWritten : Int32} {sSort0 : Int32} {sPiled : Int32} {sOpens : Int32} {sWhole : Int32} {sOnce : Int32} {sIsW : Int32} {sDied : Int32} {cA : Nat → Int32} {cIm : Nat → Int32} {cTx : Nat → Int32} {cTp : Nat → Int32} {cPl : Nat → Int32} {cNm : Nat → Int32} {cVa : Nat → Int64} {cTr : Nat → Int32} {cAs : Nat → Int32} {cLi : Nat → Int32} {cSa : Nat → Int32} {cHd : Nat → Int32} {r : Int32} {ncIm : Nat → Int32} {φ : Nat} (hf : M_image φ cA cIm = some (r, ncIm)) : CC l yX2_image (ws_ yX2_image cX2_image 1 (some .int)) ({ frames := 1, cells := 0, slots := 0, locals := 22 } : Room) g [.ref h] (mW g h ad sTaped sFault sFaultP sAt sPlace sToken sNumber sWord sText0 sWritten sSort0 sPiled sOpens sWhole sOnce sIsW sDied cA cIm cTx cTp cPl cNm cVa cTr cAs cLi cSa cHd) (some (.int r)) (mW g h ad sTaped sFault sFaultP sAt sPlace sToken sNumber sWord sText0 sWritten sSort0 sPiled sOpens sWhole sOnce sIsW sDied cA ncIm cTx cTp cPl cNm cVa cTr cAs cLi cSa cHd) 0 0 := by
  refine CC.of RX2 rfl plain_X2 (Nat.le_of_ble_eq_true rfl) (fun p e s m below meth c A ls X hP hD hS hl => ?_)
  have hx := X.1
  have hb := X.2.1
  have hown := X.2.2.2.2.2.1
  have hts := X.2.2.2.2.2.2.1
  have hl : lv_has ls 1 [(0, .ref h)] := hl
  unfold M_image at hf
  refine lv_aload_n hx hb dX2_image_0 rfl (lv_at hl 0 rfl) ?_
  refine gM0 X hP dX2_image_1 ?_
  refine lv_aload_n hx hb dX2_image_4 rfl (lv_at hl 0 rfl) ?_
  refine gM1 X hP dX2_image_5 ?_
  obtain ⟨c1, k2, hf⟩ := bd1s hf
  refine cSWv (rest := []) X (met_M_copyI k2) gs_X2_X2_copy dy_X2_copy ⟨⟨rfl, rfl⟩, Nat.le_of_ble_eq_true rfl, Nat.le_of_ble_eq_true rfl⟩ hP hD hS hl.1 rfl rfl ⟨Nat.zero_le _, Nat.zero_le _⟩ (Nat.le_of_ble_eq_true rfl) dX2_image_8 (fun H locs hP hD hS => ?_)
  refine lv_aload_n hx hb dX2_image_11 rfl (lv_at hl 0 rfl) ?_
  refine gM0 X hP dX2_image_12 ?_
  refine lv_bipush (v := 10) hx hb dX2_image_15 (by decide) ?_
  obtain ⟨v3, ev3, bv3, hf⟩ := rds hf
  refine lM_cA X hP ev3 bv3 dX2_image_17 ?_
  cases hf
  exact rI X hP hD hS dX2_image_18
set_option maxHeartbeats 4000000 in
theorem met_M_back {l : Launch} {g : gG} {h : Nat} {ad : Nat → Nat} {sTaped : Int32} {sFault : Int32} {sFaultP : Int32} {sAt : Int32} {sPlace : Int32} {sToken : Int32} {sNumber : Int32} {sWord : Int64} {sText0 : Int32} {sWritten : Int32} {sSort0 : Int32} {sPiled : Int32} {sOpens : Int32} {sWhole : Int32} {sOnce : Int32} {sIsW : Int32} {sDied : Int32} {cA : Nat → Int32} {cIm : Nat → Int32} {cTx : Nat → Int32} {cTp : Nat → Int32} {cPl : Nat → Int32} {cNm : Nat → Int32} {cVa : Nat → Int64} {cTr : Nat → Int32} {cAs : Nat → Int32} {cLi : Nat → Int32} {cSa : Nat → Int32} {cHd : Nat → Int32} {r : Int32} {ncA : Nat → Int32} {φ : Nat} (hf : M_back φ cA cIm = some (r, ncA)) : CC l yX2_back (ws_ yX2_back cX2_back 1 (some .int)) ({ frames := 1, cells := 0, slots := 0, locals := 22 } : Room) g [.ref h] (mW g h ad sTaped sFault sFaultP sAt sPlace sToken sNumber sWord sText0 sWritten sSort0 sPiled sOpens sWhole sOnce sIsW sDied cA cIm cTx cTp cPl cNm cVa cTr cAs cLi cSa cHd) (some (.int r)) (mW g h ad sTaped sFault sFaultP sAt sPlace sToken sNumber sWord sText0 sWritten sSort0 sPiled sOpens sWhole sOnce sIsW sDied ncA cIm cTx cTp cPl cNm cVa cTr cAs cLi cSa cHd) 0 0 := by
  refine CC.of RX2 rfl plain_X2 (Nat.le_of_ble_eq_true rfl) (fun p e s m below meth c A ls X hP hD hS hl => ?_)
  have hx := X.1
  have hb := X.2.1
  have hown := X.2.2.2.2.2.1
  have hts := X.2.2.2.2.2.2.1
  have hl : lv_has ls 1 [(0, .ref h)] := hl
  unfold M_back at hf
  refine lv_aload_n hx hb dX2_back_0 rfl (lv_at hl 0 rfl) ?_
  refine gM1 X hP dX2_back_1 ?_
  refine lv_aload_n hx hb dX2_back_4 rfl (lv_at hl 0 rfl) ?_
  refine gM0 X hP dX2_back_5 ?_
  obtain ⟨c1, k2, hf⟩ := bd1s hf
  refine cSWv (rest := []) X (met_M_copyB k2) gs_X2_X2_copy dy_X2_copy ⟨⟨rfl, rfl⟩, Nat.le_of_ble_eq_true rfl, Nat.le_of_ble_eq_true rfl⟩ hP hD hS hl.1 rfl rfl ⟨Nat.zero_le _, Nat.zero_le _⟩ (Nat.le_of_ble_eq_true rfl) dX2_back_8 (fun H locs hP hD hS => ?_)
  refine lv_aload_n hx hb dX2_back_11 rfl (lv_at hl 0 rfl) ?_
  refine gM0 X hP dX2_back_12 ?_
  refine lv_bipush (v := 10) hx hb dX2_back_15 (by decide) ?_
  obtain ⟨v3, ev3, bv3, hf⟩ := rds hf
  refine lM_cA X hP ev3 bv3 dX2_back_17 ?_
  cases hf
  exact rI X hP hD hS dX2_back_18
