/-! WolfsHead.does, played: printed by gen/genp.py -/
abbrev DoE : Type := Int32 × (Nat → Int32) × Int32
/-- a doing among the cells -/
def DoAt (g : gG) (tp : va_W) (r : Nat) (so : Int32) (of : Nat → Int32) (nu : Int32) : Prop := ∃ (k j oa : Nat), tp[k]? = some (r, .inr (16, [.int so, .ref oa, .int nu])) ∧ tp[j]? = some (oa, .inl (g.2 0, 4, .inl of))
/-- the texts' doings -/
def TxDo (g : gG) (tp : va_W) (D : Nat → Option (Nat × (Nat → DoE))) : Prop := ∀ (t : Nat) (d : Nat × (Nat → DoE)), D t = some d → ∃ (k la : Nat) (cl : Int32) (dl : Nat) (f : Nat → Option Nat), tp[k]? = some (t, .inr (4, [.ref la, .int cl, .ref dl])) ∧ ListOK g tp dl d.1 f ∧ ∀ i : Nat, i < d.1 → ∃ y : Nat, f i = some y ∧ DoAt g tp y (d.2 i).1 (d.2 i).2.1 (d.2 i).2.2
theorem plain_X16 : plainName RX16 = true := by decide +kernel
theorem rRa {p : Program} {l : Launch} {e : Env} {R : Room} {s : State} {m : MethodId} {args : Array Value} {below : List Frame} {meth : Method} {c : Code} {H : Heap} {locs : List Loc} {cells slots : Nat} {A : Nat → Prop} {own : String} {cc : ByteArray} {nL : Nat} {g : gG} {ls : Array Slot} {pc : Nat} {ty : FieldType} {v : Nat} {w' : va_W} (X : Cx p s m meth c args own cc nL (some (.array ty)) g A) (hP : va_P g.1 vwCl w' H) (hD : va_D A w') (hS : va_S A s.heap H locs) (hdg : decode cc pc = .ok (.areturn, 1)) : W p l e R s m args below meth c H locs cells slots (MQ below (QQ g (some (.ref v)) w' A) args s cells slots A) (F0 m pc ls [.ref v]) :=
  W.aret X.1 X.2.1 X.2.2.1 (Or.inr ⟨_, rfl⟩) (Or.inr ⟨_, rfl⟩) (fun t ht hW => ⟨⟨rfl, by rw [ht]; exact hP, va_K.moved hW.alike X.2.2.2.2.2.2.2.2, hD⟩, hS.F ht⟩) hS.2.2 hdg X.2.2.2.1
theorem lEn {p : Program} {l : Launch} {e : Env} {R : Room} {s : State} {m : MethodId} {args : Array Value} {below : List Frame} {meth : Method} {c : Code} {H : Heap} {locs : List Loc} {cells slots : Nat} {Q : State → Prop} {A : Nat → Prop} {own : String} {cc : ByteArray} {nL : Nat} {ret : Option FieldType} {g : gG} {ls : Array Slot} {rest : List Value} {pc : Nat} {w : va_W} {i0 va n : Nat} {cV : Nat → Int32} (hv : w[i0]? = some (va, .inl (g.2 0, n, .inl cV))) {i v : Int32} (X : Cx p s m meth c args own cc nL ret g A) (hP : va_P g.1 vwCl w H) (ev : v = cV i.toNatClampNeg) (hin : vp_in i n) (hdg : decode cc pc = .ok (.iaload, 1)) (kk : W p l e R s m args below meth c H locs cells slots Q (F0 m (pc + 1) ls (.int v :: rest))) : W p l e R s m args below meth c H locs cells slots Q (F0 m pc ls (.int i :: .ref va :: rest)) :=
  va_iald X.1 X.2.1 X.2.2.2.2.2.2.2.2 hP i0 0 hv rfl hin hdg (by rw [← ev]; exact kk)
theorem met_D_of {l : Launch} {g : gG} {w : va_W} {k r oa : Nat} {so nu : Int32} (hk : w[k]? = some (r, .inr (16, [.int so, .ref oa, .int nu]))) : CC l yX16_of (ws_ yX16_of cX16_of 1 (some (.array .int))) ({ frames := 0, cells := 0, slots := 0, locals := 0 } : Room) g [.ref r] w (some (.ref oa)) w 0 0 := by
  refine CC.of RX16 rfl plain_X16 (Nat.le_of_ble_eq_true rfl) (fun p e s m below meth c A ls X hP hD hS hl => ?_)
  have hx := X.1
  have hb := X.2.1
  have hl : lv_has ls 1 [(0, .ref r)] := hl
  refine lv_aload_n hx hb dX16_of_0 rfl (lv_at hl 0 rfl) ?_
  refine gF X in_X16 hP k hk rfl 1 (by decide) q871 rfl dX16_of_1 ?_
  exact rRa X hP hD hS dX16_of_4
theorem met_D_sort {l : Launch} {g : gG} {w : va_W} {k r oa : Nat} {so nu : Int32} (hk : w[k]? = some (r, .inr (16, [.int so, .ref oa, .int nu]))) : CC l yX16_sort (ws_ yX16_sort cX16_sort 1 (some .int)) ({ frames := 0, cells := 0, slots := 0, locals := 0 } : Room) g [.ref r] w (some (.int so)) w 0 0 := by
  refine CC.of RX16 rfl plain_X16 (Nat.le_of_ble_eq_true rfl) (fun p e s m below meth c A ls X hP hD hS hl => ?_)
  have hx := X.1
  have hb := X.2.1
  have hl : lv_has ls 1 [(0, .ref r)] := hl
  refine lv_aload_n hx hb dX16_sort_0 rfl (lv_at hl 0 rfl) ?_
  refine gF X in_X16 hP k hk rfl 0 (by decide) q870 rfl dX16_sort_1 ?_
  exact rI X hP hD hS dX16_sort_4
theorem met_D_number {l : Launch} {g : gG} {w : va_W} {k r oa : Nat} {so nu : Int32} (hk : w[k]? = some (r, .inr (16, [.int so, .ref oa, .int nu]))) : CC l yX16_number (ws_ yX16_number cX16_number 1 (some .int)) ({ frames := 0, cells := 0, slots := 0, locals := 0 } : Room) g [.ref r] w (some (.int nu)) w 0 0 := by
  refine CC.of RX16 rfl plain_X16 (Nat.le_of_ble_eq_true rfl) (fun p e s m below meth c A ls X hP hD hS hl => ?_)
  have hx := X.1
  have hb := X.2.1
  have hl : lv_has ls 1 [(0, .ref r)] := hl
  refine lv_aload_n hx hb dX16_number_0 rfl (lv_at hl 0 rfl) ?_
  refine gF X in_X16 hP k hk rfl 2 (by decide) q872 rfl dX16_number_1 ?_
  exact rI X hP hD hS dX16_number_4
noncomputable def X_does (φ : Nat) (cNames : Nat → Int32) (cN : Nat → Int32) (cRow : Nat → Int32) (cFor : Nat → Int32) (cRoad : Nat → Int32) (cFear : Nat → Int32) (cStep : Nat → Nat → Int32) (cText : Nat → Option Nat) (E : Nat → Option (Nat → Option ((Nat → Int32) → Int64))) (zN : Nat) (dSo : Int32) (dOf : Nat → Int32) : Option (Int32 × (Nat → Int32) × (Nat → Int32) × (Nat → Int32) × (Nat → Int32) × (Nat → Int32) × (Nat → Int32) × (Nat → Nat → Int32)) :=
if dSo.toInt < 204 then ((rd dOf 4 0).bind fun v1 =>
bd5 (X_passesAll φ cNames cN cRow cFor cFear cStep cText E zN v1) fun r2 c3 c4 c5 c6 =>
zk r2 (some (r2, c3, c4, c5, cFor, cRoad, cFear, c6))) else if 211 < dSo.toInt then ((rd dOf 4 0).bind fun v1 =>
bd5 (X_passesAll φ cNames cN cRow cFor cFear cStep cText E zN v1) fun r2 c3 c4 c5 c6 =>
zk r2 (some (r2, c3, c4, c5, cFor, cRoad, cFear, c6))) else if dSo = 204 then ((rd dOf 4 0).bind fun v15 =>
bd3 (X_land cN cFor v15) fun r16 c17 c18 =>
if r16 = (-1) then (some (0, cNames, c17, cRow, c18, cRoad, cFear, cStep)) else (some (1, cNames, c17, cRow, c18, cRoad, cFear, cStep))) else if dSo = 205 then ((rd dOf 4 0).bind fun v20 =>
(rd dOf 4 1).bind fun v21 =>
bd2 (X_road cN cRoad v20 v21) fun r22 c23 =>
zk r22 (some (r22, cNames, cN, cRow, cFor, c23, cFear, cStep))) else if dSo = 206 then ((rd dOf 4 0).bind fun v25 =>
(rd dOf 4 1).bind fun v26 =>
(rd dOf 4 2).bind fun v27 =>
(rd dOf 4 3).bind fun v28 =>
bd5 (X_person φ cN cRow cFear cStep v25 v26 v27 v28) fun r29 c30 c31 c32 c33 =>
if r29 = (-1) then (some (0, cNames, c30, c31, cFor, cRoad, c32, c33)) else (some (1, cNames, c30, c31, cFor, cRoad, c32, c33))) else if dSo = 207 then ((rd dOf 4 0).bind fun v35 =>
(rd dOf 4 1).bind fun v36 =>
bd4 (X_call φ cN cRow cStep v35 v36) fun r37 c38 c39 c40 =>
if r37 = (-1) then (some (0, cNames, c38, c39, cFor, cRoad, cFear, c40)) else (some (1, cNames, c38, c39, cFor, cRoad, cFear, c40))) else if dSo = 208 then ((rd dOf 4 0).bind fun v42 =>
(rd dOf 4 1).bind fun v43 =>
bd4 (X_move φ cN cRow cRoad cStep v42 v43) fun r44 c45 c46 c47 =>
zk r44 (some (r44, cNames, c45, c46, cFor, cRoad, cFear, c47))) else if dSo = 209 then ((rd dOf 4 0).bind fun v49 =>
(rd dOf 4 1).bind fun v50 =>
bd5 (X_feeds φ cNames cN cRow cFor cFear cStep cText E zN v49 v50) fun r51 c52 c53 c54 c55 =>
if r51 = (-1) then (some (0, c52, c53, c54, cFor, cRoad, cFear, c55)) else (some (1, c52, c53, c54, cFor, cRoad, cFear, c55))) else if dSo = 210 then ((rd dOf 4 0).bind fun v57 =>
(rd dOf 4 1).bind fun v58 =>
bd4 (X_kill φ cN cRow cStep v57 v58) fun r59 c60 c61 c62 =>
zk r59 (some (r59, cNames, c60, c61, cFor, cRoad, cFear, c62))) else if dSo = 211 then ((rd dOf 4 0).bind fun v64 =>
(rd dOf 4 1).bind fun v65 =>
bd5 (X_pardon φ cNames cN cRow cFor cFear cStep cText E zN v64 v65) fun r66 c67 c68 c69 c70 =>
if r66 = (-1) then (some (0, c67, c68, c69, cFor, cRoad, cFear, c70)) else (some (1, c67, c68, c69, cFor, cRoad, cFear, c70))) else none
theorem gw_X0_X16_of : GoodIn lw_all (wsV RX0 257 RX16 yX16_of (ws_ yX16_of cX16_of 1 (some (.array .int)))) := lw_V q1161 q1162 q1163 q179 q1164
theorem dy_X16_of : Dy yX16_of RX16 0 := by decide +kernel
theorem gw_X0_X16_sort : GoodIn lw_all (wsV RX0 262 RX16 yX16_sort (ws_ yX16_sort cX16_sort 1 (some .int))) := lw_V q1165 q1166 q1167 q179 q1168
theorem dy_X16_sort : Dy yX16_sort RX16 0 := by decide +kernel
theorem gw_X0_X0_passesAll : GoodIn lw_all (wsV RX0 290 RX0 yX0_passesAll (ws_ yX0_passesAll cX0_passesAll 3 (some .boolean))) := lw_V q1177 q1179 qs49 q145 q1180
theorem dy_X0_passesAll : Dy yX0_passesAll RX0 1 := by decide +kernel
theorem gw_X0_X0_land : GoodIn lw_all (wsV RX0 266 RX0 yX0_land (ws_ yX0_land cX0_land 3 (some .int))) := lw_V q1169 q300 q301 q145 q302
theorem dy_X0_land : Dy yX0_land RX0 1 := by decide +kernel
theorem gw_X0_X0_road : GoodIn lw_all (wsV RX0 269 RX0 yX0_road (ws_ yX0_road cX0_road 3 (some .boolean))) := lw_V q1170 q307 q308 q145 q309
theorem dy_X0_road : Dy yX0_road RX0 2 := by decide +kernel
theorem gw_X0_X0_person : GoodIn lw_all (wsV RX0 271 RX0 yX0_person (ws_ yX0_person cX0_person 6 (some .int))) := lw_V q1171 q322 q323 q145 q324
theorem dy_X0_person : Dy yX0_person RX0 4 := by decide +kernel
theorem gw_X0_X0_call : GoodIn lw_all (wsV RX0 275 RX0 yX0_call (ws_ yX0_call cX0_call 3 (some .int))) := lw_V q1172 q1076 q1077 q145 q1078
theorem dy_X0_call : Dy yX0_call RX0 2 := by decide +kernel
theorem gw_X0_X0_move : GoodIn lw_all (wsV RX0 278 RX0 yX0_move (ws_ yX0_move cX0_move 3 (some .boolean))) := lw_V q1173 q1100 q1101 q145 q1102
theorem dy_X0_move : Dy yX0_move RX0 2 := by decide +kernel
theorem gw_X0_X0_feeds : GoodIn lw_all (wsV RX0 281 RX0 yX0_feeds (ws_ yX0_feeds cX0_feeds 3 (some .int))) := lw_V q1174 q1108 q1109 q145 q1110
theorem dy_X0_feeds : Dy yX0_feeds RX0 2 := by decide +kernel
theorem gw_X0_X0_kill : GoodIn lw_all (wsV RX0 284 RX0 yX0_kill (ws_ yX0_kill cX0_kill 3 (some .boolean))) := lw_V q1175 q1120 q1121 q145 q1122
theorem dy_X0_kill : Dy yX0_kill RX0 2 := by decide +kernel
theorem gw_X0_X0_pardon : GoodIn lw_all (wsV RX0 287 RX0 yX0_pardon (ws_ yX0_pardon cX0_pardon 3 (some .int))) := lw_V q1176 q1131 q1132 q145 q1133
theorem dy_X0_pardon : Dy yX0_pardon RX0 2 := by decide +kernel
set_option maxHeartbeats 4000000 in
theorem met_X_does {l : Launch} {g : gG} {h hn hi : Nat} {ad : Nat → Nat} {ra : Nat → Nat → Nat} {z : Nat → Nat} {sTaped : Int32} {sFault : Int32} {sFaultA : Int32} {sWays : Int32} {sMay : Int32} {sMust : Int32} {cTape : Nat → Int32} {cNames : Nat → Int32} {cHead : Nat → Int32} {cSure : Nat → Nat → Int32} {cN : Nat → Int32} {cRow : Nat → Int32} {cTried : Nat → Int32} {cFor : Nat → Int32} {cRoad : Nat → Int32} {cFear : Nat → Int32} {cCall : Nat → Int32} {cUnl : Nat → Int32} {cPaid : Nat → Nat → Int32} {cStep : Nat → Nat → Int32} {cGain : Nat → Nat → Int32} {cText : Nat → Option Nat} {iN : Nat → Int32} {iRow : Nat → Int32} {iFor : Nat → Int32} {iRoad : Nat → Int32} {iFear : Nat → Int32} {iCall : Nat → Int32} {iUnl : Nat → Int32} {iPaid : Nat → Nat → Int32} {iStep : Nat → Nat → Int32} {iGain : Nat → Nat → Int32} {iText : Nat → Option Nat} {tp : va_W} {d : Nat} {dNu : Int32} {dSo : Int32} {dOf : Nat → Int32} {E : Nat → Option (Nat → Option ((Nat → Int32) → Int64))} {zN : Nat} {r : Int32} {ncNames : Nat → Int32} {ncN : Nat → Int32} {ncRow : Nat → Int32} {ncFor : Nat → Int32} {ncRoad : Nat → Int32} {ncFear : Nat → Int32} {ncStep : Nat → Nat → Int32} {φ : Nat} (hzN : zN = z 0) (hT : TxOk g z tp E) (hd9 : DoAt g tp d dSo dOf dNu) (hf : X_does φ cNames cN cRow cFor cRoad cFear cStep cText E zN dSo dOf = some (r, ncNames, ncN, ncRow, ncFor, ncRoad, ncFear, ncStep)) : CX l yX0_does (ws_ yX0_does cX0_does 3 (some .boolean)) ({ frames := 249, cells := 0, slots := 0, locals := 5359 } : Room) g z [.ref h, .ref d] (xW g h hn hi ad ra sTaped sFault sFaultA sWays sMay sMust cTape cNames cHead cSure cN cRow cTried cFor cRoad cFear cCall cUnl cPaid cStep cGain cText iN iRow iFor iRoad iFear iCall iUnl iPaid iStep iGain iText tp) (some (.int r)) (xW g h hn hi ad ra sTaped sFault sFaultA sWays sMay sMust cTape ncNames cHead cSure ncN ncRow cTried ncFor ncRoad ncFear cCall cUnl cPaid ncStep cGain cText iN iRow iFor iRoad iFear iCall iUnl iPaid iStep iGain iText tp) 0 0 := by
  refine CX.of RX0 rfl plain_X0 (Nat.le_of_ble_eq_true rfl) (fun p e s m below meth c A ls X hF hP hD hS hl => ?_)
  have hx := X.1
  have hb := X.2.1
  have hown := X.2.2.2.2.2.1
  have hts := X.2.2.2.2.2.2.1
  have hl : lv_has ls 3 [(0, .ref h), (1, .ref d)] := hl
  unfold X_does at hf
  refine lv_aload_n hx hb dX0_does_0 rfl (lv_at hl 1 rfl) ?_
  obtain ⟨ok, oj, oo, hok, hoj⟩ := hd9
  refine cVr (rest := []) X (met_D_of (g := g) (xat_tp hok)) gw_X0_X16_of dy_X16_of ⟨⟨rfl, rfl⟩, Nat.le_of_ble_eq_true rfl, Nat.le_of_ble_eq_true rfl⟩ hP hD hS hl.1 ⟨_, 16, _, _, _, xat_tp hok, rfl⟩ rfl rfl ⟨Nat.zero_le _, Nat.zero_le _⟩ (Nat.le_of_ble_eq_true rfl) dX0_does_1 (fun H locs hP hD hS => ?_)
  refine lv_astore_n (lv' := [(2, .ref oo), (0, .ref h), (1, .ref d)]) hx hb dX0_does_4 rfl hl (by decide) rfl (fun ls hl => ?_)
  refine lv_aload_n hx hb dX0_does_5 rfl (lv_at hl 2 rfl) ?_
  refine cVi (rest := []) X (met_D_sort (g := g) (xat_tp hok)) gw_X0_X16_sort dy_X16_sort ⟨⟨rfl, rfl⟩, Nat.le_of_ble_eq_true rfl, Nat.le_of_ble_eq_true rfl⟩ hP hD hS hl.1 ⟨_, 16, _, _, _, xat_tp hok, rfl⟩ rfl rfl ⟨Nat.zero_le _, Nat.zero_le _⟩ (Nat.le_of_ble_eq_true rfl) dX0_does_6 (fun H locs hP hD hS => ?_)
  refine swc hf (fun q hf => ?_) (fun q0 hf => ?_)
  · refine lv_tableOut (tgt := 192) hx hb dX0_does_9 (Or.inl q) (by decide) ?_
    refine lv_aload_n hx hb dX0_does_192 rfl (lv_at hl 1 rfl) ?_
    refine lv_aload_n hx hb dX0_does_193 rfl (lv_at hl 0 rfl) ?_
    refine lv_iconst (v := 0) hx hb dX0_does_194 (by decide) ?_
    obtain ⟨v1, ev1, bv1, hf⟩ := rds hf
    refine lEn (xat_tp hoj) X hP ev1 bv1 dX0_does_195 ?_
    obtain ⟨r2, c3, c4, c5, c6, k7, hf⟩ := bd5s hf
    refine xVi (rest := []) X hF (met_X_passesAll hzN hT k7) gw_X0_X0_passesAll dy_X0_passesAll ⟨⟨rfl, rfl⟩, Nat.le_of_ble_eq_true rfl, Nat.le_of_ble_eq_true rfl⟩ hP hD hS hl.1 rcX rfl rfl ⟨Nat.zero_le _, Nat.zero_le _⟩ (Nat.le_of_ble_eq_true rfl) dX0_does_196 (fun H locs hP hD hS => ?_)
    obtain ⟨hz, hf⟩ := zks hf
    cases hf
    exact rZ X hz hP hD hS dX0_does_199
  refine swc hf (fun q hf => ?_) (fun q1 hf => ?_)
  · refine lv_tableOut (tgt := 192) hx hb dX0_does_9 (Or.inr q) (by decide) ?_
    refine lv_aload_n hx hb dX0_does_192 rfl (lv_at hl 1 rfl) ?_
    refine lv_aload_n hx hb dX0_does_193 rfl (lv_at hl 0 rfl) ?_
    refine lv_iconst (v := 0) hx hb dX0_does_194 (by decide) ?_
    obtain ⟨v8, ev8, bv8, hf⟩ := rds hf
    refine lEn (xat_tp hoj) X hP ev8 bv8 dX0_does_195 ?_
    obtain ⟨r9, c10, c11, c12, c13, k14, hf⟩ := bd5s hf
    refine xVi (rest := []) X hF (met_X_passesAll hzN hT k14) gw_X0_X0_passesAll dy_X0_passesAll ⟨⟨rfl, rfl⟩, Nat.le_of_ble_eq_true rfl, Nat.le_of_ble_eq_true rfl⟩ hP hD hS hl.1 rcX rfl rfl ⟨Nat.zero_le _, Nat.zero_le _⟩ (Nat.le_of_ble_eq_true rfl) dX0_does_196 (fun H locs hP hD hS => ?_)
    obtain ⟨hz, hf⟩ := zks hf
    cases hf
    exact rZ X hz hP hD hS dX0_does_199
  refine swc hf (fun q hf => ?_) (fun q2 hf => ?_)
  · refine lv_tableIn (off := 47) (tgt := 56) hx hb dX0_does_9 q0 q1 (by rw [q]; rfl) (by decide) ?_
    refine lv_aload_n hx hb dX0_does_56 rfl (lv_at hl 1 rfl) ?_
    refine lv_aload_n hx hb dX0_does_57 rfl (lv_at hl 0 rfl) ?_
    refine lv_iconst (v := 0) hx hb dX0_does_58 (by decide) ?_
    obtain ⟨v15, ev15, bv15, hf⟩ := rds hf
    refine lEn (xat_tp hoj) X hP ev15 bv15 dX0_does_59 ?_
    obtain ⟨r16, c17, c18, k19, hf⟩ := bd3s hf
    refine xVi (rest := []) X hF (met_X_land k19) gw_X0_X0_land dy_X0_land ⟨⟨rfl, rfl⟩, Nat.le_of_ble_eq_true rfl, Nat.le_of_ble_eq_true rfl⟩ hP hD hS hl.1 rcX rfl rfl ⟨Nat.zero_le _, Nat.zero_le _⟩ (Nat.le_of_ble_eq_true rfl) dX0_does_60 (fun H locs hP hD hS => ?_)
    refine lv_iconst (v := (-1)) hx hb dX0_does_63 (by decide) ?_
    refine bc_eq (tgt := 71) hx hb hf dX0_does_64 (by decide) (fun hf => ?_) (fun hf => ?_)
    · refine lv_iconst (v := 0) hx hb dX0_does_71 (by decide) ?_
      cases hf
      exact rZ X rfl hP hD hS dX0_does_72
    · refine lv_iconst (v := 1) hx hb dX0_does_67 (by decide) ?_
      refine lv_goto (tgt := 72) hx hb dX0_does_68 (by decide) ?_
      cases hf
      exact rZ X rfl hP hD hS dX0_does_72
  refine swc hf (fun q hf => ?_) (fun q2 hf => ?_)
  · refine lv_tableIn (off := 64) (tgt := 73) hx hb dX0_does_9 q0 q1 (by rw [q]; rfl) (by decide) ?_
    refine lv_aload_n hx hb dX0_does_73 rfl (lv_at hl 1 rfl) ?_
    refine lv_aload_n hx hb dX0_does_74 rfl (lv_at hl 0 rfl) ?_
    refine lv_iconst (v := 0) hx hb dX0_does_75 (by decide) ?_
    obtain ⟨v20, ev20, bv20, hf⟩ := rds hf
    refine lEn (xat_tp hoj) X hP ev20 bv20 dX0_does_76 ?_
    refine lv_aload_n hx hb dX0_does_77 rfl (lv_at hl 0 rfl) ?_
    refine lv_iconst (v := 1) hx hb dX0_does_78 (by decide) ?_
    obtain ⟨v21, ev21, bv21, hf⟩ := rds hf
    refine lEn (xat_tp hoj) X hP ev21 bv21 dX0_does_79 ?_
    obtain ⟨r22, c23, k24, hf⟩ := bd2s hf
    refine xVi (rest := []) X hF (met_X_road k24) gw_X0_X0_road dy_X0_road ⟨⟨rfl, rfl⟩, Nat.le_of_ble_eq_true rfl, Nat.le_of_ble_eq_true rfl⟩ hP hD hS hl.1 rcX rfl rfl ⟨Nat.zero_le _, Nat.zero_le _⟩ (Nat.le_of_ble_eq_true rfl) dX0_does_80 (fun H locs hP hD hS => ?_)
    obtain ⟨hz, hf⟩ := zks hf
    cases hf
    exact rZ X hz hP hD hS dX0_does_83
  refine swc hf (fun q hf => ?_) (fun q2 hf => ?_)
  · refine lv_tableIn (off := 75) (tgt := 84) hx hb dX0_does_9 q0 q1 (by rw [q]; rfl) (by decide) ?_
    refine lv_aload_n hx hb dX0_does_84 rfl (lv_at hl 1 rfl) ?_
    refine lv_aload_n hx hb dX0_does_85 rfl (lv_at hl 0 rfl) ?_
    refine lv_iconst (v := 0) hx hb dX0_does_86 (by decide) ?_
    obtain ⟨v25, ev25, bv25, hf⟩ := rds hf
    refine lEn (xat_tp hoj) X hP ev25 bv25 dX0_does_87 ?_
    refine lv_aload_n hx hb dX0_does_88 rfl (lv_at hl 0 rfl) ?_
    refine lv_iconst (v := 1) hx hb dX0_does_89 (by decide) ?_
    obtain ⟨v26, ev26, bv26, hf⟩ := rds hf
    refine lEn (xat_tp hoj) X hP ev26 bv26 dX0_does_90 ?_
    refine lv_aload_n hx hb dX0_does_91 rfl (lv_at hl 0 rfl) ?_
    refine lv_iconst (v := 2) hx hb dX0_does_92 (by decide) ?_
    obtain ⟨v27, ev27, bv27, hf⟩ := rds hf
    refine lEn (xat_tp hoj) X hP ev27 bv27 dX0_does_93 ?_
    refine lv_aload_n hx hb dX0_does_94 rfl (lv_at hl 0 rfl) ?_
    refine lv_iconst (v := 3) hx hb dX0_does_95 (by decide) ?_
    obtain ⟨v28, ev28, bv28, hf⟩ := rds hf
    refine lEn (xat_tp hoj) X hP ev28 bv28 dX0_does_96 ?_
    obtain ⟨r29, c30, c31, c32, c33, k34, hf⟩ := bd5s hf
    refine xVi (rest := []) X hF (met_X_person k34) gw_X0_X0_person dy_X0_person ⟨⟨rfl, rfl⟩, Nat.le_of_ble_eq_true rfl, Nat.le_of_ble_eq_true rfl⟩ hP hD hS hl.1 rcX rfl rfl ⟨Nat.zero_le _, Nat.zero_le _⟩ (Nat.le_of_ble_eq_true rfl) dX0_does_97 (fun H locs hP hD hS => ?_)
    refine lv_iconst (v := (-1)) hx hb dX0_does_100 (by decide) ?_
    refine bc_eq (tgt := 108) hx hb hf dX0_does_101 (by decide) (fun hf => ?_) (fun hf => ?_)
    · refine lv_iconst (v := 0) hx hb dX0_does_108 (by decide) ?_
      cases hf
      exact rZ X rfl hP hD hS dX0_does_109
    · refine lv_iconst (v := 1) hx hb dX0_does_104 (by decide) ?_
      refine lv_goto (tgt := 109) hx hb dX0_does_105 (by decide) ?_
      cases hf
      exact rZ X rfl hP hD hS dX0_does_109
  refine swc hf (fun q hf => ?_) (fun q2 hf => ?_)
  · refine lv_tableIn (off := 101) (tgt := 110) hx hb dX0_does_9 q0 q1 (by rw [q]; rfl) (by decide) ?_
    refine lv_aload_n hx hb dX0_does_110 rfl (lv_at hl 1 rfl) ?_
    refine lv_aload_n hx hb dX0_does_111 rfl (lv_at hl 0 rfl) ?_
    refine lv_iconst (v := 0) hx hb dX0_does_112 (by decide) ?_
    obtain ⟨v35, ev35, bv35, hf⟩ := rds hf
    refine lEn (xat_tp hoj) X hP ev35 bv35 dX0_does_113 ?_
    refine lv_aload_n hx hb dX0_does_114 rfl (lv_at hl 0 rfl) ?_
    refine lv_iconst (v := 1) hx hb dX0_does_115 (by decide) ?_
    obtain ⟨v36, ev36, bv36, hf⟩ := rds hf
    refine lEn (xat_tp hoj) X hP ev36 bv36 dX0_does_116 ?_
    obtain ⟨r37, c38, c39, c40, k41, hf⟩ := bd4s hf
    refine xVi (rest := []) X hF (met_X_call k41) gw_X0_X0_call dy_X0_call ⟨⟨rfl, rfl⟩, Nat.le_of_ble_eq_true rfl, Nat.le_of_ble_eq_true rfl⟩ hP hD hS hl.1 rcX rfl rfl ⟨Nat.zero_le _, Nat.zero_le _⟩ (Nat.le_of_ble_eq_true rfl) dX0_does_117 (fun H locs hP hD hS => ?_)
    refine lv_iconst (v := (-1)) hx hb dX0_does_120 (by decide) ?_
    refine bc_eq (tgt := 128) hx hb hf dX0_does_121 (by decide) (fun hf => ?_) (fun hf => ?_)
    · refine lv_iconst (v := 0) hx hb dX0_does_128 (by decide) ?_
      cases hf
      exact rZ X rfl hP hD hS dX0_does_129
    · refine lv_iconst (v := 1) hx hb dX0_does_124 (by decide) ?_
      refine lv_goto (tgt := 129) hx hb dX0_does_125 (by decide) ?_
      cases hf
      exact rZ X rfl hP hD hS dX0_does_129
  refine swc hf (fun q hf => ?_) (fun q2 hf => ?_)
  · refine lv_tableIn (off := 121) (tgt := 130) hx hb dX0_does_9 q0 q1 (by rw [q]; rfl) (by decide) ?_
    refine lv_aload_n hx hb dX0_does_130 rfl (lv_at hl 1 rfl) ?_
    refine lv_aload_n hx hb dX0_does_131 rfl (lv_at hl 0 rfl) ?_
    refine lv_iconst (v := 0) hx hb dX0_does_132 (by decide) ?_
    obtain ⟨v42, ev42, bv42, hf⟩ := rds hf
    refine lEn (xat_tp hoj) X hP ev42 bv42 dX0_does_133 ?_
    refine lv_aload_n hx hb dX0_does_134 rfl (lv_at hl 0 rfl) ?_
    refine lv_iconst (v := 1) hx hb dX0_does_135 (by decide) ?_
    obtain ⟨v43, ev43, bv43, hf⟩ := rds hf
    refine lEn (xat_tp hoj) X hP ev43 bv43 dX0_does_136 ?_
    obtain ⟨r44, c45, c46, c47, k48, hf⟩ := bd4s hf
    refine xVi (rest := []) X hF (met_X_move k48) gw_X0_X0_move dy_X0_move ⟨⟨rfl, rfl⟩, Nat.le_of_ble_eq_true rfl, Nat.le_of_ble_eq_true rfl⟩ hP hD hS hl.1 rcX rfl rfl ⟨Nat.zero_le _, Nat.zero_le _⟩ (Nat.le_of_ble_eq_true rfl) dX0_does_137 (fun H locs hP hD hS => ?_)
    obtain ⟨hz, hf⟩ := zks hf
    cases hf
    exact rZ X hz hP hD hS dX0_does_140
  refine swc hf (fun q hf => ?_) (fun q2 hf => ?_)
  · refine lv_tableIn (off := 132) (tgt := 141) hx hb dX0_does_9 q0 q1 (by rw [q]; rfl) (by decide) ?_
    refine lv_aload_n hx hb dX0_does_141 rfl (lv_at hl 1 rfl) ?_
    refine lv_aload_n hx hb dX0_does_142 rfl (lv_at hl 0 rfl) ?_
    refine lv_iconst (v := 0) hx hb dX0_does_143 (by decide) ?_
    obtain ⟨v49, ev49, bv49, hf⟩ := rds hf
    refine lEn (xat_tp hoj) X hP ev49 bv49 dX0_does_144 ?_
    refine lv_aload_n hx hb dX0_does_145 rfl (lv_at hl 0 rfl) ?_
    refine lv_iconst (v := 1) hx hb dX0_does_146 (by decide) ?_
    obtain ⟨v50, ev50, bv50, hf⟩ := rds hf
    refine lEn (xat_tp hoj) X hP ev50 bv50 dX0_does_147 ?_
    obtain ⟨r51, c52, c53, c54, c55, k56, hf⟩ := bd5s hf
    refine xVi (rest := []) X hF (met_X_feeds hzN hT k56) gw_X0_X0_feeds dy_X0_feeds ⟨⟨rfl, rfl⟩, Nat.le_of_ble_eq_true rfl, Nat.le_of_ble_eq_true rfl⟩ hP hD hS hl.1 rcX rfl rfl ⟨Nat.zero_le _, Nat.zero_le _⟩ (Nat.le_of_ble_eq_true rfl) dX0_does_148 (fun H locs hP hD hS => ?_)
    refine lv_iconst (v := (-1)) hx hb dX0_does_151 (by decide) ?_
    refine bc_eq (tgt := 159) hx hb hf dX0_does_152 (by decide) (fun hf => ?_) (fun hf => ?_)
    · refine lv_iconst (v := 0) hx hb dX0_does_159 (by decide) ?_
      cases hf
      exact rZ X rfl hP hD hS dX0_does_160
    · refine lv_iconst (v := 1) hx hb dX0_does_155 (by decide) ?_
      refine lv_goto (tgt := 160) hx hb dX0_does_156 (by decide) ?_
      cases hf
      exact rZ X rfl hP hD hS dX0_does_160
  refine swc hf (fun q hf => ?_) (fun q2 hf => ?_)
  · refine lv_tableIn (off := 152) (tgt := 161) hx hb dX0_does_9 q0 q1 (by rw [q]; rfl) (by decide) ?_
    refine lv_aload_n hx hb dX0_does_161 rfl (lv_at hl 1 rfl) ?_
    refine lv_aload_n hx hb dX0_does_162 rfl (lv_at hl 0 rfl) ?_
    refine lv_iconst (v := 0) hx hb dX0_does_163 (by decide) ?_
    obtain ⟨v57, ev57, bv57, hf⟩ := rds hf
    refine lEn (xat_tp hoj) X hP ev57 bv57 dX0_does_164 ?_
    refine lv_aload_n hx hb dX0_does_165 rfl (lv_at hl 0 rfl) ?_
    refine lv_iconst (v := 1) hx hb dX0_does_166 (by decide) ?_
    obtain ⟨v58, ev58, bv58, hf⟩ := rds hf
    refine lEn (xat_tp hoj) X hP ev58 bv58 dX0_does_167 ?_
    obtain ⟨r59, c60, c61, c62, k63, hf⟩ := bd4s hf
    refine xVi (rest := []) X hF (met_X_kill k63) gw_X0_X0_kill dy_X0_kill ⟨⟨rfl, rfl⟩, Nat.le_of_ble_eq_true rfl, Nat.le_of_ble_eq_true rfl⟩ hP hD hS hl.1 rcX rfl rfl ⟨Nat.zero_le _, Nat.zero_le _⟩ (Nat.le_of_ble_eq_true rfl) dX0_does_168 (fun H locs hP hD hS => ?_)
    obtain ⟨hz, hf⟩ := zks hf
    cases hf
    exact rZ X hz hP hD hS dX0_does_171
  refine swc hf (fun q hf => ?_) (fun q2 hf => ?_)
  · refine lv_tableIn (off := 163) (tgt := 172) hx hb dX0_does_9 q0 q1 (by rw [q]; rfl) (by decide) ?_
    refine lv_aload_n hx hb dX0_does_172 rfl (lv_at hl 1 rfl) ?_
    refine lv_aload_n hx hb dX0_does_173 rfl (lv_at hl 0 rfl) ?_
    refine lv_iconst (v := 0) hx hb dX0_does_174 (by decide) ?_
    obtain ⟨v64, ev64, bv64, hf⟩ := rds hf
    refine lEn (xat_tp hoj) X hP ev64 bv64 dX0_does_175 ?_
    refine lv_aload_n hx hb dX0_does_176 rfl (lv_at hl 0 rfl) ?_
    refine lv_iconst (v := 1) hx hb dX0_does_177 (by decide) ?_
    obtain ⟨v65, ev65, bv65, hf⟩ := rds hf
    refine lEn (xat_tp hoj) X hP ev65 bv65 dX0_does_178 ?_
    obtain ⟨r66, c67, c68, c69, c70, k71, hf⟩ := bd5s hf
    refine xVi (rest := []) X hF (met_X_pardon hzN hT k71) gw_X0_X0_pardon dy_X0_pardon ⟨⟨rfl, rfl⟩, Nat.le_of_ble_eq_true rfl, Nat.le_of_ble_eq_true rfl⟩ hP hD hS hl.1 rcX rfl rfl ⟨Nat.zero_le _, Nat.zero_le _⟩ (Nat.le_of_ble_eq_true rfl) dX0_does_179 (fun H locs hP hD hS => ?_)
    refine lv_iconst (v := (-1)) hx hb dX0_does_182 (by decide) ?_
    refine bc_eq (tgt := 190) hx hb hf dX0_does_183 (by decide) (fun hf => ?_) (fun hf => ?_)
    · refine lv_iconst (v := 0) hx hb dX0_does_190 (by decide) ?_
      cases hf
      exact rZ X rfl hP hD hS dX0_does_191
    · refine lv_iconst (v := 1) hx hb dX0_does_186 (by decide) ?_
      refine lv_goto (tgt := 191) hx hb dX0_does_187 (by decide) ?_
      cases hf
      exact rZ X rfl hP hD hS dX0_does_191
  exact nn hf
noncomputable def X_played_L26 (φ : Nat) (cText : Nat → Option Nat) (E : Nat → Option (Nat → Option ((Nat → Int32) → Int64))) (zN : Nat) (c5 : Nat) (c6 : Nat → DoE) : Nat → Int32 → (Nat → Int32) → (Nat → Int32) → (Nat → Int32) → (Nat → Int32) → (Nat → Int32) → (Nat → Int32) → (Nat → Nat → Int32) → Option (Int32 × (Nat → Int32) × (Nat → Int32) × (Nat → Int32) × (Nat → Int32) × (Nat → Int32) × (Nat → Int32) × (Nat → Nat → Int32))
  | 0, _, _, _, _, _, _, _, _ => none
  | n15 + 1, v7, c8, c9, c10, c11, c12, c13, c14 =>
    if (nI c5) ≤ v7 then (some ((-1), c8, c9, c10, c11, c12, c13, c14)) else (inb v7 c5 (
    bd8 (X_does φ c8 c9 c10 c11 c12 c13 c14 cText E zN ((c6 (v7 : Int32).toNatClampNeg).1) ((c6 (v7 : Int32).toNatClampNeg).2.1)) fun r22 c23 c24 c25 c26 c27 c28 c29 =>
    if r22 = 0 then (inb v7 c5 (
    some ((c6 (v7 : Int32).toNatClampNeg).2.2, c23, c24, c25, c26, c27, c28, c29))) else (lt ((v7 + 1) : Int32) fun v31 =>
    X_played_L26 φ cText E zN c5 c6 n15 v31 c23 c24 c25 c26 c27 c28 c29)))
noncomputable def X_played (φ : Nat) (cNames : Nat → Int32) (cN : Nat → Int32) (cRow : Nat → Int32) (cFor : Nat → Int32) (cRoad : Nat → Int32) (cFear : Nat → Int32) (cStep : Nat → Nat → Int32) (cText : Nat → Option Nat) (E : Nat → Option (Nat → Option ((Nat → Int32) → Int64))) (zN : Nat) (DD : Nat → Option (Nat × (Nat → DoE))) (x1 : Int32) : Option (Int32 × (Nat → Int32) × (Nat → Int32) × (Nat → Int32) × (Nat → Int32) × (Nat → Int32) × (Nat → Int32) × (Nat → Nat → Int32)) :=
bd1 (X_isText cN x1) fun r1 =>
if r1 = 0 then (some ((-2), cNames, cN, cRow, cFor, cRoad, cFear, cStep)) else ((rdq cText 4 x1).bind fun v3 =>
(DD v3).bind fun v4 =>
lt (v4.1 : Nat) fun c5 =>
lt (v4.2 : Nat → DoE) fun c6 =>
X_played_L26 φ cText E zN c5 c6 φ 0 cNames cN cRow cFor cRoad cFear cStep)
theorem gw_X0_J2_size : GoodIn lw_all (wsV RX0 297 RJ2 yJ2_size (ws_ yJ2_size cJ2_size 1 (some .int))) := lw_V q1154 q708 q709 q153 q710
theorem gw_X0_J2_get : GoodIn lw_all (wsV RX0 302 RJ2 yJ2_get (ws_ yJ2_get cJ2_get 2 (some (.object "java/lang/Object")))) := lw_V q1155 q712 q713 q153 q714
theorem gw_X0_X0_does : GoodIn lw_all (wsV RX0 306 RX0 yX0_does (ws_ yX0_does cX0_does 3 (some .boolean))) := lw_V q1157 q1159 qs48 q145 q1160
theorem dy_X0_does : Dy yX0_does RX0 1 := by decide +kernel
theorem gw_X0_X16_number : GoodIn lw_all (wsV RX0 310 RX16 yX16_number (ws_ yX16_number cX16_number 1 (some .int))) := lw_V q1182 q1183 q1184 q179 q1185
theorem dy_X16_number : Dy yX16_number RX16 0 := by decide +kernel
set_option maxHeartbeats 4000000 in
theorem met_X_played {l : Launch} {g : gG} {h hn hi : Nat} {ad : Nat → Nat} {ra : Nat → Nat → Nat} {z : Nat → Nat} {sTaped : Int32} {sFault : Int32} {sFaultA : Int32} {sWays : Int32} {sMay : Int32} {sMust : Int32} {cTape : Nat → Int32} {cNames : Nat → Int32} {cHead : Nat → Int32} {cSure : Nat → Nat → Int32} {cN : Nat → Int32} {cRow : Nat → Int32} {cTried : Nat → Int32} {cFor : Nat → Int32} {cRoad : Nat → Int32} {cFear : Nat → Int32} {cCall : Nat → Int32} {cUnl : Nat → Int32} {cPaid : Nat → Nat → Int32} {cStep : Nat → Nat → Int32} {cGain : Nat → Nat → Int32} {cText : Nat → Option Nat} {iN : Nat → Int32} {iRow : Nat → Int32} {iFor : Nat → Int32} {iRoad : Nat → Int32} {iFear : Nat → Int32} {iCall : Nat → Int32} {iUnl : Nat → Int32} {iPaid : Nat → Nat → Int32} {iStep : Nat → Nat → Int32} {iGain : Nat → Nat → Int32} {iText : Nat → Option Nat} {tp : va_W} {DD : Nat → Option (Nat × (Nat → DoE))} {E : Nat → Option (Nat → Option ((Nat → Int32) → Int64))} {zN : Nat} {x1 : Int32} {r : Int32} {ncNames : Nat → Int32} {ncN : Nat → Int32} {ncRow : Nat → Int32} {ncFor : Nat → Int32} {ncRoad : Nat → Int32} {ncFear : Nat → Int32} {ncStep : Nat → Nat → Int32} {φ : Nat} (hDo : TxDo g tp DD) (hzN : zN = z 0) (hT : TxOk g z tp E) (hf : X_played φ cNames cN cRow cFor cRoad cFear cStep cText E zN DD x1 = some (r, ncNames, ncN, ncRow, ncFor, ncRoad, ncFear, ncStep)) : CX l yX0_played (ws_ yX0_played cX0_played 4 (some .int)) ({ frames := 250, cells := 0, slots := 0, locals := 5381 } : Room) g z [.ref h, .int x1] (xW g h hn hi ad ra sTaped sFault sFaultA sWays sMay sMust cTape cNames cHead cSure cN cRow cTried cFor cRoad cFear cCall cUnl cPaid cStep cGain cText iN iRow iFor iRoad iFear iCall iUnl iPaid iStep iGain iText tp) (some (.int r)) (xW g h hn hi ad ra sTaped sFault sFaultA sWays sMay sMust cTape ncNames cHead cSure ncN ncRow cTried ncFor ncRoad ncFear cCall cUnl cPaid ncStep cGain cText iN iRow iFor iRoad iFear iCall iUnl iPaid iStep iGain iText tp) 0 0 := by
  refine CX.of RX0 rfl plain_X0 (Nat.le_of_ble_eq_true rfl) (fun p e s m below meth c A ls X hF hP hD hS hl => ?_)
  have hx := X.1
  have hb := X.2.1
  have hown := X.2.2.2.2.2.1
  have hts := X.2.2.2.2.2.2.1
  have hl : lv_has ls 4 [(0, .ref h), (1, .int x1)] := hl
  unfold X_played at hf
  refine lv_aload_n hx hb dX0_played_0 rfl (lv_at hl 0 rfl) ?_
  refine lv_iload_n hx hb dX0_played_1 rfl (lv_at hl 1 rfl) ?_
  obtain ⟨r1, k2, hf⟩ := bd1s hf
  refine xVi (rest := []) X hF (met_X_isText k2) gw_X0_X0_isText dy_X0_isText ⟨⟨rfl, rfl⟩, Nat.le_of_ble_eq_true rfl, Nat.le_of_ble_eq_true rfl⟩ hP hD hS hl.1 rcX rfl rfl ⟨Nat.zero_le _, Nat.zero_le _⟩ (Nat.le_of_ble_eq_true rfl) dX0_played_2 (fun H locs hP hD hS => ?_)
  refine bq_ne (tgt := 11) hx hb hf dX0_played_5 (by decide) (fun hf => ?_) (fun hf => ?_)
  · refine lv_aload_n hx hb dX0_played_11 rfl (lv_at hl 0 rfl) ?_
    refine gX_X0_this_now X hP dX0_played_12 ?_
    refine gX_X0_now_text X hF hP dX0_played_15 ?_
    refine lv_iload_n hx hb dX0_played_18 rfl (lv_at hl 1 rfl) ?_
    obtain ⟨v3, ev3, bv3, hf⟩ := rdqs hf
    refine lX_cText X hP ev3 bv3 dX0_played_19 ?_
    obtain ⟨v4, ev4, hf⟩ := bs hf
    obtain ⟨tk, tla, tcl, tdl, tf, htk, htl, hte⟩ := hDo _ _ ev4
    obtain ⟨c5, ec5, hf⟩ := lts hf
    obtain ⟨c6, ec6, hf⟩ := lts hf
    rw [← ec5] at htl hte
    rw [← ec6] at hte
    obtain ⟨qk, qj, qea, qn, qmc, hqk, hqj, hqn, hqm⟩ := htl
    refine gN X hF in_X4 hP _ (xat_tp htk) rfl 2 (by decide) 16 rfl rfl dX0_played_20 ?_
    refine lv_astore_n (lv' := [(2, .ref tdl), (0, .ref h), (1, .int x1)]) hx hb dX0_played_23 rfl hl (by decide) rfl (fun ls hl => ?_)
    refine lv_iconst (v := 0) hx hb dX0_played_24 (by decide) ?_
    refine lv_istore_n (lv' := [(3, .int 0), (2, .ref tdl), (0, .ref h), (1, .int x1)]) hx hb dX0_played_25 rfl hl (by decide) rfl (fun ls hl => ?_)
    have hL17 : ∀ (n15 : Nat) (v7 : Int32) (c8 : Nat → Int32) (c9 : Nat → Int32) (c10 : Nat → Int32) (c11 : Nat → Int32) (c12 : Nat → Int32) (c13 : Nat → Int32) (c14 : Nat → Nat → Int32), X_played_L26 φ cText E zN c5 c6 n15 v7 c8 c9 c10 c11 c12 c13 c14 = some (r, ncNames, ncN, ncRow, ncFor, ncRoad, ncFear, ncStep) → ∀ (H : Heap) (locs : List Loc) (ls : Array Slot), va_P g.1 vwCl (xW g h hn hi ad ra sTaped sFault sFaultA sWays sMay sMust cTape c8 cHead cSure c9 c10 cTried c11 c12 c13 cCall cUnl cPaid c14 cGain cText iN iRow iFor iRoad iFear iCall iUnl iPaid iStep iGain iText tp) H → va_D A (xW g h hn hi ad ra sTaped sFault sFaultA sWays sMay sMust cTape c8 cHead cSure c9 c10 cTried c11 c12 c13 cCall cUnl cPaid c14 cGain cText iN iRow iFor iRoad iFear iCall iUnl iPaid iStep iGain iText tp) → va_S A s.heap H locs → lv_has ls 4 [(0, .ref h), (2, .ref tdl), (3, .int v7)] → W p l e ({ frames := 250, cells := 0, slots := 0, locals := 5381 } : Room) s m ([.ref h, .int x1] : List Value).toArray below meth c H locs 0 0 (MQ below (QQ g (some (.int r)) (xW g h hn hi ad ra sTaped sFault sFaultA sWays sMay sMust cTape ncNames cHead cSure ncN ncRow cTried ncFor ncRoad ncFear cCall cUnl cPaid ncStep cGain cText iN iRow iFor iRoad iFear iCall iUnl iPaid iStep iGain iText tp) A) ([.ref h, .int x1] : List Value).toArray s 0 0 A) (F0 m 26 ls []) := by
      intro n15
      induction n15 with
      | zero =>
        intro v7 c8 c9 c10 c11 c12 c13 c14 hf
        exact nn hf
      | succ n15 ih18 =>
        intro v7 c8 c9 c10 c11 c12 c13 c14 hf H locs ls hP hD hS hl
        rw [X_played_L26] at hf
        refine lv_iload_n hx hb dX0_played_26 rfl (lv_at hl 2 rfl) ?_
        refine lv_aload_n hx hb dX0_played_27 rfl (lv_at hl 1 rfl) ?_
        refine cVi (rest := [.int v7]) X (met_size (g := g) (xat_tp hqk)) gw_X0_J2_size dy_J2_size ⟨⟨rfl, rfl⟩, Nat.le_of_ble_eq_true rfl, Nat.le_of_ble_eq_true rfl⟩ hP hD hS hl.1 ⟨_, 17, _, _, _, xat_tp hqk, rfl⟩ rfl rfl ⟨Nat.zero_le _, Nat.zero_le _⟩ (Nat.le_of_ble_eq_true rfl) dX0_played_28 (fun H locs hP hD hS => ?_)
        refine bc_ge (tgt := 67) hx hb hf dX0_played_31 (by decide) (fun hf => ?_) (fun hf => ?_)
        · refine lv_iconst (v := (-1)) hx hb dX0_played_67 (by decide) ?_
          cases hf
          exact rI X hP hD hS dX0_played_68
        · refine lv_aload_n hx hb dX0_played_34 rfl (lv_at hl 0 rfl) ?_
          refine lv_aload_n hx hb dX0_played_35 rfl (lv_at hl 1 rfl) ?_
          refine lv_iload_n hx hb dX0_played_36 rfl (lv_at hl 2 rfl) ?_
          obtain ⟨b20, hf⟩ := inbs hf
          obtain ⟨y21, hy21, oy21⟩ := hte _ (vp_lt b20)
          have o9 := oy21
          obtain ⟨yk, yj, yo, hyk, hyj⟩ := o9
          refine cVr (rest := [.ref h]) X (met_get (g := g) (xat_tp hqk) (xat_tp hqj) (vpn b20 hqn hqm).1 (vpn b20 hqn hqm).2.1 (vpn b20 hqn hqm).2.2 hy21) gw_X0_J2_get dy_J2_get ⟨⟨rfl, rfl⟩, Nat.le_of_ble_eq_true rfl, Nat.le_of_ble_eq_true rfl⟩ hP hD hS hl.1 ⟨_, 17, _, _, _, xat_tp hqk, rfl⟩ rfl rfl ⟨Nat.zero_le _, Nat.zero_le _⟩ (Nat.le_of_ble_eq_true rfl) dX0_played_37 (fun H locs hP hD hS => ?_)
          refine va_castE X.1 X.2.1 X.2.2.2.2.2.1 (X.2.2.2.2.2.2.1 _ q1156) (va_recv X.2.2.2.2.2.2.2.2 hP (ci := 16) rfl (xat_tp hyk)) dX0_played_40 ?_
          have hd9 := oy21
          obtain ⟨r22, c23, c24, c25, c26, c27, c28, c29, k30, hf⟩ := bd8s hf
          refine xVi (rest := []) X hF (met_X_does hzN hT hd9 k30) gw_X0_X0_does dy_X0_does ⟨⟨rfl, rfl⟩, Nat.le_of_ble_eq_true rfl, Nat.le_of_ble_eq_true rfl⟩ hP hD hS hl.1 rcX rfl rfl ⟨Nat.zero_le _, Nat.zero_le _⟩ (Nat.le_of_ble_eq_true rfl) dX0_played_43 (fun H locs hP hD hS => ?_)
          refine bq_ne (tgt := 61) hx hb hf dX0_played_46 (by decide) (fun hf => ?_) (fun hf => ?_)
          · obtain ⟨v31, ev31, hf⟩ := lts hf
            refine lv_iinc (v := v31) (lv' := [(3, .int v31), (0, .ref h), (2, .ref tdl)]) hx hb dX0_played_61 hl (k := 2) rfl (by rw [ev31]; rfl) (by decide) rfl (fun ls hl => ?_)
            refine lv_goto (tgt := 26) hx hb dX0_played_64 (by decide) ?_
            exact ih18 _ _ _ _ _ _ _ _ hf _ _ _ hP hD hS (lv_sub hl [1, 2, 0] rfl)
          · refine lv_aload_n hx hb dX0_played_49 rfl (lv_at hl 1 rfl) ?_
            refine lv_iload_n hx hb dX0_played_50 rfl (lv_at hl 2 rfl) ?_
            obtain ⟨b32, hf⟩ := inbs hf
            obtain ⟨y33, hy33, oy33⟩ := hte _ (vp_lt b32)
            have o9 := oy33
            obtain ⟨yk, yj, yo, hyk, hyj⟩ := o9
            refine cVr (rest := []) X (met_get (g := g) (xat_tp hqk) (xat_tp hqj) (vpn b32 hqn hqm).1 (vpn b32 hqn hqm).2.1 (vpn b32 hqn hqm).2.2 hy33) gw_X0_J2_get dy_J2_get ⟨⟨rfl, rfl⟩, Nat.le_of_ble_eq_true rfl, Nat.le_of_ble_eq_true rfl⟩ hP hD hS hl.1 ⟨_, 17, _, _, _, xat_tp hqk, rfl⟩ rfl rfl ⟨Nat.zero_le _, Nat.zero_le _⟩ (Nat.le_of_ble_eq_true rfl) dX0_played_51 (fun H locs hP hD hS => ?_)
            refine va_castE X.1 X.2.1 X.2.2.2.2.2.1 (X.2.2.2.2.2.2.1 _ q1156) (va_recv X.2.2.2.2.2.2.2.2 hP (ci := 16) rfl (xat_tp hyk)) dX0_played_54 ?_
            refine cVi (rest := []) X (met_D_number (g := g) (xat_tp hyk)) gw_X0_X16_number dy_X16_number ⟨⟨rfl, rfl⟩, Nat.le_of_ble_eq_true rfl, Nat.le_of_ble_eq_true rfl⟩ hP hD hS hl.1 ⟨_, 16, _, _, _, xat_tp hyk, rfl⟩ rfl rfl ⟨Nat.zero_le _, Nat.zero_le _⟩ (Nat.le_of_ble_eq_true rfl) dX0_played_57 (fun H locs hP hD hS => ?_)
            cases hf
            exact rI X hP hD hS dX0_played_60
    exact hL17 _ _ _ _ _ _ _ _ _ hf _ _ _ hP hD hS (lv_sub hl [2, 1, 0] rfl)
  · refine lv_bipush (v := (-2)) hx hb dX0_played_8 (by decide) ?_
    cases hf
    exact rI X hP hD hS dX0_played_10
