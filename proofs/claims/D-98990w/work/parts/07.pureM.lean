/-! WolfsHeadModel: the pure form of its methods, printed by gen/genm.py -/
noncomputable def M_isIn (x0 : Int32) (x1 : Int32) (x2 : Int32) : Option Int32 :=
if x0 < x1 then (some 0) else (if x2 < x0 then (some 0) else (some 1))
noncomputable def M_isLand (cA : Nat → Int32) (x1 : Int32) : Option Int32 :=
(rd cA 8762 0).bind fun v1 =>
bd1 (M_isIn x1 0 (v1 - 1)) fun r2 =>
zk r2 (some r2)
noncomputable def M_isWith (x0 : Int32) (x1 : Int32) : Option Int32 :=
if ((x0 >>> (x1 &&& 31)) &&& 1) = 1 then (some 1) else (some 0)
noncomputable def M_put (cA : Nat → Int32) (x1 : Int32) (x2 : Int32) (x3 : Int32) : Option ((Nat → Int32)) :=
(wr cA 8762 ((14 + (11 * x1)) + x2) x3).bind fun c1 =>
some c1
noncomputable def M_get (cA : Nat → Int32) (x1 : Int32) (x2 : Int32) : Option Int32 :=
(rd cA 8762 ((14 + (11 * x1)) + x2)).bind fun v1 =>
some v1
noncomputable def M_four_L3 (φ : Nat) (x1 : Int32) : Nat → Int32 → Int32 → (Nat → Int32) → Option (Int32 × (Nat → Int32))
  | 0, _, _, _ => none
  | n6 + 1, v1, c2, c3 =>
    if v1 < 0 then (some (c2, c3)) else (lt (((x1 >>> (v1 &&& 31)) &&& 255) : Int32) fun v11 =>
    (wr c3 300 c2 v11).bind fun c12 =>
    lt ((c2 + 1) : Int32) fun v13 =>
    lt ((v1 + (-8)) : Int32) fun v14 =>
    M_four_L3 φ x1 n6 v14 v13 c12)
noncomputable def M_four (φ : Nat) (sTaped : Int32) (cTp : Nat → Int32) (x1 : Int32) : Option (Int32 × (Nat → Int32)) :=
bd2 (M_four_L3 φ x1 φ 24 sTaped cTp) fun c4 c5 =>
some (c4, c5)
noncomputable def M_end (sTaped : Int32) (x1 : Int32) : Option (Int32 × Int32) :=
bd1 (M_isIn x1 0 sTaped) fun r1 =>
if r1 = 0 then (some ((-1), sTaped)) else (some (x1, x1))
noncomputable def M_byteAt (sTaped : Int32) (cTp : Nat → Int32) (x1 : Int32) : Option Int32 :=
if sTaped ≤ x1 then (some (-1)) else ((rd cTp 300 x1).bind fun v1 =>
some v1)
noncomputable def M_isFigure (x0 : Int32) : Option Int32 :=
if x0 < 48 then (some 0) else (if 57 < x0 then (some 0) else (some 1))
noncomputable def M_isLetterByte (x0 : Int32) : Option Int32 :=
jn ((if x0 < 65 then (some 0) else (if 90 < x0 then (some 0) else (some 1)) : Option Int32)) fun k1 =>
if x0 < 97 then (k1) else (if x0 ≤ 122 then (some 1) else (k1))
noncomputable def M_isSign (x0 : Int32) : Option Int32 :=
if x0.toInt < 35 then (some 0) else if 62 < x0.toInt then (some 0) else if x0 = 35 then (some 1) else if x0 = 36 then (some 0) else if x0 = 37 then (some 0) else if x0 = 38 then (some 0) else if x0 = 39 then (some 0) else if x0 = 40 then (some 1) else if x0 = 41 then (some 1) else if x0 = 42 then (some 1) else if x0 = 43 then (some 1) else if x0 = 44 then (some 0) else if x0 = 45 then (some 1) else if x0 = 46 then (some 0) else if x0 = 47 then (some 1) else if x0 = 48 then (some 0) else if x0 = 49 then (some 0) else if x0 = 50 then (some 0) else if x0 = 51 then (some 0) else if x0 = 52 then (some 0) else if x0 = 53 then (some 0) else if x0 = 54 then (some 0) else if x0 = 55 then (some 0) else if x0 = 56 then (some 0) else if x0 = 57 then (some 0) else if x0 = 58 then (some 1) else if x0 = 59 then (some 1) else if x0 = 60 then (some 1) else if x0 = 61 then (some 1) else if x0 = 62 then (some 1) else none
noncomputable def M_w2 (x0 : Int32) (x1 : Int32) : Option Int64 :=
some ((((x0 : Int32).toInt64) <<< ((8 : Int32).toInt64 &&& 63)) ||| ((x1 : Int32).toInt64))
noncomputable def M_isWord (sToken : Int32) (sWord : Int64) (x1 : Int64) : Option Int32 :=
if sToken = 2 then (if (lg_cmp sWord x1) = 0 then (some 1) else (some 0)) else (some 0)
noncomputable def M_openAt_L7 (φ : Nat) (cPl : Nat → Int32) : Nat → Int32 → Option Int32
  | 0, _ => none
  | n4 + 1, v2 =>
    if v2 < 0 then (some v2) else ((rd cPl 160 v2).bind fun v9 =>
    if 40 ≤ v9 then (some v2) else (lt ((v2 + (-1)) : Int32) fun v10 =>
    M_openAt_L7 φ cPl n4 v10))
noncomputable def M_openAt (φ : Nat) (sPiled : Int32) (cPl : Nat → Int32) : Option Int32 :=
lt ((sPiled - 1) : Int32) fun v1 =>
bd1 (M_openAt_L7 φ cPl φ v1) fun v3 =>
some v3
noncomputable def M_rank (x0 : Int32) : Option Int32 :=
if x0 < 40 then (if x0 = 22 then (some 1) else (if x0 = 21 then (some 2) else (if x0 = 20 then (some 3) else (if x0 < 10 then (if x0 = 5 then (some 7) else (if x0 = 2 then (some 7) else (if x0 = 3 then (some 7) else (if x0 < 8 then (some 5) else (some 6))))) else (some 4))))) else (some 0)
noncomputable def M_compareOf (sToken : Int32) : Option Int32 :=
if sToken = 60 then (some 10) else (if sToken = 4 then (some 11) else (if sToken = 62 then (some 12) else (if sToken = 5 then (some 13) else (if sToken = 61 then (some 14) else (if sToken = 35 then (some 15) else (some (-1)))))))
noncomputable def M_emit (sText0 : Int32) (sWritten : Int32) (cTx : Nat → Int32) (x1 : Int32) (x2 : Int32) : Option (Int32 × (Nat → Int32)) :=
(wr cTx 2916 ((sText0 + 121) + (2 * sWritten)) x1).bind fun c1 =>
(wr c1 2916 (((sText0 + 121) + (2 * sWritten)) + 1) x2).bind fun c2 =>
lt ((sWritten + 1) : Int32) fun v3 =>
some (v3, c2)
noncomputable def M_isOf (sSort0 : Int32) (x1 : Int32) : Option Int32 :=
if 5 ≤ x1 then (if 7 ≤ x1 then (if 9 ≤ x1 then (if sSort0 = 1 then (some 1) else (if sSort0 = 3 then (some 1) else (some 0))) else (if sSort0 < 2 then (some 0) else (some 1))) else (if sSort0 = 3 then (some 0) else (some 1))) else (some 1)
noncomputable def M_fault (sFault : Int32) (sFaultP : Int32) (x1 : Int32) : Option Int32 :=
if x1 = 0 then (some sFault) else (if x1 = 1 then (some sFaultP) else (some (-1)))
noncomputable def M_by (cA : Nat → Int32) (x1 : Int32) : Option (Int32 × (Nat → Int32)) :=
(rd cA 8762 2).bind fun v1 =>
bd1 (M_isIn x1 (-1) (v1 - 1)) fun r2 =>
if r2 = 0 then (some (0, cA)) else ((wr cA 8762 3 x1).bind fun c4 =>
some (1, c4))
noncomputable def M_isPerson (cA : Nat → Int32) (x1 : Int32) : Option Int32 :=
(rd cA 8762 1).bind fun v1 =>
bd1 (M_isIn x1 0 (v1 - 1)) fun r2 =>
zk r2 (some r2)
noncomputable def M_keep_L124 (φ : Nat) (v6 : Int32) (v17 : Int32) : Nat → Int32 → (Nat → Int32) → Option ((Nat → Int32))
  | 0, _, _ => none
  | n31 + 1, v28, c29 =>
    if 7 ≤ v28 then (some c29) else (bd1 (M_get c29 v17 v28) fun r37 =>
    (wr c29 8762 (((v6 + 4) + (7 * v17)) + v28) r37).bind fun c39 =>
    lt ((v28 + 1) : Int32) fun v40 =>
    M_keep_L124 φ v6 v17 n31 v40 c39)
noncomputable def M_keep_L116 (φ : Nat) (v6 : Int32) : Nat → Int32 → (Nat → Int32) → Option ((Nat → Int32))
  | 0, _, _ => none
  | n20 + 1, v17, c18 =>
    if 6 ≤ v17 then (some c18) else (bd1 (M_keep_L124 φ v6 v17 φ 0 c18) fun c30 =>
    lt ((v17 + 1) : Int32) fun v36 =>
    M_keep_L116 φ v6 n20 v36 c30)
noncomputable def M_keep_L84 (φ : Nat) (v6 : Int32) : Nat → Int32 → (Nat → Int32) → Option ((Nat → Int32))
  | 0, _, _ => none
  | n12 + 1, v9, c10 =>
    if 3 ≤ v9 then (some c10) else ((rd c10 8762 (10 + v9)).bind fun v41 =>
    (wr c10 8762 ((v6 + 1) + v9) v41).bind fun c42 =>
    lt ((v9 + 1) : Int32) fun v43 =>
    M_keep_L84 φ v6 n12 v43 c42)
noncomputable def M_keep_L13 (φ : Nat) : Nat → Int32 → (Nat → Int32) → Option ((Nat → Int32))
  | 0, _, _ => none
  | n47 + 1, v44, c45 =>
    if 1334 ≤ v44 then (some c45) else ((rd c45 8762 (188 + v44)).bind fun v55 =>
    (wr c45 8762 (142 + v44) v55).bind fun c56 =>
    lt ((v44 + 1) : Int32) fun v57 =>
    M_keep_L13 φ n47 v57 c56)
noncomputable def M_keep (φ : Nat) (cA : Nat → Int32) : Option ((Nat → Int32)) :=
(rd cA 8762 4).bind fun v1 =>
bd1 (if v1 = 30 then (bd1 (M_keep_L13 φ φ 0 cA) fun c46 =>
(rd c46 8762 4).bind fun v52 =>
lt ((v52 - 1) : Int32) fun v53 =>
(wr c46 8762 4 v53).bind fun c54 =>
some c54) else (some cA) : Option ((Nat → Int32))) fun c2 =>
(rd c2 8762 4).bind fun v5 =>
lt ((142 + (46 * v5)) : Int32) fun v6 =>
(rd c2 8762 1).bind fun v7 =>
(wr c2 8762 v6 v7).bind fun c8 =>
bd1 (M_keep_L84 φ v6 φ 0 c8) fun c11 =>
bd1 (M_keep_L116 φ v6 φ 0 c11) fun c19 =>
(rd c19 8762 4).bind fun v25 =>
lt ((v25 + 1) : Int32) fun v26 =>
(wr c19 8762 4 v26).bind fun c27 =>
some c27
noncomputable def M_write (sIsW : Int32) (cA : Nat → Int32) (x1 : Int32) (x2 : Int32) : Option ((Nat → Int32)) :=
if sIsW = 0 then (some cA) else ((rd cA 8762 12).bind fun v1 =>
(rd cA 8762 10).bind fun v2 =>
lt (((((v2 * 8) + x1) * 8) + x2) : Int32) fun v3 =>
(wr cA 8762 (1522 + (v1 - v1 / 7240 * 7240)) v3).bind fun c4 =>
(rd c4 8762 12).bind fun v5 =>
lt ((v5 + 1) : Int32) fun v6 =>
(wr c4 8762 12 v6).bind fun c7 =>
some c7)
noncomputable def M_isOutlaw (cA : Nat → Int32) (x1 : Int32) : Option Int32 :=
bd1 (M_isPerson cA x1) fun r1 =>
if r1 = 0 then (some 0) else (bd1 (M_get cA x1 6) fun r3 =>
if r3 = 1 then (some 1) else (some 0))
noncomputable def M_crowdOf_L5 (φ : Nat) (x1 : Int32) (x2 : Int32) (cA : Nat → Int32) : Nat → Int32 → Int32 → Option Int32
  | 0, _, _ => none
  | n4 + 1, v1, v2 =>
    (rd cA 8762 1).bind fun v9 =>
    if v9 ≤ v2 then (some v1) else (if v2 = x1 then (lt ((v1 + 0) : Int32) fun v10 =>
    lt ((v2 + 1) : Int32) fun v11 =>
    M_crowdOf_L5 φ x1 x2 cA n4 v10 v11) else (bd1 (M_get cA v2 6) fun r12 =>
    if r12 = 3 then (lt ((v1 + 0) : Int32) fun v14 =>
    lt ((v2 + 1) : Int32) fun v15 =>
    M_crowdOf_L5 φ x1 x2 cA n4 v14 v15) else (bd1 (M_get cA v2 0) fun r16 =>
    if r16 = x2 then (lt ((v1 + 1) : Int32) fun v20 =>
    lt ((v2 + 1) : Int32) fun v21 =>
    M_crowdOf_L5 φ x1 x2 cA n4 v20 v21) else (lt ((v1 + 0) : Int32) fun v18 =>
    lt ((v2 + 1) : Int32) fun v19 =>
    M_crowdOf_L5 φ x1 x2 cA n4 v18 v19))))
noncomputable def M_crowdOf (φ : Nat) (cA : Nat → Int32) (x1 : Int32) (x2 : Int32) : Option Int32 :=
bd1 (M_crowdOf_L5 φ x1 x2 cA φ 0 0) fun v3 =>
some v3
noncomputable def M_bits_L4 (φ : Nat) : Nat → Int32 → Int64 → Option Int32
  | 0, _, _ => none
  | n4 + 1, v1, v2 =>
    if (lg_cmp v2 0) = 0 then (some v1) else (lt ((v1 + 1) : Int32) fun v9 =>
    lt ((v2 &&& (v2 - 1)) : Int64) fun v10 =>
    M_bits_L4 φ n4 v9 v10)
noncomputable def M_bits (φ : Nat) (x0 : Int64) : Option Int32 :=
bd1 (M_bits_L4 φ φ 0 x0) fun v3 =>
some v3
noncomputable def M_fearOf (cA : Nat → Int32) (x1 : Int64) : Option Int64 :=
if (lg_cmp x1 0) < 0 then (some 0) else ((rd cA 8762 1).bind fun v1 =>
if 0 ≤ (lg_cmp x1 ((v1 : Int32).toInt64)) then (some 0) else (bd1 (M_get cA ((x1 : Int64).toInt32) 7) fun r2 =>
some ((r2 : Int32).toInt64)))
noncomputable def M_clip (x0 : Int64) : Option Int64 :=
if (lg_cmp x0 1000000) ≤ 0 then (if 0 ≤ (lg_cmp x0 (-1000000)) then (some x0) else (some (-1000000))) else (some 1000000)
noncomputable def M_isAsked (x0 : Int32) (x1 : Int64) (x3 : Int64) : Option Int32 :=
if x0 = 10 then (if 0 ≤ (lg_cmp x1 x3) then (some 0) else (some 1)) else (if x0 = 11 then (if 0 < (lg_cmp x1 x3) then (some 0) else (some 1)) else (if x0 = 12 then (if (lg_cmp x1 x3) ≤ 0 then (some 0) else (some 1)) else (if x0 = 13 then (if (lg_cmp x1 x3) < 0 then (some 0) else (some 1)) else (if x0 = 14 then (if (lg_cmp x1 x3) = 0 then (some 1) else (some 0)) else (if (lg_cmp x1 x3) = 0 then (some 0) else (some 1))))))
noncomputable def M_joined (x0 : Int32) (x1 : Int32) (x2 : Int32) : Option Int32 :=
if x0 = 21 then (if x1 = 0 then (some 0) else (if x2 = 0 then (some 0) else (some 1))) else (if x1 = 0 then (if x2 = 0 then (some 0) else (some 1)) else (some 1))
noncomputable def M_cut (x0 : Int64) (x2 : Int32) (x3 : Int32) : Option Int32 :=
if 0 ≤ (lg_cmp x0 ((x2 : Int32).toInt64)) then (if (lg_cmp x0 ((x3 : Int32).toInt64)) ≤ 0 then (some ((x0 : Int64).toInt32)) else (some x3)) else (some x2)
noncomputable def M_anew (cA : Nat → Int32) : Option ((Nat → Int32)) :=
(rd cA 8762 11).bind fun v1 =>
lt ((((((v1 : Int32).toInt64) * 379) + 257) - ((((v1 : Int32).toInt64) * 379) + 257) / 30469 * 30469) : Int64) fun v2 =>
lt (((v2 : Int64).toInt32) : Int32) fun v3 =>
(wr cA 8762 11 v3).bind fun c4 =>
some c4
noncomputable def M_die (sIsW : Int32) (sDied : Int32) (cA : Nat → Int32) (x1 : Int32) (x2 : Int32) : Option (Int32 × (Nat → Int32)) :=
bd1 (M_put cA x1 6 3) fun c1 =>
bd1 (M_write sIsW c1 x1 x2) fun c3 =>
lt ((sDied + 1) : Int32) fun v5 =>
some (v5, c3)
noncomputable def M_pardonNow (cA : Nat → Int32) (x1 : Int32) : Option ((Nat → Int32)) :=
bd1 (M_put cA x1 6 2) fun c1 =>
bd1 (M_put c1 x1 5 0) fun c3 =>
bd1 (M_put c3 x1 4 0) fun c5 =>
some c5
noncomputable def M_aliveIn_L4 (φ : Nat) (x1 : Int32) (cA : Nat → Int32) : Nat → Int32 → Int32 → Option Int32
  | 0, _, _ => none
  | n4 + 1, v1, v2 =>
    (rd cA 8762 1).bind fun v9 =>
    if v9 ≤ v2 then (some v1) else (bd1 (M_get cA v2 0) fun r10 =>
    if r10 = x1 then (bd1 (M_get cA v2 6) fun r14 =>
    if r14 = 3 then (lt ((v1 ||| 0) : Int32) fun v16 =>
    lt ((v2 + 1) : Int32) fun v17 =>
    M_aliveIn_L4 φ x1 cA n4 v16 v17) else (lt ((v1 ||| (1 <<< (v2 &&& 31))) : Int32) fun v18 =>
    lt ((v2 + 1) : Int32) fun v19 =>
    M_aliveIn_L4 φ x1 cA n4 v18 v19)) else (lt ((v1 ||| 0) : Int32) fun v12 =>
    lt ((v2 + 1) : Int32) fun v13 =>
    M_aliveIn_L4 φ x1 cA n4 v12 v13))
noncomputable def M_aliveIn (φ : Nat) (cA : Nat → Int32) (x1 : Int32) : Option Int32 :=
bd1 (M_aliveIn_L4 φ x1 cA φ 0 0) fun v3 =>
some v3
noncomputable def M_is (cA : Nat → Int32) (x1 : Int32) : Option Int32 :=
bd1 (M_isIn x1 0 1) fun r1 =>
if r1 = 0 then (some (-2)) else ((rd cA 8762 (10 + x1)).bind fun v3 =>
some v3)
noncomputable def M_shown (cA : Nat → Int32) : Option Int32 :=
(rd cA 8762 12).bind fun v1 =>
if 30 ≤ v1 then (some 30) else ((rd cA 8762 12).bind fun v2 =>
some v2)
noncomputable def M_entry (cA : Nat → Int32) (x1 : Int32) (x2 : Int32) : Option Int32 :=
(rd cA 8762 12).bind fun v1 =>
bd1 (M_shown cA) fun r2 =>
(rd cA 8762 (1522 + (((v1 - r2) + x1) - ((v1 - r2) + x1) / 7240 * 7240))).bind fun v4 =>
if x2 = 0 then (some (v4 / 64)) else (if x2 = 1 then (some ((v4 / 8) - (v4 / 8) / 8 * 8)) else (some (v4 - v4 / 8 * 8)))
noncomputable def M_befell_L31 (φ : Nat) (x1 : Int32) (x2 : Int32) (cA : Nat → Int32) : Nat → Int32 → Int32 → Option Int32
  | 0, _, _ => none
  | n8 + 1, v5, v6 =>
    bd1 (M_shown cA) fun r13 =>
    if r13 ≤ v6 then (some v5) else (bd1 (M_entry cA v6 2) fun r15 =>
    if r15 = x2 then (if x1 = (-1) then (lt ((v5 + 1) : Int32) fun v19 =>
    lt ((v6 + 1) : Int32) fun v20 =>
    M_befell_L31 φ x1 x2 cA n8 v19 v20) else (bd1 (M_entry cA v6 1) fun r21 =>
    if r21 = x1 then (lt ((v5 + 1) : Int32) fun v25 =>
    lt ((v6 + 1) : Int32) fun v26 =>
    M_befell_L31 φ x1 x2 cA n8 v25 v26) else (lt ((v5 + 0) : Int32) fun v23 =>
    lt ((v6 + 1) : Int32) fun v24 =>
    M_befell_L31 φ x1 x2 cA n8 v23 v24))) else (lt ((v5 + 0) : Int32) fun v17 =>
    lt ((v6 + 1) : Int32) fun v18 =>
    M_befell_L31 φ x1 x2 cA n8 v17 v18))
noncomputable def M_befell (φ : Nat) (cA : Nat → Int32) (x1 : Int32) (x2 : Int32) : Option Int32 :=
jn ((bd1 (M_isIn x2 0 6) fun r3 =>
if r3 = 0 then (some (-2)) else (bd1 (M_befell_L31 φ x1 x2 cA φ 0 0) fun v7 =>
some v7) : Option Int32)) fun k1 =>
if x1 = (-1) then (k1) else (bd1 (M_isPerson cA x1) fun r27 =>
if r27 = 0 then (some (-2)) else (k1))
noncomputable def M_heirs (φ : Nat) (cA : Nat → Int32) (x1 : Int32) : Option Int32 :=
bd1 (M_isPerson cA x1) fun r1 =>
if r1 = 0 then (some (-1)) else (bd1 (M_get cA x1 0) fun r3 =>
bd1 (M_aliveIn φ cA r3) fun r5 =>
some (r5 &&& ((1 <<< (x1 &&& 31)) ^^^ (-1))))
noncomputable def M_wolves_L4 (φ : Nat) (cA : Nat → Int32) : Nat → Int32 → Int32 → Option Int32
  | 0, _, _ => none
  | n4 + 1, v1, v2 =>
    (rd cA 8762 1).bind fun v9 =>
    if v9 ≤ v2 then (some v1) else (bd1 (M_isOutlaw cA v2) fun r10 =>
    if r10 = 0 then (lt ((v1 ||| 0) : Int32) fun v12 =>
    lt ((v2 + 1) : Int32) fun v13 =>
    M_wolves_L4 φ cA n4 v12 v13) else (lt ((v1 ||| (1 <<< (v2 &&& 31))) : Int32) fun v14 =>
    lt ((v2 + 1) : Int32) fun v15 =>
    M_wolves_L4 φ cA n4 v14 v15))
noncomputable def M_wolves (φ : Nat) (cA : Nat → Int32) : Option Int32 :=
bd1 (M_wolves_L4 φ cA φ 0 0) fun v3 =>
some v3
noncomputable def M_feared_L6 (φ : Nat) (cA : Nat → Int32) : Nat → Int32 → Int32 → Int32 → Option Int32
  | 0, _, _, _ => none
  | n5 + 1, v1, v2, v3 =>
    (rd cA 8762 1).bind fun v10 =>
    if v10 ≤ v3 then (some v1) else (bd1 (M_get cA v3 6) fun r11 =>
    if r11 = 3 then (lt ((v3 + 1) : Int32) fun v23 =>
    M_feared_L6 φ cA n5 v1 v2 v23) else (bd1 (M_get cA v3 0) fun r13 =>
    bd1 (M_aliveIn φ cA r13) fun r15 =>
    bd1 (M_wolves φ cA) fun r17 =>
    bd1 (M_bits φ ((((r15 &&& r17) &&& ((1 <<< (v3 &&& 31)) ^^^ (-1))) : Int32).toInt64)) fun r19 =>
    if v2 < r19 then (lt ((v3 + 1) : Int32) fun v21 =>
    M_feared_L6 φ cA n5 v3 r19 v21) else (lt ((v3 + 1) : Int32) fun v22 =>
    M_feared_L6 φ cA n5 v1 v2 v22)))
noncomputable def M_feared (φ : Nat) (cA : Nat → Int32) : Option Int32 :=
bd1 (M_feared_L6 φ cA φ (-1) 0 0) fun v4 =>
some v4
noncomputable def M_setAside_L3 (φ : Nat) (cA : Nat → Int32) : Nat → Int32 → (Nat → Int32) → Option ((Nat → Int32))
  | 0, _, _ => none
  | n4 + 1, v1, c2 =>
    if 80 ≤ v1 then (some c2) else ((rd cA 8762 v1).bind fun v9 =>
    (wr c2 80 v1 v9).bind fun c10 =>
    lt ((v1 + 1) : Int32) fun v11 =>
    M_setAside_L3 φ cA n4 v11 c10)
noncomputable def M_setAside (φ : Nat) (sIsW : Int32) (cA : Nat → Int32) (cAs : Nat → Int32) : Option (Int32 × (Nat → Int32)) :=
bd1 (M_setAside_L3 φ cA φ 10 cAs) fun c3 =>
some (0, c3)
noncomputable def M_putBack_L3 (φ : Nat) (cAs : Nat → Int32) : Nat → Int32 → (Nat → Int32) → Option ((Nat → Int32))
  | 0, _, _ => none
  | n4 + 1, v1, c2 =>
    if 80 ≤ v1 then (some c2) else ((rd cAs 80 v1).bind fun v9 =>
    (wr c2 8762 v1 v9).bind fun c10 =>
    lt ((v1 + 1) : Int32) fun v11 =>
    M_putBack_L3 φ cAs n4 v11 c10)
noncomputable def M_putBack (φ : Nat) (sIsW : Int32) (cA : Nat → Int32) (cAs : Nat → Int32) : Option (Int32 × (Nat → Int32)) :=
bd1 (M_putBack_L3 φ cAs φ 10 cA) fun c3 =>
some (1, c3)
noncomputable def M_reachOf (cA : Nat → Int32) (x1 : Int32) : Option Int32 :=
(rd cA 8762 (88 + x1)).bind fun v1 =>
some (v1 ||| (1 <<< (x1 &&& 31)))
noncomputable def M_common_L4 (φ : Nat) : Nat → Int32 → Int32 → Option Int32
  | 0, _, _ => none
  | n4 + 1, v1, v2 =>
    if v2 = 0 then (some v1) else (nz v2 (
    lt ((v1 - v1 / v2 * v2) : Int32) fun v10 =>
    M_common_L4 φ n4 v2 v10))
noncomputable def M_common (φ : Nat) (x0 : Int32) (x1 : Int32) : Option Int32 :=
bd1 (M_common_L4 φ φ x0 x1) fun v3 =>
some v3
noncomputable def M_lowestFrom_L2 (φ : Nat) (x1 : Int32) (cA : Nat → Int32) : Nat → Int32 → Option Int32
  | 0, _ => none
  | n3 + 1, v1 =>
    bd1 (M_reachOf cA x1) fun r8 =>
    bd1 (M_isWith r8 v1) fun r10 =>
    if r10 = 0 then (lt ((v1 + 1) : Int32) fun v12 =>
    M_lowestFrom_L2 φ x1 cA n3 v12) else (some v1)
noncomputable def M_lowestFrom (φ : Nat) (cA : Nat → Int32) (x1 : Int32) : Option Int32 :=
bd1 (M_lowestFrom_L2 φ x1 cA φ 0) fun v2 =>
some v2
noncomputable def M_spread_L5 (φ : Nat) (x1 : Int32) (x2 : Int32) (cA : Nat → Int32) : Nat → Int32 → Int32 → Option Int32
  | 0, _, _ => none
  | n4 + 1, v1, v2 =>
    (rd cA 8762 0).bind fun v9 =>
    if v9 ≤ v2 then (some v1) else (bd1 (M_isWith x1 v2) fun r10 =>
    if r10 = 0 then (lt ((v2 + 1) : Int32) fun v12 =>
    M_spread_L5 φ x1 x2 cA n4 v1 v12) else ((rd cA 8762 (88 + v2)).bind fun v13 =>
    lt ((v1 ||| v13) : Int32) fun v14 =>
    lt ((v2 + 1) : Int32) fun v15 =>
    M_spread_L5 φ x1 x2 cA n4 v14 v15))
noncomputable def M_spread (φ : Nat) (cA : Nat → Int32) (x1 : Int32) (x2 : Int32) : Option Int32 :=
bd1 (M_spread_L5 φ x1 x2 cA φ x1 0) fun v3 =>
some (v3 &&& (x2 ^^^ (-1)))
noncomputable def M_unheard_L27 (φ : Nat) (x2 : Int32) (cA : Nat → Int32) : Nat → Int32 → Int32 → Option Int32
  | 0, _, _ => none
  | n9 + 1, v6, v7 =>
    if x2 ≤ v7 then (some v6) else (bd1 (M_spread φ cA v6 0) fun r15 =>
    lt ((v7 + 1) : Int32) fun v17 =>
    M_unheard_L27 φ x2 cA n9 r15 v17)
noncomputable def M_unheard (φ : Nat) (cA : Nat → Int32) (x1 : Int32) (x2 : Int32) : Option Int32 :=
bd1 (M_isLand cA x1) fun r1 =>
if r1 = 0 then (some (-1)) else (bd1 (M_isIn x2 0 9) fun r3 =>
if r3 = 0 then (some (-1)) else (lt ((1 <<< (x1 &&& 31)) : Int32) fun v5 =>
bd1 (M_unheard_L27 φ x2 cA φ v5 0) fun v8 =>
(rd cA 8762 0).bind fun v14 =>
some (((1 <<< (v14 &&& 31)) - 1) &&& (v8 ^^^ (-1)))))
noncomputable def M_borders (cA : Nat → Int32) (x1 : Int32) : Option (Int32 × (Nat → Int32)) :=
bd1 (M_isIn x1 0 255) fun r1 =>
if r1 = 0 then (some (0, cA)) else ((wr cA 8762 9 x1).bind fun c3 =>
some (1, c3))
noncomputable def M_toBorder_L16 (φ : Nat) (cA : Nat → Int32) : Nat → Int32 → Int32 → Option Int32
  | 0, _, _ => none
  | n6 + 1, v4, v5 =>
    if 8 ≤ v5 then (some (-1)) else ((rd cA 8762 9).bind fun v11 =>
    if (v4 &&& v11) = 0 then (bd1 (M_spread φ cA v4 0) fun r12 =>
    lt ((v5 + 1) : Int32) fun v14 =>
    M_toBorder_L16 φ cA n6 r12 v14) else (some v5))
noncomputable def M_toBorder (φ : Nat) (cA : Nat → Int32) (x1 : Int32) : Option Int32 :=
bd1 (M_isLand cA x1) fun r1 =>
if r1 = 0 then (some (-1)) else (lt ((1 <<< (x1 &&& 31)) : Int32) fun v3 =>
M_toBorder_L16 φ cA φ v3 0)
noncomputable def M_helpers_L15 (φ : Nat) (v2 : Int32) (cA : Nat → Int32) : Nat → Int32 → Int32 → Option Int32
  | 0, _, _ => none
  | n6 + 1, v3, v4 =>
    if v4 < 0 then (some v3) else (bd1 (M_bits φ ((v4 : Int32).toInt64)) fun r11 =>
    bd1 (M_bits φ ((v3 : Int32).toInt64)) fun r13 =>
    if r13 < r11 then (lt ((v4 + (-1)) : Int32) fun v15 =>
    M_helpers_L15 φ v2 cA n6 v3 v15) else (bd1 (M_spread φ cA v4 0) fun r16 =>
    if r16 = v2 then (lt ((v4 + (-1)) : Int32) fun v19 =>
    M_helpers_L15 φ v2 cA n6 v4 v19) else (lt ((v4 + (-1)) : Int32) fun v18 =>
    M_helpers_L15 φ v2 cA n6 v3 v18)))
noncomputable def M_helpers (φ : Nat) (cA : Nat → Int32) : Option Int32 :=
(rd cA 8762 0).bind fun v1 =>
lt (((1 <<< (v1 &&& 31)) - 1) : Int32) fun v2 =>
bd1 (M_helpers_L15 φ v2 cA φ v2 v2) fun v5 =>
some v5
noncomputable def M_isJoined_L8 (φ : Nat) (x2 : Int32) (x3 : Int32) (cA : Nat → Int32) : Nat → Int32 → Int32 → Option Int32
  | 0, _, _ => none
  | n5 + 1, v2, v3 =>
    if 8 ≤ v3 then (some v2) else (bd1 (M_spread φ cA v2 x3) fun r12 =>
    lt ((v3 + 1) : Int32) fun v14 =>
    M_isJoined_L8 φ x2 x3 cA n5 r12 v14)
noncomputable def M_isJoined (φ : Nat) (cA : Nat → Int32) (x1 : Int32) (x2 : Int32) (x3 : Int32) : Option Int32 :=
lt ((1 <<< (x1 &&& 31)) : Int32) fun v1 =>
bd1 (M_isJoined_L8 φ x2 x3 cA φ v1 0) fun v4 =>
bd1 (M_isWith v4 x2) fun r10 =>
zk r10 (some r10)
noncomputable def M_crowd (cA : Nat → Int32) (x1 : Int32) : Option (Int32 × (Nat → Int32)) :=
if x1 = (-1) then ((wr cA 8762 5 0).bind fun c10 =>
some (0, c10)) else (bd1 (M_isLand cA x1) fun r1 =>
if r1 = 0 then (some ((-2), cA)) else ((rd cA 8762 5).bind fun v3 =>
if v3 = 5 then (some ((-2), cA)) else ((rd cA 8762 5).bind fun v4 =>
(wr cA 8762 (96 + v4) x1).bind fun c5 =>
(rd c5 8762 5).bind fun v6 =>
lt ((v6 + 1) : Int32) fun v7 =>
(wr c5 8762 5 v7).bind fun c8 =>
(rd c8 8762 5).bind fun v9 =>
some (v9, c8))))
noncomputable def M_wasAt_L26 (φ : Nat) (cA : Nat → Int32) : Nat → Int32 → Int32 → Int32 → Int32 → Option Int32
  | 0, _, _, _, _ => none
  | n9 + 1, v5, v6, v7, v8 =>
    (rd cA 8762 5).bind fun v14 =>
    if v14 ≤ v8 then (some v6) else (lt ((v7 - v7 / 8 * 8) : Int32) fun v15 =>
    lt ((v7 / 8) : Int32) fun v16 =>
    bd1 (M_isLand cA v15) fun r17 =>
    if r17 = 0 then (some (-1)) else (bd1 (M_reachOf cA v5) fun r19 =>
    bd1 (M_isWith r19 v15) fun r21 =>
    if r21 = 0 then (some (-1)) else ((rd cA 8762 (96 + v8)).bind fun v23 =>
    if v23 = v15 then (lt ((v6 ||| (1 <<< (v8 &&& 31))) : Int32) fun v26 =>
    lt ((v8 + 1) : Int32) fun v27 =>
    M_wasAt_L26 φ cA n9 v15 v26 v16 v27) else (lt ((v6 ||| 0) : Int32) fun v24 =>
    lt ((v8 + 1) : Int32) fun v25 =>
    M_wasAt_L26 φ cA n9 v15 v24 v16 v25))))
noncomputable def M_wasAt (φ : Nat) (cA : Nat → Int32) (x1 : Int32) (x2 : Int32) : Option Int32 :=
(rd cA 8762 96).bind fun v1 =>
bd1 (if v1 = x2 then (some 1) else (some 0) : Option Int32) fun v2 =>
M_wasAt_L26 φ cA φ x2 v2 x1 1
noncomputable def M_reports (cA : Nat → Int32) (x1 : Int32) : Option (Int32 × (Nat → Int32)) :=
bd1 (M_isIn x1 0 8) fun r1 =>
if r1 = 0 then (some (0, cA)) else ((wr cA 8762 6 x1).bind fun c3 =>
(wr c3 8762 7 0).bind fun c4 =>
some (1, c4))
noncomputable def M_unlike (cA : Nat → Int32) (x1 : Int32) (x2 : Int32) : Option (Int32 × (Nat → Int32)) :=
(rd cA 8762 6).bind fun v1 =>
bd1 (M_isIn x1 0 (v1 - 1)) fun r2 =>
if r2 = 0 then (some ((-2), cA)) else ((rd cA 8762 6).bind fun v4 =>
bd1 (M_isIn x2 0 (v4 - 1)) fun r5 =>
if r5 = 0 then (some ((-2), cA)) else (if x1 = x2 then (some ((-2), cA)) else ((rd cA 8762 7).bind fun v7 =>
if v7 = 8 then (some ((-2), cA)) else ((rd cA 8762 7).bind fun v8 =>
(wr cA 8762 (101 + (2 * v8)) x1).bind fun c9 =>
(rd c9 8762 7).bind fun v10 =>
(wr c9 8762 ((101 + (2 * v10)) + 1) x2).bind fun c11 =>
(rd c11 8762 7).bind fun v12 =>
lt ((v12 + 1) : Int32) fun v13 =>
(wr c11 8762 7 v13).bind fun c14 =>
(rd c14 8762 7).bind fun v15 =>
some (v15, c14)))))
noncomputable def M_canBe_L2 (φ : Nat) (x1 : Int32) (x2 : Int32) (cA : Nat → Int32) (cHd : Nat → Int32) : Nat → Int32 → Option Int32
  | 0, _ => none
  | n2 + 1, v1 =>
    (rd cA 8762 7).bind fun v7 =>
    if v7 ≤ v1 then (some 1) else ((rd cA 8762 (101 + (2 * v1))).bind fun v8 =>
    (rd cA 8762 ((101 + (2 * v1)) + 1)).bind fun v9 =>
    jn ((if v9 = x1 then (if x1 ≤ v8 then (lt ((v1 + 1) : Int32) fun v13 =>
    M_canBe_L2 φ x1 x2 cA cHd n2 v13) else ((rd cHd 8 v8).bind fun v14 =>
    if v14 = x2 then (some 0) else (lt ((v1 + 1) : Int32) fun v15 =>
    M_canBe_L2 φ x1 x2 cA cHd n2 v15))) else (lt ((v1 + 1) : Int32) fun v12 =>
    M_canBe_L2 φ x1 x2 cA cHd n2 v12) : Option Int32)) fun k10 =>
    if v8 = x1 then (if x1 ≤ v9 then (k10) else ((rd cHd 8 v9).bind fun v16 =>
    if v16 = x2 then (some 0) else (k10))) else (k10))
noncomputable def M_canBe (φ : Nat) (cA : Nat → Int32) (cHd : Nat → Int32) (x1 : Int32) (x2 : Int32) : Option Int32 :=
M_canBe_L2 φ x1 x2 cA cHd φ 0
noncomputable def M_has (cA : Nat → Int32) (x1 : Int32) (x2 : Int32) (x3 : Int32) (x4 : Int32) : Option (Int32 × (Nat → Int32)) :=
bd1 (M_isIn x2 0 1) fun r1 =>
if r1 = 0 then (some (0, cA)) else (bd1 (M_isIn x3 0 1) fun r3 =>
if r3 = 0 then (some (0, cA)) else (bd1 (M_isIn x4 0 99) fun r5 =>
if r5 = 0 then (some (0, cA)) else (bd1 (if x1 = 0 then (some 0) else (some 4) : Option Int32) fun v7 =>
(wr cA 8762 (((117 + v7) + (2 * x2)) + x3) x4).bind fun c10 =>
some (1, c10))))
noncomputable def M_rests_L11 (φ : Nat) (v2 : Int32) (cA : Nat → Int32) : Nat → Int32 → Int32 → Option Int32
  | 0, _, _ => none
  | n12 + 1, v9, v10 =>
    if 2 ≤ v10 then (some v9) else ((rd cA 8762 ((117 + (2 * v2)) + v10)).bind fun v18 =>
    (rd cA 8762 ((117 + (2 * (1 - v2))) + v10)).bind fun v19 =>
    bd1 (if v18 < v19 then (some 0) else ((rd cA 8762 ((121 + (2 * v2)) + v10)).bind fun v27 =>
    (rd cA 8762 (((121 + (2 * v2)) + 1) - v10)).bind fun v28 =>
    if v27 < v28 then (some 0) else (some 1)) : Option Int32) fun v20 =>
    if v20 = 0 then (lt ((v9 ||| 0) : Int32) fun v23 =>
    lt ((v10 + 1) : Int32) fun v24 =>
    M_rests_L11 φ v2 cA n12 v23 v24) else (lt ((v9 ||| (1 <<< ((v2 + (2 * v10)) &&& 31))) : Int32) fun v25 =>
    lt ((v10 + 1) : Int32) fun v26 =>
    M_rests_L11 φ v2 cA n12 v25 v26))
noncomputable def M_rests_L4 (φ : Nat) (cA : Nat → Int32) : Nat → Int32 → Int32 → Option Int32
  | 0, _, _ => none
  | n4 + 1, v1, v2 =>
    if 2 ≤ v2 then (some v1) else (bd1 (M_rests_L11 φ v2 cA φ v1 0) fun v11 =>
    lt ((v2 + 1) : Int32) fun v17 =>
    M_rests_L4 φ cA n4 v11 v17)
noncomputable def M_rests (φ : Nat) (cA : Nat → Int32) : Option Int32 :=
bd1 (M_rests_L4 φ cA φ 0 0) fun v3 =>
some v3
noncomputable def M_mixed (φ : Nat) (cA : Nat → Int32) (x1 : Int32) : Option Int32 :=
(rd cA 8762 124).bind fun v1 =>
(rd cA 8762 123).bind fun v2 =>
lt ((v1 - v2) : Int32) fun v3 =>
(rd cA 8762 121).bind fun v4 =>
(rd cA 8762 123).bind fun v5 =>
(rd cA 8762 122).bind fun v6 =>
(rd cA 8762 124).bind fun v7 =>
lt ((((v4 - v5) - v6) + v7) : Int32) fun v8 =>
bd2 (if 0 ≤ v8 then (some (v3, v8)) else (lt ((-v3) : Int32) fun v19 =>
lt ((-v8) : Int32) fun v20 =>
some (v19, v20)) : Option (Int32 × Int32)) fun v9 v10 =>
if v9 ≤ 0 then (some (-1)) else (if v9 < v10 then (if x1 = 0 then (bd1 (M_common φ v9 v10) fun r13 =>
nz r13 (
some (v9 / r13))) else (bd1 (M_common φ v9 v10) fun r16 =>
nz r16 (
some (v10 / r16)))) else (some (-1)))
noncomputable def M_paid (cA : Nat → Int32) (x1 : Int32) (x2 : Int32) : Option (Int32 × (Nat → Int32)) :=
if x1 = (-1) then ((wr cA 8762 8 0).bind fun c14 =>
some (0, c14)) else (bd1 (M_isPerson cA x1) fun r1 =>
if r1 = 0 then (some ((-2), cA)) else (bd1 (M_isIn x2 0 9999) fun r3 =>
if r3 = 0 then (some ((-2), cA)) else ((rd cA 8762 8).bind fun v5 =>
if v5 = 8 then (some ((-2), cA)) else ((rd cA 8762 8).bind fun v6 =>
(wr cA 8762 (125 + (2 * v6)) x1).bind fun c7 =>
(rd c7 8762 8).bind fun v8 =>
(wr c7 8762 ((125 + (2 * v8)) + 1) x2).bind fun c9 =>
(rd c9 8762 8).bind fun v10 =>
lt ((v10 + 1) : Int32) fun v11 =>
(wr c9 8762 8 v11).bind fun c12 =>
(rd c12 8762 8).bind fun v13 =>
some (v13, c12)))))
noncomputable def M_about (sTaped : Int32) (cA : Nat → Int32) (x1 : Int32) : Option Int32 :=
bd1 (M_isIn x1 0 8) fun r1 =>
if r1 = 0 then (if x1 = 9 then (some sTaped) else (some (-2))) else ((rd cA 8762 x1).bind fun v3 =>
some v3)
noncomputable def M_land (cA : Nat → Int32) (x1 : Int32) : Option (Int32 × (Nat → Int32)) :=
bd1 (M_isIn x1 0 9) fun r1 =>
if r1 = 0 then (some ((-1), cA)) else ((rd cA 8762 0).bind fun v3 =>
if v3 = 8 then (some ((-1), cA)) else ((rd cA 8762 0).bind fun v4 =>
(wr cA 8762 (80 + v4) x1).bind fun c5 =>
(rd c5 8762 0).bind fun v6 =>
(wr c5 8762 (88 + v6) 0).bind fun c7 =>
(rd c7 8762 0).bind fun v8 =>
lt ((v8 + 1) : Int32) fun v9 =>
(wr c7 8762 0 v9).bind fun c10 =>
(rd c10 8762 0).bind fun v11 =>
some ((v11 - 1), c10)))
noncomputable def M_road (cA : Nat → Int32) (x1 : Int32) (x2 : Int32) : Option (Int32 × (Nat → Int32)) :=
bd1 (M_isLand cA x1) fun r1 =>
if r1 = 0 then (some (0, cA)) else (bd1 (M_isLand cA x2) fun r3 =>
if r3 = 0 then (some (0, cA)) else (if x1 = x2 then (some (0, cA)) else ((rd cA 8762 (88 + x1)).bind fun v5 =>
bd1 (M_isWith v5 x2) fun r6 =>
if r6 = 0 then (lt ((88 + x1) : Int32) fun v8 =>
(rd cA 8762 v8).bind fun v9 =>
lt ((v9 ||| (1 <<< (x2 &&& 31))) : Int32) fun v10 =>
(wr cA 8762 v8 v10).bind fun c11 =>
lt ((88 + x2) : Int32) fun v12 =>
(rd c11 8762 v12).bind fun v13 =>
lt ((v13 ||| (1 <<< (x1 &&& 31))) : Int32) fun v14 =>
(wr c11 8762 v12 v14).bind fun c15 =>
some (1, c15)) else (some (0, cA)))))
noncomputable def M_begin_L30 (φ : Nat) (x1 : Int32) : Nat → Int32 → (Nat → Int32) → Option ((Nat → Int32))
  | 0, _, _ => none
  | n12 + 1, v9, c10 =>
    if 6 < v9 then (some c10) else (bd1 (M_put c10 x1 v9 0) fun c17 =>
    lt ((v9 + 1) : Int32) fun v19 =>
    M_begin_L30 φ x1 n12 v19 c17)
noncomputable def M_begin_L2 (φ : Nat) (x1 : Int32) : Nat → Int32 → (Nat → Int32) → Option ((Nat → Int32))
  | 0, _, _ => none
  | n4 + 1, v1, c2 =>
    if 3 ≤ v1 then (some c2) else (bd1 (M_get c2 x1 (8 + v1)) fun r20 =>
    bd1 (M_put c2 x1 v1 r20) fun c22 =>
    lt ((v1 + 1) : Int32) fun v24 =>
    M_begin_L2 φ x1 n4 v24 c22)
noncomputable def M_begin (φ : Nat) (cA : Nat → Int32) (x1 : Int32) : Option ((Nat → Int32)) :=
bd1 (M_begin_L2 φ x1 φ 0 cA) fun c3 =>
bd1 (M_begin_L30 φ x1 φ 3 c3) fun c11 =>
some c11
noncomputable def M_feed (φ : Nat) (sTaped : Int32) (cTp : Nat → Int32) (x1 : Int32) (x2 : Int32) (x3 : Int32) (x4 : Int32) (x5 : Int32) : Option (Int32 × Int32 × (Nat → Int32)) :=
if (sTaped + 20) ≤ 300 then (bd2 (M_four φ sTaped cTp x1) fun c1 c2 =>
bd2 (M_four φ c1 c2 x2) fun c4 c5 =>
bd2 (M_four φ c4 c5 x3) fun c7 c8 =>
bd2 (M_four φ c7 c8 x4) fun c10 c11 =>
bd2 (M_four φ c10 c11 x5) fun c13 c14 =>
some (c13, c13, c14)) else (some ((-1), sTaped, cTp))
noncomputable def M_nextToken_L168 (φ : Nat) (sTaped : Int32) (cTp : Nat → Int32) : Nat → Int32 → Int64 → Option (Int32 × Int64)
  | 0, _, _ => none
  | n32 + 1, c28, c29 =>
    bd1 (M_byteAt sTaped cTp c28) fun r37 =>
    bd1 (M_isLetterByte r37) fun r39 =>
    if r39 = 0 then (some (c28, c29)) else (bd1 (if (lg_cmp (c29 >>> ((48 : Int32).toInt64 &&& 63)) 0) = 0 then (bd1 (M_byteAt sTaped cTp c28) fun r45 =>
    some ((c29 <<< ((8 : Int32).toInt64 &&& 63)) ||| ((r45 : Int32).toInt64))) else (some 1152921504606846976) : Option Int64) fun v41 =>
    lt ((c28 + 1) : Int32) fun v44 =>
    M_nextToken_L168 φ sTaped cTp n32 v44 v41)
noncomputable def M_nextToken_L85 (φ : Nat) (sTaped : Int32) (cTp : Nat → Int32) : Nat → Int32 → Int32 → Option (Int32 × Int32)
  | 0, _, _ => none
  | n51 + 1, c47, c48 =>
    bd1 (M_byteAt sTaped cTp c47) fun r56 =>
    bd1 (M_isFigure r56) fun r58 =>
    if r58 = 0 then (some (c47, c48)) else (bd1 (if c48 ≤ 99999 then (bd1 (M_byteAt sTaped cTp c47) fun r64 =>
    some (((10 * c48) + r64) - 48)) else (some c48) : Option Int32) fun v60 =>
    lt ((c47 + 1) : Int32) fun v63 =>
    M_nextToken_L85 φ sTaped cTp n51 v63 v60)
noncomputable def M_nextToken_L0 (φ : Nat) (sTaped : Int32) (cTp : Nat → Int32) : Nat → Int32 → Option Int32
  | 0, _ => none
  | n3 + 1, c1 =>
    bd1 (M_byteAt sTaped cTp c1) fun r66 =>
    if r66 = 32 then (lt ((c1 + 1) : Int32) fun v68 =>
    M_nextToken_L0 φ sTaped cTp n3 v68) else (bd1 (M_byteAt sTaped cTp c1) fun r69 =>
    if r69 = 10 then (lt ((c1 + 1) : Int32) fun v71 =>
    M_nextToken_L0 φ sTaped cTp n3 v71) else (some c1))
noncomputable def M_nextToken (φ : Nat) (sTaped : Int32) (sAt : Int32) (sPlace : Int32) (sToken : Int32) (sNumber : Int32) (sWord : Int64) (cTp : Nat → Int32) : Option (Int32 × Int32 × Int32 × Int32 × Int64) :=
bd1 (M_nextToken_L0 φ sTaped cTp φ sAt) fun c2 =>
bd1 (M_byteAt sTaped cTp c2) fun r8 =>
if 0 ≤ r8 then (bd1 (M_isFigure r8) fun r10 =>
if r10 = 0 then (bd1 (M_isLetterByte r8) fun r12 =>
if r12 = 0 then (bd1 (M_isSign r8) fun r14 =>
bd1 (if r14 = 0 then (some 3) else (some r8) : Option Int32) fun v16 =>
lt ((c2 + 1) : Int32) fun v19 =>
jn ((bd1 (M_byteAt sTaped cTp v19) fun r22 =>
if r22 = 61 then (bd1 (if r8 = 60 then (some 4) else (some 5) : Option Int32) fun v24 =>
lt ((v19 + 1) : Int32) fun v27 =>
some (v27, c2, v24, sNumber, sWord)) else (some (v19, c2, v16, sNumber, sWord)) : Option (Int32 × Int32 × Int32 × Int32 × Int64))) fun k20 =>
if r8 = 60 then (k20) else (if r8 = 62 then (k20) else (some (v19, c2, v16, sNumber, sWord)))) else (bd2 (M_nextToken_L168 φ sTaped cTp φ c2 0) fun c30 c31 =>
some (c30, c2, 2, sNumber, c31))) else (bd2 (M_nextToken_L85 φ sTaped cTp φ c2 0) fun c49 c50 =>
some (c49, c2, 1, c50, sWord))) else (some (c2, c2, 0, sNumber, sWord))
noncomputable def M_w3 (x0 : Int32) (x1 : Int32) (x2 : Int32) : Option Int64 :=
bd1 (M_w2 x0 x1) fun r1 =>
some ((r1 <<< ((8 : Int32).toInt64 &&& 63)) ||| ((x2 : Int32).toInt64))
noncomputable def M_figure (φ : Nat) (sTaped : Int32) (sAt : Int32) (sPlace : Int32) (sToken : Int32) (sNumber : Int32) (sWord : Int64) (cTx : Nat → Int32) (cTp : Nat → Int32) (x1 : Int32) (x2 : Int32) (x3 : Int32) : Option (Int32 × Int32 × Int32 × Int32 × Int32 × Int64 × (Nat → Int32)) :=
if sToken = 1 then (bd1 (M_isIn sNumber x2 x3) fun r1 =>
if r1 = 0 then (some (2, sAt, sPlace, sToken, sNumber, sWord, cTx)) else ((wr cTx 2916 x1 sNumber).bind fun c3 =>
bd5 (M_nextToken φ sTaped sAt sPlace sToken sNumber sWord cTp) fun c4 c5 c6 c7 c8 =>
some (0, c4, c5, c6, c7, c8, c3))) else (some (1, sAt, sPlace, sToken, sNumber, sWord, cTx))
noncomputable def M_worded (φ : Nat) (sTaped : Int32) (sAt : Int32) (sPlace : Int32) (sToken : Int32) (sNumber : Int32) (sWord : Int64) (cTx : Nat → Int32) (cTp : Nat → Int32) (x1 : Int64) (x3 : Int32) (x4 : Int32) : Option (Int32 × Int32 × Int32 × Int32 × Int32 × Int64 × (Nat → Int32)) :=
bd1 (M_isWord sToken sWord x1) fun r1 =>
if r1 = 0 then (some (1, sAt, sPlace, sToken, sNumber, sWord, cTx)) else (bd5 (M_nextToken φ sTaped sAt sPlace sToken sNumber sWord cTp) fun c3 c4 c5 c6 c7 =>
bd7 (M_figure φ sTaped c3 c4 c5 c6 c7 cTx cTp x3 0 x4) fun r9 c10 c11 c12 c13 c14 c15 =>
some (r9, c10, c11, c12, c13, c14, c15))
noncomputable def M_openNow (φ : Nat) (sPiled : Int32) (cPl : Nat → Int32) : Option Int32 :=
bd1 (M_openAt φ sPiled cPl) fun r1 =>
if 0 ≤ r1 then (bd1 (M_openAt φ sPiled cPl) fun r3 =>
(rd cPl 160 r3).bind fun v5 =>
some v5) else (some (-1))
noncomputable def M_isCompared_L7 (φ : Nat) (cPl : Nat → Int32) : Nat → Int32 → Option Int32
  | 0, _ => none
  | n4 + 1, v2 =>
    if v2 < 0 then (some v2) else ((rd cPl 160 v2).bind fun v12 =>
    bd1 (M_rank v12) fun r13 =>
    if r13 ≤ 4 then (some v2) else (lt ((v2 + (-1)) : Int32) fun v15 =>
    M_isCompared_L7 φ cPl n4 v15))
noncomputable def M_isCompared (φ : Nat) (sPiled : Int32) (cPl : Nat → Int32) : Option Int32 :=
lt ((sPiled - 1) : Int32) fun v1 =>
bd1 (M_isCompared_L7 φ cPl φ v1) fun v3 =>
if v3 < 0 then (some 0) else ((rd cPl 160 v3).bind fun v9 =>
bd1 (M_rank v9) fun r10 =>
if r10 = 4 then (some 1) else (some 0))
noncomputable def M_settle_L0 (φ : Nat) (x1 : Int32) (sText0 : Int32) (cPl : Nat → Int32) : Nat → Int32 → Int32 → Int32 → (Nat → Int32) → Option (Int32 × Int32 × Int32 × (Nat → Int32))
  | 0, _, _, _, _ => none
  | n9 + 1, c1, c2, c3, c4 =>
    if c2 ≤ 0 then (some (c1, c2, c3, c4)) else ((rd cPl 160 (c2 - 1)).bind fun v14 =>
    bd1 (M_rank v14) fun r15 =>
    if r15 < x1 then (some (c1, c2, c3, c4)) else (lt ((c2 - 1) : Int32) fun v17 =>
    (rd cPl 160 v17).bind fun v18 =>
    bd2 (M_emit sText0 c1 c4 v18 0) fun c19 c20 =>
    (rd cPl 160 v17).bind fun v22 =>
    bd1 (M_rank v22) fun r23 =>
    if r23 = 7 then (lt ((c3 - 1) : Int32) fun v25 =>
    M_settle_L0 φ x1 sText0 cPl n9 c19 v17 v25 c20) else ((rd cPl 160 v17).bind fun v26 =>
    if v26 = 20 then (lt ((c3 - 1) : Int32) fun v27 =>
    M_settle_L0 φ x1 sText0 cPl n9 c19 v17 v27 c20) else (M_settle_L0 φ x1 sText0 cPl n9 c19 v17 c3 c20))))
noncomputable def M_settle (φ : Nat) (sText0 : Int32) (sWritten : Int32) (sPiled : Int32) (sOpens : Int32) (cTx : Nat → Int32) (cPl : Nat → Int32) (x1 : Int32) : Option (Int32 × Int32 × Int32 × (Nat → Int32)) :=
bd4 (M_settle_L0 φ x1 sText0 cPl φ sWritten sPiled sOpens cTx) fun c5 c6 c7 c8 =>
some (c5, c6, c7, c8)
noncomputable def M_opened (φ : Nat) (sTaped : Int32) (sAt : Int32) (sPlace : Int32) (sToken : Int32) (sNumber : Int32) (sWord : Int64) (sPiled : Int32) (sOpens : Int32) (cTp : Nat → Int32) (cPl : Nat → Int32) (x1 : Int32) : Option (Int32 × Int32 × Int32 × Int32 × Int32 × Int64 × Int32 × Int32 × (Nat → Int32)) :=
if sOpens = 8 then (some (3, sAt, sPlace, sToken, sNumber, sWord, sPiled, sOpens, cPl)) else (lt ((sOpens + 1) : Int32) fun v1 =>
(wr cPl 160 sPiled x1).bind fun c2 =>
lt ((sPiled + 1) : Int32) fun v3 =>
bd5 (M_nextToken φ sTaped sAt sPlace sToken sNumber sWord cTp) fun c4 c5 c6 c7 c8 =>
some (0, c4, c5, c6, c7, c8, v3, v1, c2))
noncomputable def M_isAskAhead (φ : Nat) (sPiled : Int32) (cPl : Nat → Int32) : Option Int32 :=
bd1 (M_openNow φ sPiled cPl) fun r1 =>
if r1 = 41 then ((rd cPl 160 (sPiled - 1)).bind fun v3 =>
if 40 ≤ v3 then (some 1) else ((rd cPl 160 (sPiled - 1)).bind fun v4 =>
bd1 (M_rank v4) fun r5 =>
bd1 (M_isIn r5 1 3) fun r7 =>
if r7 = 0 then (some 0) else (some 1))) else (some 0)
noncomputable def M_undo_L96 (φ : Nat) (v6 : Int32) (v15 : Int32) : Nat → Int32 → (Nat → Int32) → Option ((Nat → Int32))
  | 0, _, _ => none
  | n32 + 1, v29, c30 =>
    if 7 ≤ v29 then (some c30) else ((rd c30 8762 v6).bind fun v38 =>
    if v38 ≤ v15 then (some c30) else ((rd c30 8762 (((v6 + 4) + (7 * v15)) + v29)).bind fun v39 =>
    bd1 (M_put c30 v15 v29 v39) fun c40 =>
    lt ((v29 + 1) : Int32) fun v42 =>
    M_undo_L96 φ v6 v15 n32 v42 c40))
noncomputable def M_undo_L69 (φ : Nat) (v6 : Int32) : Nat → Int32 → (Nat → Int32) → Option ((Nat → Int32))
  | 0, _, _ => none
  | n18 + 1, v15, c16 =>
    (rd c16 8762 1).bind fun v24 =>
    if v24 ≤ v15 then (some c16) else ((rd c16 8762 v6).bind fun v25 =>
    bd1 (if v15 < v25 then (some c16) else (bd1 (M_begin φ c16 v15) fun c43 =>
    some c43) : Option ((Nat → Int32))) fun c26 =>
    bd1 (M_undo_L96 φ v6 v15 φ 0 c26) fun c31 =>
    lt ((v15 + 1) : Int32) fun v37 =>
    M_undo_L69 φ v6 n18 v37 c31)
noncomputable def M_undo_L37 (φ : Nat) (v6 : Int32) : Nat → Int32 → (Nat → Int32) → Option ((Nat → Int32))
  | 0, _, _ => none
  | n10 + 1, v7, c8 =>
    if 3 ≤ v7 then (some c8) else ((rd c8 8762 ((v6 + 1) + v7)).bind fun v45 =>
    (wr c8 8762 (10 + v7) v45).bind fun c46 =>
    lt ((v7 + 1) : Int32) fun v47 =>
    M_undo_L37 φ v6 n10 v47 c46)
noncomputable def M_undo (φ : Nat) (cA : Nat → Int32) : Option (Int32 × (Nat → Int32)) :=
(rd cA 8762 4).bind fun v1 =>
if v1 = 0 then (some ((-1), cA)) else ((rd cA 8762 4).bind fun v2 =>
lt ((v2 - 1) : Int32) fun v3 =>
(wr cA 8762 4 v3).bind fun c4 =>
(rd c4 8762 4).bind fun v5 =>
lt ((142 + (46 * v5)) : Int32) fun v6 =>
bd1 (M_undo_L37 φ v6 φ 0 c4) fun c9 =>
bd1 (M_undo_L69 φ v6 φ 0 c9) fun c17 =>
(rd c17 8762 4).bind fun v23 =>
some (v23, c17))
noncomputable def M_isAlive (cA : Nat → Int32) (x1 : Int32) : Option Int32 :=
bd1 (M_isPerson cA x1) fun r1 =>
if r1 = 0 then (some 0) else (bd1 (M_get cA x1 6) fun r3 =>
if r3 = 3 then (some 0) else (some 1))
noncomputable def M_callNow_L59 (φ : Nat) (x1 : Int32) : Nat → Int32 → (Nat → Int32) → Option ((Nat → Int32))
  | 0, _, _ => none
  | n14 + 1, v11, c12 =>
    if 5 < v11 then (some c12) else (bd1 (M_put c12 x1 v11 0) fun c21 =>
    lt ((v11 + 1) : Int32) fun v23 =>
    M_callNow_L59 φ x1 n14 v23 c21)
noncomputable def M_callNow (φ : Nat) (sIsW : Int32) (cA : Nat → Int32) (x1 : Int32) (x2 : Int32) : Option ((Nat → Int32)) :=
bd1 (M_get cA x1 0) fun r1 =>
if r1 = x2 then (bd1 (M_put cA x1 3 0) fun c24 =>
bd1 (M_write sIsW c24 x1 0) fun c26 =>
some c26) else (bd1 (M_get cA x1 3) fun r3 =>
bd1 (M_put cA x1 3 (r3 + 1)) fun c5 =>
bd1 (M_get c5 x1 3) fun r7 =>
if 5 ≤ r7 then (bd1 (M_put c5 x1 6 1) fun c9 =>
bd1 (M_callNow_L59 φ x1 φ 1 c9) fun c13 =>
bd1 (M_write sIsW c13 x1 1) fun c19 =>
some c19) else (some c5))
noncomputable def M_canMove (cA : Nat → Int32) (x1 : Int32) (x2 : Int32) : Option Int32 :=
bd1 (M_isAlive cA x1) fun r1 =>
if r1 = 0 then (some 0) else (bd1 (M_isLand cA x2) fun r3 =>
if r3 = 0 then (some 0) else (bd1 (M_get cA x1 0) fun r5 =>
(rd cA 8762 (88 + r5)).bind fun v7 =>
bd1 (M_isWith v7 x2) fun r8 =>
if r8 = 0 then (some 0) else (some 1)))
noncomputable def M_areBeside (cA : Nat → Int32) (x1 : Int32) (x2 : Int32) : Option Int32 :=
bd1 (M_isOutlaw cA x1) fun r1 =>
if r1 = 0 then (some 0) else (bd1 (M_isAlive cA x2) fun r3 =>
if r3 = 0 then (some 0) else (if x1 = x2 then (some 0) else (bd1 (M_get cA x1 0) fun r5 =>
bd1 (M_get cA x2 0) fun r7 =>
if r5 = r7 then (some 1) else (some 0))))
noncomputable def M_nameIn (φ : Nat) (cA : Nat → Int32) (cNm : Nat → Int32) (x1 : Int32) (x2 : Int32) : Option ((Nat → Int32)) :=
(rd cA 8762 10).bind fun v1 =>
(wr cNm 10 0 v1).bind fun c2 =>
(wr c2 10 1 x1).bind fun c3 =>
bd1 (M_get cA x1 7) fun r4 =>
(wr c3 10 2 r4).bind fun c6 =>
(wr c6 10 3 x2).bind fun c7 =>
(rd cA 8762 (80 + x2)).bind fun v8 =>
(wr c7 10 4 v8).bind fun c9 =>
bd1 (M_get cA x1 4) fun r10 =>
(wr c9 10 5 r10).bind fun c12 =>
bd1 (M_get cA x1 5) fun r13 =>
(wr c12 10 6 r13).bind fun c15 =>
bd1 (M_get cA x1 1) fun r16 =>
(wr c15 10 7 r16).bind fun c18 =>
bd1 (M_get cA x1 2) fun r19 =>
(wr c18 10 8 r19).bind fun c21 =>
bd1 (M_crowdOf φ cA x1 x2) fun r22 =>
(wr c21 10 9 r22).bind fun c24 =>
some c24
noncomputable def M_prefixed (φ : Nat) (cA : Nat → Int32) (x1 : Int32) (x2 : Int64) : Option Int64 :=
if x1 = 5 then (some (-x2)) else (if x1 = 2 then (if 0 ≤ (lg_cmp x2 0) then (bd1 (M_bits φ x2) fun r3 =>
some ((r3 : Int32).toInt64)) else (bd1 (M_bits φ (-x2)) fun r5 =>
some ((r5 : Int32).toInt64))) else (bd1 (M_fearOf cA x2) fun r1 =>
some r1))
noncomputable def M_two (x0 : Int32) (x1 : Int64) (x3 : Int64) : Option Int64 :=
if x0.toInt < 6 then (if (lg_cmp x3 0) = 0 then (some 0) else (nzL x3 (
bd1 (M_clip (x1 / x3)) fun r2 =>
some r2))) else if 8 < x0.toInt then (if (lg_cmp x3 0) = 0 then (some 0) else (nzL x3 (
bd1 (M_clip (x1 / x3)) fun r2 =>
some r2))) else if x0 = 6 then (bd1 (M_clip (x1 + x3)) fun r7 =>
some r7) else if x0 = 7 then (bd1 (M_clip (x1 - x3)) fun r9 =>
some r9) else if x0 = 8 then (bd1 (M_clip (x1 * x3)) fun r11 =>
some r11) else none
noncomputable def M_drawn (cA : Nat → Int32) (x1 : Int32) : Option (Int32 × (Nat → Int32)) :=
(rd cA 8762 11).bind fun v1 =>
nz x1 (
lt ((v1 - v1 / x1 * x1) : Int32) fun v3 =>
bd1 (M_anew cA) fun c4 =>
some (v3, c4))
noncomputable def M_killNow (sIsW : Int32) (sDied : Int32) (cA : Nat → Int32) (x1 : Int32) (x2 : Int32) : Option (Int32 × (Nat → Int32)) :=
bd2 (M_die sIsW sDied cA x1 5) fun c1 c2 =>
bd1 (M_get c2 x2 6) fun r4 =>
if r4 = 1 then (bd1 (M_pardonNow c2 x2) fun c6 =>
some (c1, c6)) else (some (c1, c2))
noncomputable def M_ofLand (φ : Nat) (cA : Nat → Int32) (x1 : Int32) (x2 : Int32) : Option Int32 :=
bd1 (M_isLand cA x1) fun r1 =>
if r1 = 0 then (some (-1)) else (if x2 = 0 then ((rd cA 8762 (80 + x1)).bind fun v6 =>
some v6) else (if x2 = 1 then ((rd cA 8762 (88 + x1)).bind fun v5 =>
some v5) else (if x2 = 2 then (bd1 (M_aliveIn φ cA x1) fun r3 =>
some r3) else (some (-1)))))
noncomputable def M_book (cA : Nat → Int32) (x1 : Int32) (x2 : Int32) : Option Int32 :=
if x1 = (-1) then (bd1 (M_shown cA) fun r9 =>
some r9) else (bd1 (M_shown cA) fun r1 =>
bd1 (M_isIn x1 0 (r1 - 1)) fun r3 =>
if r3 = 0 then (some (-2)) else (bd1 (M_isIn x2 0 2) fun r5 =>
if r5 = 0 then (some (-2)) else (bd1 (M_entry cA x1 x2) fun r7 =>
some r7)))
noncomputable def M_nextFrom_L5 (φ : Nat) (x1 : Int32) (x2 : Int32) (cA : Nat → Int32) (cLi : Nat → Int32) (cSa : Nat → Int32) : Nat → Int32 → Int32 → Option Int32
  | 0, _, _ => none
  | n4 + 1, v1, v2 =>
    (rd cA 8762 0).bind fun v9 =>
    if v9 ≤ v2 then (some v1) else (bd1 (M_reachOf cA x1) fun r10 =>
    bd1 (M_isWith r10 v2) fun r12 =>
    if r12 = 0 then (lt ((v2 + 1) : Int32) fun v14 =>
    M_nextFrom_L5 φ x1 x2 cA cLi cSa n4 v1 v14) else (if v1 = (-1) then (lt ((v2 + 1) : Int32) fun v15 =>
    M_nextFrom_L5 φ x1 x2 cA cLi cSa n4 v2 v15) else ((rd cSa 8 v2).bind fun v16 =>
    (rd cLi 56 ((8 * (x2 - 1)) + v2)).bind fun v17 =>
    (rd cSa 8 v1).bind fun v18 =>
    (rd cLi 56 ((8 * (x2 - 1)) + v1)).bind fun v19 =>
    if (v16 * v17) ≤ (v18 * v19) then (lt ((v2 + 1) : Int32) fun v20 =>
    M_nextFrom_L5 φ x1 x2 cA cLi cSa n4 v1 v20) else (lt ((v2 + 1) : Int32) fun v21 =>
    M_nextFrom_L5 φ x1 x2 cA cLi cSa n4 v2 v21))))
noncomputable def M_nextFrom (φ : Nat) (cA : Nat → Int32) (cLi : Nat → Int32) (cSa : Nat → Int32) (x1 : Int32) (x2 : Int32) : Option Int32 :=
bd1 (M_nextFrom_L5 φ x1 x2 cA cLi cSa φ (-1) 0) fun v3 =>
some v3
noncomputable def M_steps_L25 (φ : Nat) (x2 : Int32) (cA : Nat → Int32) : Nat → Int32 → Int32 → Option Int32
  | 0, _, _ => none
  | n8 + 1, v6, v7 =>
    if 8 ≤ v7 then (some (-1)) else (bd1 (M_isWith v6 x2) fun r13 =>
    if r13 = 0 then (bd1 (M_spread φ cA v6 0) fun r15 =>
    lt ((v7 + 1) : Int32) fun v17 =>
    M_steps_L25 φ x2 cA n8 r15 v17) else (some v7))
noncomputable def M_steps (φ : Nat) (cA : Nat → Int32) (x1 : Int32) (x2 : Int32) : Option Int32 :=
bd1 (M_isLand cA x1) fun r1 =>
if r1 = 0 then (some (-1)) else (bd1 (M_isLand cA x2) fun r3 =>
if r3 = 0 then (some (-1)) else (lt ((1 <<< (x1 &&& 31)) : Int32) fun v5 =>
M_steps_L25 φ x2 cA φ v5 0))
noncomputable def M_watch_L44 (φ : Nat) (x1 : Int32) (x2 : Int32) (cA : Nat → Int32) : Nat → Int32 → Int32 → Option Int32
  | 0, _, _ => none
  | n11 + 1, v8, v9 =>
    (rd cA 8762 0).bind fun v16 =>
    if (1 <<< (v16 &&& 31)) ≤ v9 then (some v8) else (bd1 (M_isWith v9 x1) fun r17 =>
    if r17 = 0 then (bd1 (M_isWith v9 x2) fun r20 =>
    if r20 = 0 then (jn ((bd1 (M_isJoined φ cA x1 x2 v9) fun r25 =>
    if r25 = 0 then (lt ((v9 + 1) : Int32) fun v28 =>
    M_watch_L44 φ x1 x2 cA n11 v9 v28) else (lt ((v9 + 1) : Int32) fun v27 =>
    M_watch_L44 φ x1 x2 cA n11 v8 v27) : Option Int32)) fun k23 =>
    if v8 = (-1) then (k23) else (bd1 (M_bits φ ((v9 : Int32).toInt64)) fun r29 =>
    bd1 (M_bits φ ((v8 : Int32).toInt64)) fun r31 =>
    if r29 < r31 then (k23) else (lt ((v9 + 1) : Int32) fun v33 =>
    M_watch_L44 φ x1 x2 cA n11 v8 v33))) else (lt ((v9 + 1) : Int32) fun v22 =>
    M_watch_L44 φ x1 x2 cA n11 v8 v22)) else (lt ((v9 + 1) : Int32) fun v19 =>
    M_watch_L44 φ x1 x2 cA n11 v8 v19))
noncomputable def M_watch (φ : Nat) (cA : Nat → Int32) (x1 : Int32) (x2 : Int32) : Option Int32 :=
bd1 (M_isLand cA x1) fun r1 =>
if r1 = 0 then (some (-1)) else (bd1 (M_isLand cA x2) fun r3 =>
if r3 = 0 then (some (-1)) else (if x1 = x2 then (some (-1)) else ((rd cA 8762 (88 + x1)).bind fun v5 =>
bd1 (M_isWith v5 x2) fun r6 =>
if r6 = 0 then (bd1 (M_watch_L44 φ x1 x2 cA φ (-1) 0) fun v10 =>
some v10) else (some (-1)))))
noncomputable def M_inCrowd_L80 (φ : Nat) (x1 : Int32) (x2 : Int32) (x3 : Int32) (v10 : Int32) (cA : Nat → Int32) : Nat → Int32 → Int32 → Int32 → Int32 → Option (Int32 × Int32 × Int32)
  | 0, _, _, _, _ => none
  | n23 + 1, v16, v17, v18, v19 =>
    if v10 ≤ v19 then (some (v16, v17, v18)) else (bd1 (M_wasAt φ cA v19 x1) fun r28 =>
    if r28 = (-1) then (lt ((v19 + 1) : Int32) fun v30 =>
    M_inCrowd_L80 φ x1 x2 x3 v10 cA n23 v16 v17 v18 v30) else (bd1 (M_bits φ ((r28 : Int32).toInt64)) fun r31 =>
    if r31 = x2 then (lt ((v16 + 1) : Int32) fun v33 =>
    lt ((v17 ||| r28) : Int32) fun v34 =>
    lt ((v18 &&& r28) : Int32) fun v35 =>
    lt ((v19 + 1) : Int32) fun v36 =>
    M_inCrowd_L80 φ x1 x2 x3 v10 cA n23 v33 v34 v35 v36) else (lt ((v19 + 1) : Int32) fun v37 =>
    M_inCrowd_L80 φ x1 x2 x3 v10 cA n23 v16 v17 v18 v37)))
noncomputable def M_inCrowd_L43 (φ : Nat) (x1 : Int32) (x2 : Int32) (x3 : Int32) (cA : Nat → Int32) : Nat → Int32 → Int32 → Option Int32
  | 0, _, _ => none
  | n11 + 1, v8, v9 =>
    (rd cA 8762 5).bind fun v38 =>
    if v38 ≤ v9 then (some v8) else (lt ((v8 * 8) : Int32) fun v39 =>
    lt ((v9 + 1) : Int32) fun v40 =>
    M_inCrowd_L43 φ x1 x2 x3 cA n11 v39 v40)
noncomputable def M_inCrowd (φ : Nat) (cA : Nat → Int32) (x1 : Int32) (x2 : Int32) (x3 : Int32) : Option Int32 :=
bd1 (M_isLand cA x1) fun r1 =>
if r1 = 0 then (some (-1)) else (bd1 (M_isIn x2 0 5) fun r3 =>
if r3 = 0 then (some (-1)) else (bd1 (M_isIn x3 0 2) fun r5 =>
if r5 = 0 then (some (-1)) else ((rd cA 8762 5).bind fun v7 =>
if v7 = 0 then (some (-1)) else (bd1 (M_inCrowd_L43 φ x1 x2 x3 cA φ 1 1) fun v10 =>
bd3 (M_inCrowd_L80 φ x1 x2 x3 v10 cA φ 0 0 31 0) fun v20 v21 v22 =>
if x3 = 0 then (some v20) else (if x3 = 1 then (some v21) else (if v20 = 0 then (some 0) else (some v22)))))))
noncomputable def M_isExplained_L19 (φ : Nat) (x1 : Int32) (v1 : Int32) (cA : Nat → Int32) (c3 : Nat → Int32) : Nat → Int32 → Option Int32
  | 0, _ => none
  | n14 + 1, v12 =>
    if x1 ≤ v12 then (some v12) else (bd1 (M_canBe φ cA c3 v1 v12) fun r24 =>
    if r24 = 0 then (lt ((v12 + 1) : Int32) fun v26 =>
    M_isExplained_L19 φ x1 v1 cA c3 n14 v26) else (some v12))
noncomputable def M_isExplained_L4 (φ : Nat) (x1 : Int32) (cA : Nat → Int32) : Nat → Int32 → Int32 → (Nat → Int32) → Option (Int32 × (Nat → Int32))
  | 0, _, _, _ => none
  | n6 + 1, v1, v2, c3 =>
    if v1 < 0 then (some (v1, c3)) else ((rd cA 8762 6).bind fun v11 =>
    if v11 ≤ v1 then (some (v1, c3)) else (bd1 (M_isExplained_L19 φ x1 v1 cA c3 φ v2) fun v13 =>
    if x1 ≤ v13 then (lt ((v1 + (-1)) : Int32) fun v19 =>
    if 0 ≤ v19 then ((rd c3 8 v19).bind fun v20 =>
    lt ((v20 + 1) : Int32) fun v21 =>
    M_isExplained_L4 φ x1 cA n6 v19 v21 c3) else (M_isExplained_L4 φ x1 cA n6 v19 0 c3)) else ((wr c3 8 v1 v13).bind fun c22 =>
    lt ((v1 + 1) : Int32) fun v23 =>
    M_isExplained_L4 φ x1 cA n6 v23 0 c22)))
noncomputable def M_isExplained (φ : Nat) (cA : Nat → Int32) (cHd : Nat → Int32) (x1 : Int32) : Option (Int32 × (Nat → Int32)) :=
bd2 (M_isExplained_L4 φ x1 cA φ 0 0 cHd) fun v4 c5 =>
if v4 < 0 then (some (0, c5)) else (some (1, c5))
noncomputable def M_person (φ : Nat) (cA : Nat → Int32) (x1 : Int32) (x2 : Int32) (x3 : Int32) (x4 : Int32) : Option (Int32 × (Nat → Int32)) :=
bd1 (M_isLand cA x1) fun r1 =>
if r1 = 0 then (some ((-1), cA)) else (bd1 (M_isIn x2 0 9) fun r3 =>
if r3 = 0 then (some ((-1), cA)) else (bd1 (M_isIn x3 0 9999) fun r5 =>
if r5 = 0 then (some ((-1), cA)) else (bd1 (M_isIn x4 0 9999) fun r7 =>
if r7 = 0 then (some ((-1), cA)) else ((rd cA 8762 1).bind fun v9 =>
if v9 = 6 then (some ((-1), cA)) else ((rd cA 8762 1).bind fun v10 =>
bd1 (M_put cA v10 7 x2) fun c11 =>
bd1 (M_put c11 v10 8 x1) fun c13 =>
bd1 (M_put c13 v10 9 x3) fun c15 =>
bd1 (M_put c15 v10 10 x4) fun c17 =>
bd1 (M_begin φ c17 v10) fun c19 =>
(rd c19 8762 1).bind fun v21 =>
lt ((v21 + 1) : Int32) fun v22 =>
(wr c19 8762 1 v22).bind fun c23 =>
some (v10, c23))))))
noncomputable def M_w4 (x0 : Int32) (x1 : Int32) (x2 : Int32) (x3 : Int32) : Option Int64 :=
bd1 (M_w3 x0 x1 x2) fun r1 =>
some ((r1 <<< ((8 : Int32).toInt64 &&& 63)) ||| ((x3 : Int32).toInt64))
noncomputable def M_w5 (x0 : Int32) (x1 : Int32) (x2 : Int32) (x3 : Int32) (x4 : Int32) : Option Int64 :=
bd1 (M_w4 x0 x1 x2 x3) fun r1 =>
some ((r1 <<< ((8 : Int32).toInt64 &&& 63)) ||| ((x4 : Int32).toInt64))
noncomputable def M_w6 (x0 : Int32) (x1 : Int32) (x2 : Int32) (x3 : Int32) (x4 : Int32) (x5 : Int32) : Option Int64 :=
bd1 (M_w5 x0 x1 x2 x3 x4) fun r1 =>
some ((r1 <<< ((8 : Int32).toInt64 &&& 63)) ||| ((x5 : Int32).toInt64))
noncomputable def M_pair (φ : Nat) (sTaped : Int32) (sAt : Int32) (sPlace : Int32) (sToken : Int32) (sNumber : Int32) (sWord : Int64) (cTx : Nat → Int32) (cTp : Nat → Int32) (x1 : Int32) (x2 : Int32) (x3 : Int64) (x5 : Int32) : Option (Int32 × Int32 × Int32 × Int32 × Int32 × Int64 × (Nat → Int32)) :=
bd7 (M_figure φ sTaped sAt sPlace sToken sNumber sWord cTx cTp (x1 + 1) 0 x2) fun r1 c2 c3 c4 c5 c6 c7 =>
if r1 = 0 then (bd7 (M_worded φ sTaped c2 c3 c4 c5 c6 c7 cTp x3 (x1 + 2) x5) fun r9 c10 c11 c12 c13 c14 c15 =>
some (r9, c10, c11, c12, c13, c14, c15)) else (some (r1, c2, c3, c4, c5, c6, c7))
noncomputable def M_personClause (φ : Nat) (sTaped : Int32) (sAt : Int32) (sPlace : Int32) (sToken : Int32) (sNumber : Int32) (sWord : Int64) (cTx : Nat → Int32) (cTp : Nat → Int32) (x1 : Int32) : Option (Int32 × Int32 × Int32 × Int32 × Int32 × Int64 × (Nat → Int32)) :=
bd7 (M_figure φ sTaped sAt sPlace sToken sNumber sWord cTx cTp (x1 + 1) 0 7) fun r1 c2 c3 c4 c5 c6 c7 =>
bd7 (if r1 = 0 then (bd1 (M_w4 102 101 97 114) fun r47 =>
bd7 (M_worded φ sTaped c2 c3 c4 c5 c6 c7 cTp r47 (x1 + 2) 9) fun r49 c50 c51 c52 c53 c54 c55 =>
some (r49, c50, c51, c52, c53, c54, c55)) else (some (r1, c2, c3, c4, c5, c6, c7)) : Option (Int32 × Int32 × Int32 × Int32 × Int32 × Int64 × (Nat → Int32))) fun v9 c10 c11 c12 c13 c14 c15 =>
bd7 (if v9 = 0 then (bd1 (M_w5 103 111 111 100 115) fun r37 =>
bd7 (M_worded φ sTaped c10 c11 c12 c13 c14 c15 cTp r37 (x1 + 3) 9999) fun r39 c40 c41 c42 c43 c44 c45 =>
some (r39, c40, c41, c42, c43, c44, c45)) else (some (v9, c10, c11, c12, c13, c14, c15)) : Option (Int32 × Int32 × Int32 × Int32 × Int32 × Int64 × (Nat → Int32))) fun v18 c19 c20 c21 c22 c23 c24 =>
if v18 = 0 then (bd1 (M_w5 100 101 98 116 115) fun r27 =>
bd7 (M_worded φ sTaped c19 c20 c21 c22 c23 c24 cTp r27 (x1 + 4) 9999) fun r29 c30 c31 c32 c33 c34 c35 =>
some (r29, c30, c31, c32, c33, c34, c35)) else (some (v18, c19, c20, c21, c22, c23, c24))
noncomputable def M_betweenOf (φ : Nat) (sToken : Int32) (sWord : Int64) (sPiled : Int32) (cPl : Nat → Int32) : Option Int32 :=
if sToken = 43 then (some 6) else (if sToken = 45 then (some 7) else (if sToken = 42 then (some 8) else (if sToken = 47 then (some 9) else (bd1 (M_openNow φ sPiled cPl) fun r1 =>
if r1 = 41 then (bd1 (M_isCompared φ sPiled cPl) fun r3 =>
if r3 = 0 then (bd1 (M_compareOf sToken) fun r13 =>
some r13) else (bd1 (M_w3 97 110 100) fun r5 =>
bd1 (M_isWord sToken sWord r5) fun r7 =>
if r7 = 0 then (bd1 (M_w2 111 114) fun r9 =>
bd1 (M_isWord sToken sWord r9) fun r11 =>
if r11 = 0 then (some (-1)) else (some 22)) else (some 21))) else (some (-1))))))
noncomputable def M_partOf (φ : Nat) (sToken : Int32) (sWord : Int64) (sPiled : Int32) (cPl : Nat → Int32) (x1 : Int32) : Option Int32 :=
if x1.toInt < 40 then (some (-1)) else if 43 < x1.toInt then (some (-1)) else if x1 = 40 then (if sToken = 41 then (some 0) else (some (-1))) else if x1 = 41 then (bd1 (M_w4 116 104 101 110) fun r1 =>
bd1 (M_isWord sToken sWord r1) fun r3 =>
if r3 = 0 then (some (-1)) else (bd1 (M_isCompared φ sPiled cPl) fun r5 =>
if r5 = 0 then (some (-1)) else (some 42))) else if x1 = 42 then (bd1 (M_w4 101 108 115 101) fun r7 =>
bd1 (M_isWord sToken sWord r7) fun r9 =>
if r9 = 0 then (some (-1)) else (some 43)) else if x1 = 43 then (bd1 (M_w3 101 110 100) fun r11 =>
bd1 (M_isWord sToken sWord r11) fun r13 =>
if r13 = 0 then (some (-1)) else (some 0)) else none
noncomputable def M_nameOf (sToken : Int32) (sWord : Int64) : Option Int32 :=
if sToken = 2 then (bd1 (M_w5 109 111 110 116 104) fun r1 =>
if (lg_cmp sWord r1) = 0 then (some 0) else (bd1 (M_w3 119 104 111) fun r3 =>
if (lg_cmp sWord r3) = 0 then (some 1) else (bd1 (M_w4 102 101 97 114) fun r5 =>
if (lg_cmp sWord r5) = 0 then (some 2) else (bd1 (M_w4 108 97 110 100) fun r7 =>
if (lg_cmp sWord r7) = 0 then (some 3) else (bd1 (M_w6 102 111 114 101 115 116) fun r9 =>
if (lg_cmp sWord r9) = 0 then (some 4) else (bd1 (M_w6 104 117 110 103 101 114) fun r11 =>
if (lg_cmp sWord r11) = 0 then (some 5) else (bd1 (M_w3 111 117 116) fun r13 =>
if (lg_cmp sWord r13) = 0 then (some 6) else (bd1 (M_w5 103 111 111 100 115) fun r15 =>
if (lg_cmp sWord r15) = 0 then (some 7) else (bd1 (M_w5 100 101 98 116 115) fun r17 =>
if (lg_cmp sWord r17) = 0 then (some 8) else (bd1 (M_w5 99 114 111 119 100) fun r19 =>
if (lg_cmp sWord r19) = 0 then (some 9) else (some (-1)))))))))))) else (some (-1))
noncomputable def M_canCall (cA : Nat → Int32) (x1 : Int32) (x2 : Int32) : Option Int32 :=
bd1 (M_isAlive cA x1) fun r1 =>
if r1 = 0 then (some 0) else (bd1 (M_get cA x1 6) fun r3 =>
if r3 = 1 then (some 0) else (bd1 (M_isLand cA x2) fun r5 =>
if r5 = 0 then (some 0) else (some 1)))
noncomputable def M_move (φ : Nat) (cA : Nat → Int32) (x1 : Int32) (x2 : Int32) : Option (Int32 × (Nat → Int32)) :=
bd1 (M_canMove cA x1 x2) fun r1 =>
if r1 = 0 then (some (0, cA)) else (bd1 (M_keep φ cA) fun c3 =>
bd1 (M_put c3 x1 0 x2) fun c5 =>
some (1, c5))
noncomputable def M_summedUp_L38 (φ : Nat) (v1 : Int32) (v2 : Int32) (cA : Nat → Int32) (cTx : Nat → Int32) (cNm : Nat → Int32) : Nat → Int32 → Int32 → Int32 → (Nat → Int64) → (Nat → Int32) → Option ((Nat → Int64) × (Nat → Int32))
  | 0, _, _, _, _, _ => none
  | n11 + 1, v4, v5, v6, c7, c8 =>
    (rd cTx 2916 (v1 + 2)).bind fun v17 =>
    if v17 ≤ v6 then (some (c7, c8)) else ((rd cTx 2916 (v2 + (2 * v6))).bind fun v18 =>
    (rd cTx 2916 ((v2 + (2 * v6)) + 1)).bind fun v19 =>
    if 1 < v18 then (if v18 = 4 then (lt ((v4 + (-1)) : Int32) fun v52 =>
    lt ((v5 + (-1)) : Int32) fun v53 =>
    (rd c8 330 v53).bind fun v54 =>
    if v54 = 0 then ((rd c7 330 v52).bind fun v56 =>
    (wrL c7 330 (v52 - 1) v56).bind fun c57 =>
    lt ((v6 + 1) : Int32) fun v58 =>
    M_summedUp_L38 φ v1 v2 cA cTx cNm n11 v52 v53 v58 c57 c8) else (lt ((v6 + 1) : Int32) fun v55 =>
    M_summedUp_L38 φ v1 v2 cA cTx cNm n11 v52 v53 v55 c7 c8)) else (if 5 < v18 then (if 10 ≤ v18 then (if 20 ≤ v18 then (if v18 = 20 then ((rd c8 330 (v5 - 1)).bind fun v27 =>
    if v27 = 0 then ((wrZ c8 330 (v5 - 1) 1).bind fun c30 =>
    lt ((v6 + 1) : Int32) fun v31 =>
    M_summedUp_L38 φ v1 v2 cA cTx cNm n11 v4 v5 v31 c7 c30) else ((wrZ c8 330 (v5 - 1) 0).bind fun c28 =>
    lt ((v6 + 1) : Int32) fun v29 =>
    M_summedUp_L38 φ v1 v2 cA cTx cNm n11 v4 v5 v29 c7 c28)) else (lt ((v5 + (-1)) : Int32) fun v20 =>
    (rd c8 330 (v20 - 1)).bind fun v21 =>
    (rd c8 330 v20).bind fun v22 =>
    bd1 (M_joined v18 v21 v22) fun r23 =>
    (wrZ c8 330 (v20 - 1) r23).bind fun c25 =>
    lt ((v6 + 1) : Int32) fun v26 =>
    M_summedUp_L38 φ v1 v2 cA cTx cNm n11 v4 v20 v26 c7 c25)) else (lt ((v4 + (-2)) : Int32) fun v32 =>
    (rd c7 330 v32).bind fun v33 =>
    (rd c7 330 (v32 + 1)).bind fun v34 =>
    bd1 (M_isAsked v18 v33 v34) fun r35 =>
    (wrZ c8 330 v5 r35).bind fun c37 =>
    lt ((v5 + 1) : Int32) fun v38 =>
    lt ((v6 + 1) : Int32) fun v39 =>
    M_summedUp_L38 φ v1 v2 cA cTx cNm n11 v32 v38 v39 c7 c37)) else (lt ((v4 + (-1)) : Int32) fun v40 =>
    (rd c7 330 (v40 - 1)).bind fun v41 =>
    (rd c7 330 v40).bind fun v42 =>
    bd1 (M_two v18 v41 v42) fun r43 =>
    (wrL c7 330 (v40 - 1) r43).bind fun c45 =>
    lt ((v6 + 1) : Int32) fun v46 =>
    M_summedUp_L38 φ v1 v2 cA cTx cNm n11 v40 v5 v46 c45 c8)) else ((rd c7 330 (v4 - 1)).bind fun v47 =>
    bd1 (M_prefixed φ cA v18 v47) fun r48 =>
    (wrL c7 330 (v4 - 1) r48).bind fun c50 =>
    lt ((v6 + 1) : Int32) fun v51 =>
    M_summedUp_L38 φ v1 v2 cA cTx cNm n11 v4 v5 v51 c50 c8))) else (if v18 = 0 then (lt (((v19 : Int32).toInt64) : Int64) fun v64 =>
    (wrL c7 330 v4 v64).bind fun c65 =>
    lt ((v4 + 1) : Int32) fun v66 =>
    lt ((v6 + 1) : Int32) fun v67 =>
    M_summedUp_L38 φ v1 v2 cA cTx cNm n11 v66 v5 v67 c65 c8) else ((rd cNm 10 v19).bind fun v59 =>
    lt (((v59 : Int32).toInt64) : Int64) fun v60 =>
    (wrL c7 330 v4 v60).bind fun c61 =>
    lt ((v4 + 1) : Int32) fun v62 =>
    lt ((v6 + 1) : Int32) fun v63 =>
    M_summedUp_L38 φ v1 v2 cA cTx cNm n11 v62 v5 v63 c61 c8)))
noncomputable def M_summedUp (φ : Nat) (cA : Nat → Int32) (cTx : Nat → Int32) (cNm : Nat → Int32) (cVa : Nat → Int64) (cTr : Nat → Int32) (x1 : Int32) (x2 : Int32) : Option (Int64 × (Nat → Int64) × (Nat → Int32)) :=
lt ((((729 * x1) + 1) + (5 * x2)) : Int32) fun v1 =>
lt (((729 * x1) + 121) : Int32) fun v2 =>
(rd cTx 2916 (v1 + 1)).bind fun v3 =>
bd2 (M_summedUp_L38 φ v1 v2 cA cTx cNm φ 0 0 v3 cVa cTr) fun c9 c10 =>
(rd c9 330 0).bind fun v16 =>
some (v16, c9, c10)
noncomputable def M_kill (φ : Nat) (sIsW : Int32) (sDied : Int32) (cA : Nat → Int32) (x1 : Int32) (x2 : Int32) : Option (Int32 × Int32 × (Nat → Int32)) :=
bd1 (M_areBeside cA x1 x2) fun r1 =>
if r1 = 0 then (some (0, sDied, cA)) else (bd1 (M_keep φ cA) fun c3 =>
bd2 (M_killNow sIsW sDied c3 x1 x2) fun c5 c6 =>
some (1, c5, c6))
noncomputable def M_heads_L36 (φ : Nat) (x1 : Int32) (cA : Nat → Int32) : Nat → Int32 → (Nat → Int32) → Option (Int32 × (Nat → Int32))
  | 0, _, _ => none
  | n12 + 1, v8, c9 =>
    if v8 ≤ 0 then (some (v8, c9)) else (bd2 (M_isExplained φ cA c9 v8) fun r18 c19 =>
    if r18 = 0 then (lt ((v8 + 1) : Int32) fun v21 =>
    M_heads_L36 φ x1 cA n12 v21 c19) else (some (v8, c19)))
noncomputable def M_heads (φ : Nat) (cA : Nat → Int32) (cHd : Nat → Int32) (x1 : Int32) : Option (Int32 × (Nat → Int32)) :=
(rd cA 8762 6).bind fun v1 =>
bd1 (M_isIn x1 (-1) (v1 - 1)) fun r2 =>
if r2 = 0 then (some ((-2), cHd)) else ((rd cA 8762 6).bind fun v4 =>
bd1 (if v4 = 0 then (some 0) else (some 1) : Option Int32) fun v5 =>
bd2 (M_heads_L36 φ x1 cA φ v5 cHd) fun v10 c11 =>
if x1 = (-1) then (some (v10, c11)) else ((rd c11 8 x1).bind fun v17 =>
some (v17, c11)))
noncomputable def M_isHungers (sTaped : Int32) (sAt : Int32) (sPlace : Int32) (sToken : Int32) (cTp : Nat → Int32) : Option Int32 :=
if sToken = 2 then (if (sAt - sPlace) = 7 then (bd1 (M_byteAt sTaped cTp sPlace) fun r1 =>
bd1 (M_byteAt sTaped cTp (sPlace + 1)) fun r3 =>
bd1 (M_byteAt sTaped cTp (sPlace + 2)) fun r5 =>
bd1 (M_byteAt sTaped cTp (sPlace + 3)) fun r7 =>
bd1 (M_w4 r1 r3 r5 r7) fun r9 =>
bd1 (M_w4 104 117 110 103) fun r11 =>
if (lg_cmp r9 r11) = 0 then (bd1 (M_byteAt sTaped cTp (sPlace + 4)) fun r13 =>
bd1 (M_byteAt sTaped cTp (sPlace + 5)) fun r15 =>
bd1 (M_byteAt sTaped cTp (sPlace + 6)) fun r17 =>
bd1 (M_w3 r13 r15 r17) fun r19 =>
bd1 (M_w3 101 114 115) fun r21 =>
if (lg_cmp r19 r21) = 0 then (some 1) else (some 0)) else (some 0)) else (some 0)) else (some 0)
noncomputable def M_behindOne (φ : Nat) (sTaped : Int32) (sAt : Int32) (sPlace : Int32) (sToken : Int32) (sNumber : Int32) (sWord : Int64) (sText0 : Int32) (sWritten : Int32) (sPiled : Int32) (sOpens : Int32) (sWhole : Int32) (cTx : Nat → Int32) (cTp : Nat → Int32) (cPl : Nat → Int32) : Option (Int32 × Int32 × Int32 × Int32 × Int32 × Int64 × Int32 × Int32 × Int32 × Int32 × (Nat → Int32) × (Nat → Int32)) :=
bd1 (M_betweenOf φ sToken sWord sPiled cPl) fun r1 =>
if r1 < 0 then (bd1 (M_openNow φ sPiled cPl) fun r3 =>
bd1 (M_partOf φ sToken sWord sPiled cPl r3) fun r5 =>
if 0 ≤ r5 then (bd4 (M_settle φ sText0 sWritten sPiled sOpens cTx cPl 1) fun c7 c8 c9 c10 =>
bd5 (M_nextToken φ sTaped sAt sPlace sToken sNumber sWord cTp) fun c12 c13 c14 c15 c16 =>
if r5 ≤ 0 then (lt ((c9 - 1) : Int32) fun v18 =>
lt ((c8 - 1) : Int32) fun v19 =>
if r3 = 43 then (bd2 (M_emit sText0 c7 c10 4 0) fun c25 c26 =>
bd4 (M_settle φ sText0 c25 v19 v18 c26 cPl 7) fun c28 c29 c30 c31 =>
some (1, c12, c13, c14, c15, c16, c28, c29, c30, sWhole, c31, cPl)) else (bd4 (M_settle φ sText0 c7 v19 v18 c10 cPl 7) fun c20 c21 c22 c23 =>
some (1, c12, c13, c14, c15, c16, c20, c21, c22, sWhole, c23, cPl))) else (bd1 (M_openAt φ c8 cPl) fun r33 =>
(wr cPl 160 r33 r5).bind fun c35 =>
some (1, c12, c13, c14, c15, c16, c7, c8, c9, 0, c10, c35))) else (some (0, sAt, sPlace, sToken, sNumber, sWord, sWritten, sPiled, sOpens, sWhole, cTx, cPl))) else (bd1 (M_rank r1) fun r36 =>
bd1 (if r36 = 4 then (some 5) else (bd1 (M_rank r1) fun r54 =>
some r54) : Option Int32) fun v38 =>
bd4 (M_settle φ sText0 sWritten sPiled sOpens cTx cPl v38) fun c41 c42 c43 c44 =>
(wr cPl 160 c42 r1).bind fun c46 =>
lt ((c42 + 1) : Int32) fun v47 =>
bd5 (M_nextToken φ sTaped sAt sPlace sToken sNumber sWord cTp) fun c48 c49 c50 c51 c52 =>
some (1, c48, c49, c50, c51, c52, c41, v47, c43, 0, c44, c46))
noncomputable def M_beginOne (φ : Nat) (sTaped : Int32) (sAt : Int32) (sPlace : Int32) (sToken : Int32) (sNumber : Int32) (sWord : Int64) (sText0 : Int32) (sWritten : Int32) (sSort0 : Int32) (sPiled : Int32) (sOpens : Int32) (sWhole : Int32) (cTx : Nat → Int32) (cTp : Nat → Int32) (cPl : Nat → Int32) : Option (Int32 × Int32 × Int32 × Int32 × Int32 × Int64 × Int32 × Int32 × Int32 × Int32 × (Nat → Int32) × (Nat → Int32)) :=
jn ((bd1 (M_nameOf sToken sWord) fun r3 =>
jn ((jn ((bd1 (if sToken = 1 then (some 0) else (some 1) : Option Int32) fun v9 =>
bd1 (if sToken = 1 then (some sNumber) else (some r3) : Option Int32) fun v12 =>
bd2 (M_emit sText0 sWritten cTx v9 v12) fun c15 c16 =>
bd5 (M_nextToken φ sTaped sAt sPlace sToken sNumber sWord cTp) fun c18 c19 c20 c21 c22 =>
bd4 (M_settle φ sText0 c15 sPiled sOpens c16 cPl 7) fun c24 c25 c26 c27 =>
some (0, c18, c19, c20, c21, c22, c24, c25, c26, 1, c27, cPl) : Option (Int32 × Int32 × Int32 × Int32 × Int32 × Int64 × Int32 × Int32 × Int32 × Int32 × (Nat → Int32) × (Nat → Int32)))) fun k7 =>
if sToken = 1 then (k7) else (if r3 < 0 then (if sToken = 40 then (bd9 (M_opened φ sTaped sAt sPlace sToken sNumber sWord sPiled sOpens cTp cPl 40) fun r97 c98 c99 c100 c101 c102 c103 c104 c105 =>
some (r97, c98, c99, c100, c101, c102, sWritten, c103, c104, sWhole, cTx, c105)) else (if sToken = 45 then (bd9 (M_opened φ sTaped sAt sPlace sToken sNumber sWord sPiled sOpens cTp cPl 5) fun r87 c88 c89 c90 c91 c92 c93 c94 c95 =>
some (r87, c88, c89, c90, c91, c92, sWritten, c93, c94, sWhole, cTx, c95)) else (bd1 (M_w4 111 110 101 115) fun r29 =>
bd1 (M_isWord sToken sWord r29) fun r31 =>
if r31 = 0 then (bd1 (M_w5 102 101 97 114 115) fun r33 =>
bd1 (M_isWord sToken sWord r33) fun r35 =>
if r35 = 0 then (bd1 (M_w2 105 102) fun r37 =>
bd1 (M_isWord sToken sWord r37) fun r39 =>
if r39 = 0 then (bd1 (M_w3 110 111 116) fun r41 =>
bd1 (M_isWord sToken sWord r41) fun r43 =>
if r43 = 0 then (some (1, sAt, sPlace, sToken, sNumber, sWord, sWritten, sPiled, sOpens, sWhole, cTx, cPl)) else (bd1 (M_isAskAhead φ sPiled cPl) fun r45 =>
if r45 = 0 then (some (1, sAt, sPlace, sToken, sNumber, sWord, sWritten, sPiled, sOpens, sWhole, cTx, cPl)) else (bd9 (M_opened φ sTaped sAt sPlace sToken sNumber sWord sPiled sOpens cTp cPl 20) fun r47 c48 c49 c50 c51 c52 c53 c54 c55 =>
some (r47, c48, c49, c50, c51, c52, sWritten, c53, c54, sWhole, cTx, c55)))) else (bd9 (M_opened φ sTaped sAt sPlace sToken sNumber sWord sPiled sOpens cTp cPl 41) fun r57 c58 c59 c60 c61 c62 c63 c64 c65 =>
some (r57, c58, c59, c60, c61, c62, sWritten, c63, c64, sWhole, cTx, c65))) else (bd9 (M_opened φ sTaped sAt sPlace sToken sNumber sWord sPiled sOpens cTp cPl 3) fun r67 c68 c69 c70 c71 c72 c73 c74 c75 =>
some (r67, c68, c69, c70, c71, c72, sWritten, c73, c74, sWhole, cTx, c75))) else (bd9 (M_opened φ sTaped sAt sPlace sToken sNumber sWord sPiled sOpens cTp cPl 2) fun r77 c78 c79 c80 c81 c82 c83 c84 c85 =>
some (r77, c78, c79, c80, c81, c82, sWritten, c83, c84, sWhole, cTx, c85))))) else (k7)) : Option (Int32 × Int32 × Int32 × Int32 × Int32 × Int64 × Int32 × Int32 × Int32 × Int32 × (Nat → Int32) × (Nat → Int32)))) fun k5 =>
if r3 < 0 then (k5) else (bd1 (M_isOf sSort0 r3) fun r107 =>
if r107 = 0 then (some (5, sAt, sPlace, sToken, sNumber, sWord, sWritten, sPiled, sOpens, sWhole, cTx, cPl)) else (k5)) : Option (Int32 × Int32 × Int32 × Int32 × Int32 × Int64 × Int32 × Int32 × Int32 × Int32 × (Nat → Int32) × (Nat → Int32)))) fun k1 =>
if sToken = 1 then (if sNumber ≤ 9999 then (k1) else (some (2, sAt, sPlace, sToken, sNumber, sWord, sWritten, sPiled, sOpens, sWhole, cTx, cPl))) else (k1)
noncomputable def M_call (φ : Nat) (sIsW : Int32) (cA : Nat → Int32) (x1 : Int32) (x2 : Int32) : Option (Int32 × (Nat → Int32)) :=
bd1 (M_canCall cA x1 x2) fun r1 =>
if r1 = 0 then (some ((-1), cA)) else (bd1 (M_keep φ cA) fun c3 =>
bd1 (M_callNow φ sIsW c3 x1 x2) fun c5 =>
bd1 (M_get c5 x1 3) fun r7 =>
some (r7, c5))
noncomputable def M_says_L3 (φ : Nat) (x1 : Int32) (x2 : Int32) (x3 : Int32) (x4 : Int32) (cA : Nat → Int32) (cTx : Nat → Int32) (cNm : Nat → Int32) (cVa : Nat → Int64) (cTr : Nat → Int32) : Nat → Int32 → Option (Int32 × (Nat → Int64) × (Nat → Int32))
  | 0, _ => none
  | n2 + 1, v1 =>
    if x1 < 0 then (bd1 (M_cut ((x3 : Int32).toInt64) 0 x4) fun r7 =>
    some (r7, cVa, cTr)) else ((rd cTx 2916 (729 * x1)).bind fun v9 =>
    if v9 ≤ v1 then (bd1 (M_cut ((x3 : Int32).toInt64) 0 x4) fun r10 =>
    some (r10, cVa, cTr)) else ((rd cTx 2916 (((729 * x1) + 1) + (5 * v1))).bind fun v12 =>
    if v12 = x2 then (bd3 (M_summedUp φ cA cTx cNm cVa cTr x1 v1) fun r14 c15 c16 =>
    bd1 (M_cut r14 0 x4) fun r18 =>
    some (r18, c15, c16)) else (lt ((v1 + 1) : Int32) fun v13 =>
    M_says_L3 φ x1 x2 x3 x4 cA cTx cNm cVa cTr n2 v13)))
noncomputable def M_says (φ : Nat) (cA : Nat → Int32) (cTx : Nat → Int32) (cNm : Nat → Int32) (cVa : Nat → Int64) (cTr : Nat → Int32) (x1 : Int32) (x2 : Int32) (x3 : Int32) (x4 : Int32) : Option (Int32 × (Nat → Int64) × (Nat → Int32)) :=
M_says_L3 φ x1 x2 x3 x4 cA cTx cNm cVa cTr φ 0
noncomputable def M_priceOf (φ : Nat) (cA : Nat → Int32) (cTx : Nat → Int32) (cNm : Nat → Int32) (cVa : Nat → Int64) (cTr : Nat → Int32) (x1 : Int32) (x2 : Int32) : Option (Int32 × (Nat → Int32) × (Nat → Int64) × (Nat → Int32)) :=
bd1 (M_get cA x2 0) fun r1 =>
bd1 (M_nameIn φ cA cNm x2 r1) fun c3 =>
bd1 (M_get cA x2 5) fun r5 =>
bd3 (M_says φ cA cTx c3 cVa cTr x1 2 (100 + (20 * r5)) 9999) fun r7 c8 c9 =>
some (r7, c3, c8, c9)
noncomputable def M_payNow (φ : Nat) (sIsW : Int32) (cA : Nat → Int32) (cTx : Nat → Int32) (cNm : Nat → Int32) (cVa : Nat → Int64) (cTr : Nat → Int32) (x1 : Int32) (x2 : Int32) : Option (Int32 × (Nat → Int32) × (Nat → Int32) × (Nat → Int64) × (Nat → Int32)) :=
(rd cA 8762 3).bind fun v1 =>
bd4 (M_priceOf φ cA cTx cNm cVa cTr v1 x1) fun r2 c3 c4 c5 =>
bd1 (M_get cA x2 1) fun r7 =>
bd1 (M_put cA x2 1 (r7 - r2)) fun c9 =>
bd1 (M_pardonNow c9 x1) fun c11 =>
bd1 (M_write sIsW c11 x1 6) fun c13 =>
some (r2, c13, c3, c4, c5)
noncomputable def M_earnsOf (φ : Nat) (cA : Nat → Int32) (cTx : Nat → Int32) (cNm : Nat → Int32) (cVa : Nat → Int64) (cTr : Nat → Int32) (x1 : Int32) : Option (Int32 × (Nat → Int32) × (Nat → Int64) × (Nat → Int32)) :=
bd1 (M_get cA x1 0) fun r1 =>
bd1 (M_nameIn φ cA cNm x1 r1) fun c3 =>
(rd cA 8762 3).bind fun v5 =>
bd3 (M_says φ cA cTx c3 cVa cTr v5 3 10 99) fun r6 c7 c8 =>
some (r6, c3, c7, c8)
noncomputable def M_hungersOf (φ : Nat) (cA : Nat → Int32) (cTx : Nat → Int32) (cNm : Nat → Int32) (cVa : Nat → Int64) (cTr : Nat → Int32) (x1 : Int32) : Option (Int32 × (Nat → Int32) × (Nat → Int64) × (Nat → Int32)) :=
bd1 (M_get cA x1 0) fun r1 =>
bd1 (M_nameIn φ cA cNm x1 r1) fun c3 =>
(rd cA 8762 3).bind fun v5 =>
bd3 (M_says φ cA cTx c3 cVa cTr v5 0 1 9) fun r6 c7 c8 =>
some (r6, c3, c7, c8)
noncomputable def M_whose_L19 (φ : Nat) (v1 : Int32) (v2 : Int32) (cA : Nat → Int32) (cTx : Nat → Int32) : Nat → Int32 → Int32 → (Nat → Int32) → (Nat → Int64) → (Nat → Int32) → Option (Int32 × (Nat → Int32) × (Nat → Int64) × (Nat → Int32))
  | 0, _, _, _, _, _ => none
  | n25 + 1, v16, v17, c18, c19, c20 =>
    (rd cA 8762 8).bind fun v34 =>
    if v34 ≤ v17 then (some (v16, c18, c19, c20)) else (if v16 = 0 then (lt ((v17 + 1) : Int32) fun v35 =>
    M_whose_L19 φ v1 v2 cA cTx n25 0 v35 c18 c19 c20) else ((rd cA 8762 (125 + (2 * v17))).bind fun v36 =>
    bd4 (M_priceOf φ cA cTx c18 c19 c20 v2 v36) fun r37 c38 c39 c40 =>
    (rd cA 8762 ((125 + (2 * v17)) + 1)).bind fun v42 =>
    if r37 = v42 then (lt ((v17 + 1) : Int32) fun v44 =>
    M_whose_L19 φ v1 v2 cA cTx n25 1 v44 c38 c39 c40) else (lt ((v17 + 1) : Int32) fun v43 =>
    M_whose_L19 φ v1 v2 cA cTx n25 0 v43 c38 c39 c40)))
noncomputable def M_whose_L4 (φ : Nat) (cA : Nat → Int32) (cTx : Nat → Int32) : Nat → Int32 → Int32 → (Nat → Int32) → (Nat → Int64) → (Nat → Int32) → Option (Int32 × (Nat → Int32) × (Nat → Int64) × (Nat → Int32))
  | 0, _, _, _, _, _ => none
  | n10 + 1, v1, v2, c3, c4, c5 =>
    (rd cA 8762 2).bind fun v15 =>
    if v15 ≤ v2 then (some (v1, c3, c4, c5)) else (bd4 (M_whose_L19 φ v1 v2 cA cTx φ 1 0 c3 c4 c5) fun v21 c22 c23 c24 =>
    if v21 = 0 then (lt ((v1 ||| 0) : Int32) fun v30 =>
    lt ((v2 + 1) : Int32) fun v31 =>
    M_whose_L4 φ cA cTx n10 v30 v31 c22 c23 c24) else (lt ((v1 ||| (1 <<< (v2 &&& 31))) : Int32) fun v32 =>
    lt ((v2 + 1) : Int32) fun v33 =>
    M_whose_L4 φ cA cTx n10 v32 v33 c22 c23 c24))
noncomputable def M_whose (φ : Nat) (cA : Nat → Int32) (cTx : Nat → Int32) (cNm : Nat → Int32) (cVa : Nat → Int64) (cTr : Nat → Int32) : Option (Int32 × (Nat → Int32) × (Nat → Int64) × (Nat → Int32)) :=
bd4 (M_whose_L4 φ cA cTx φ 0 0 cNm cVa cTr) fun v6 c7 c8 c9 =>
some (v6, c7, c8, c9)
noncomputable def M_sortOf (sTaped : Int32) (sAt : Int32) (sPlace : Int32) (sToken : Int32) (sWord : Int64) (cTp : Nat → Int32) : Option Int32 :=
bd1 (M_isHungers sTaped sAt sPlace sToken cTp) fun r1 =>
if r1 = 0 then (bd1 (M_w5 102 105 110 100 115) fun r3 =>
bd1 (M_isWord sToken sWord r3) fun r5 =>
if r5 = 0 then (bd1 (M_w5 112 114 105 99 101) fun r7 =>
bd1 (M_isWord sToken sWord r7) fun r9 =>
if r9 = 0 then (bd1 (M_w5 101 97 114 110 115) fun r11 =>
bd1 (M_isWord sToken sWord r11) fun r13 =>
if r13 = 0 then (bd1 (M_w4 108 97 110 100) fun r15 =>
bd1 (M_isWord sToken sWord r15) fun r17 =>
if r17 = 0 then (bd1 (M_w4 114 111 97 100) fun r19 =>
bd1 (M_isWord sToken sWord r19) fun r21 =>
if r21 = 0 then (bd1 (M_w6 112 101 114 115 111 110) fun r23 =>
bd1 (M_isWord sToken sWord r23) fun r25 =>
if r25 = 0 then (bd1 (M_w4 99 97 108 108) fun r27 =>
bd1 (M_isWord sToken sWord r27) fun r29 =>
if r29 = 0 then (bd1 (M_w4 109 111 118 101) fun r31 =>
bd1 (M_isWord sToken sWord r31) fun r33 =>
if r33 = 0 then (bd1 (M_w4 102 101 101 100) fun r35 =>
bd1 (M_isWord sToken sWord r35) fun r37 =>
if r37 = 0 then (bd1 (M_w4 107 105 108 108) fun r39 =>
bd1 (M_isWord sToken sWord r39) fun r41 =>
if r41 = 0 then (bd1 (M_w6 112 97 114 100 111 110) fun r43 =>
bd1 (M_isWord sToken sWord r43) fun r45 =>
if r45 = 0 then (bd1 (M_w5 109 111 110 116 104) fun r47 =>
bd1 (M_isWord sToken sWord r47) fun r49 =>
if r49 = 0 then (some (-1)) else (some 12)) else (some 11)) else (some 10)) else (some 9)) else (some 8)) else (some 7)) else (some 6)) else (some 5)) else (some 4)) else (some 3)) else (some 2)) else (some 1)) else (some 0)
noncomputable def M_summed_L15 (φ : Nat) (sTaped : Int32) (sText0 : Int32) (sSort0 : Int32) (cTp : Nat → Int32) : Nat → Int32 → Int32 → Int32 → Int32 → Int64 → Int32 → Int32 → Int32 → Int32 → (Nat → Int32) → (Nat → Int32) → Option (Int32 × Int32 × Int32 × Int32 × Int32 × Int64 × Int32 × Int32 × Int32 × Int32 × (Nat → Int32) × (Nat → Int32))
  | 0, _, _, _, _, _, _, _, _, _, _, _ => none
  | n12 + 1, c1, c2, c3, c4, c5, c6, c7, c8, c9, c10, c11 =>
    if c9 = 0 then (bd12 (M_beginOne φ sTaped c1 c2 c3 c4 c5 sText0 c6 sSort0 c7 c8 c9 c10 cTp c11) fun r17 c18 c19 c20 c21 c22 c23 c24 c25 c26 c27 c28 =>
    if r17 = 0 then (M_summed_L15 φ sTaped sText0 sSort0 cTp n12 c18 c19 c20 c21 c22 c23 c24 c25 c26 c27 c28) else (some (r17, c18, c19, c20, c21, c22, c23, c24, c25, c26, c27, c28))) else (bd12 (M_behindOne φ sTaped c1 c2 c3 c4 c5 sText0 c6 c7 c8 c9 c10 cTp c11) fun r30 c31 c32 c33 c34 c35 c36 c37 c38 c39 c40 c41 =>
    if r30 = 0 then (bd1 (M_openNow φ c37 c41) fun r43 =>
    if r43 < 0 then (bd4 (M_settle φ sText0 c36 c37 c38 c40 c41 1) fun c45 c46 c47 c48 =>
    some (0, c31, c32, c33, c34, c35, c45, c46, c47, c39, c48, c41)) else (some (1, c31, c32, c33, c34, c35, c36, c37, c38, c39, c40, c41))) else (M_summed_L15 φ sTaped sText0 sSort0 cTp n12 c31 c32 c33 c34 c35 c36 c37 c38 c39 c40 c41))
noncomputable def M_summed (φ : Nat) (sTaped : Int32) (sAt : Int32) (sPlace : Int32) (sToken : Int32) (sNumber : Int32) (sWord : Int64) (sText0 : Int32) (sWritten : Int32) (sSort0 : Int32) (sPiled : Int32) (sOpens : Int32) (sWhole : Int32) (cTx : Nat → Int32) (cTp : Nat → Int32) (cPl : Nat → Int32) : Option (Int32 × Int32 × Int32 × Int32 × Int32 × Int64 × Int32 × Int32 × Int32 × Int32 × (Nat → Int32) × (Nat → Int32)) :=
M_summed_L15 φ sTaped sText0 sSort0 cTp φ sAt sPlace sToken sNumber sWord sWritten 0 0 0 cTx cPl
noncomputable def M_findsIn (φ : Nat) (cA : Nat → Int32) (cTx : Nat → Int32) (cNm : Nat → Int32) (cVa : Nat → Int64) (cTr : Nat → Int32) (x1 : Int32) (x2 : Int32) : Option (Int32 × (Nat → Int32) × (Nat → Int64) × (Nat → Int32)) :=
bd1 (M_nameIn φ cA cNm x1 x2) fun c1 =>
(rd cA 8762 3).bind fun v3 =>
(rd cA 8762 (80 + x2)).bind fun v4 =>
bd3 (M_says φ cA cTx c1 cVa cTr v3 1 (5 - (v4 / 2)) 10) fun r5 c6 c7 =>
some (r5, c1, c6, c7)
noncomputable def M_canPardon (φ : Nat) (cA : Nat → Int32) (cTx : Nat → Int32) (cNm : Nat → Int32) (cVa : Nat → Int64) (cTr : Nat → Int32) (x1 : Int32) (x2 : Int32) : Option (Int32 × (Nat → Int32) × (Nat → Int64) × (Nat → Int32)) :=
bd1 (M_isOutlaw cA x1) fun r1 =>
if r1 = 0 then (some (0, cNm, cVa, cTr)) else (bd1 (M_isAlive cA x2) fun r3 =>
if r3 = 0 then (some (0, cNm, cVa, cTr)) else (bd1 (M_get cA x2 1) fun r5 =>
(rd cA 8762 3).bind fun v7 =>
bd4 (M_priceOf φ cA cTx cNm cVa cTr v7 x1) fun r8 c9 c10 c11 =>
if r5 < r8 then (some (0, c9, c10, c11)) else (some (1, c9, c10, c11))))
noncomputable def M_layLikely_L50 (φ : Nat) (x2 : Int32) (v17 : Int32) (cA : Nat → Int32) (c11 : Nat → Int32) : Nat → Int32 → (Nat → Int32) → Option ((Nat → Int32))
  | 0, _, _ => none
  | n28 + 1, v25, c26 =>
    (rd cA 8762 0).bind fun v34 =>
    if v34 ≤ v25 then (some c26) else (bd1 (M_nextFrom φ cA c26 c11 v25 v17) fun r35 =>
    (rd c11 8 r35).bind fun v37 =>
    (rd c26 56 ((8 * (v17 - 1)) + r35)).bind fun v38 =>
    lt ((v37 * v38) : Int32) fun v39 =>
    (wr c26 56 ((8 * v17) + v25) v39).bind fun c40 =>
    lt ((v25 + 1) : Int32) fun v41 =>
    M_layLikely_L50 φ x2 v17 cA c11 n28 v41 c40)
noncomputable def M_layLikely_L42 (φ : Nat) (x2 : Int32) (cA : Nat → Int32) (c11 : Nat → Int32) : Nat → Int32 → (Nat → Int32) → Option ((Nat → Int32))
  | 0, _, _ => none
  | n20 + 1, v17, c18 =>
    if x2 < v17 then (some c18) else (bd1 (M_layLikely_L50 φ x2 v17 cA c11 φ 0 c18) fun c27 =>
    lt ((v17 + 1) : Int32) fun v33 =>
    M_layLikely_L42 φ x2 cA c11 n20 v33 c27)
noncomputable def M_layLikely_L2 (φ : Nat) (x1 : Int32) (x2 : Int32) (cA : Nat → Int32) (cTx : Nat → Int32) : Nat → Int32 → (Nat → Int32) → (Nat → Int64) → (Nat → Int32) → (Nat → Int32) → (Nat → Int32) → Option ((Nat → Int32) × (Nat → Int64) × (Nat → Int32) × (Nat → Int32) × (Nat → Int32))
  | 0, _, _, _, _, _, _ => none
  | n12 + 1, v1, c2, c3, c4, c5, c6 =>
    (rd cA 8762 0).bind fun v42 =>
    if v42 ≤ v1 then (some (c2, c3, c4, c5, c6)) else (bd4 (M_findsIn φ cA cTx c2 c3 c4 x1 v1) fun r43 c44 c45 c46 =>
    lt ((10 - r43) : Int32) fun v48 =>
    (wr c6 8 v1 v48).bind fun c49 =>
    (wr c5 56 v1 1).bind fun c50 =>
    lt ((v1 + 1) : Int32) fun v51 =>
    M_layLikely_L2 φ x1 x2 cA cTx n12 v51 c44 c45 c46 c50 c49)
noncomputable def M_layLikely (φ : Nat) (cA : Nat → Int32) (cTx : Nat → Int32) (cNm : Nat → Int32) (cVa : Nat → Int64) (cTr : Nat → Int32) (cLi : Nat → Int32) (cSa : Nat → Int32) (x1 : Int32) (x2 : Int32) : Option ((Nat → Int32) × (Nat → Int64) × (Nat → Int32) × (Nat → Int32) × (Nat → Int32)) :=
bd5 (M_layLikely_L2 φ x1 x2 cA cTx φ 0 cNm cVa cTr cLi cSa) fun c7 c8 c9 c10 c11 =>
bd1 (M_layLikely_L42 φ x2 cA c11 φ 1 c10) fun c19 =>
some (c7, c8, c9, c19, c11)
noncomputable def M_lawClause (φ : Nat) (sTaped : Int32) (sAt : Int32) (sPlace : Int32) (sToken : Int32) (sNumber : Int32) (sWord : Int64) (sText0 : Int32) (sWritten : Int32) (sSort0 : Int32) (sPiled : Int32) (sOpens : Int32) (sWhole : Int32) (cTx : Nat → Int32) (cTp : Nat → Int32) (cPl : Nat → Int32) (x1 : Int32) : Option (Int32 × Int32 × Int32 × Int32 × Int32 × Int64 × Int32 × Int32 × Int32 × Int32 × (Nat → Int32) × (Nat → Int32)) :=
(wr cTx 2916 (x1 + 1) sWritten).bind fun c1 =>
bd12 (M_summed φ sTaped sAt sPlace sToken sNumber sWord sText0 sWritten sSort0 sPiled sOpens sWhole c1 cTp cPl) fun r2 c3 c4 c5 c6 c7 c8 c9 c10 c11 c12 c13 =>
(wr c12 2916 (x1 + 2) c8).bind fun c15 =>
some (r2, c3, c4, c5, c6, c7, c8, c9, c10, c11, c15, c13)
noncomputable def M_findsOf (φ : Nat) (cA : Nat → Int32) (cTx : Nat → Int32) (cNm : Nat → Int32) (cVa : Nat → Int64) (cTr : Nat → Int32) (x1 : Int32) : Option (Int32 × (Nat → Int32) × (Nat → Int64) × (Nat → Int32)) :=
bd1 (M_get cA x1 0) fun r1 =>
bd4 (M_findsIn φ cA cTx cNm cVa cTr x1 r1) fun r3 c4 c5 c6 =>
some (r3, c4, c5, c6)
noncomputable def M_pardon (φ : Nat) (sIsW : Int32) (cA : Nat → Int32) (cTx : Nat → Int32) (cNm : Nat → Int32) (cVa : Nat → Int64) (cTr : Nat → Int32) (x1 : Int32) (x2 : Int32) : Option (Int32 × (Nat → Int32) × (Nat → Int32) × (Nat → Int64) × (Nat → Int32)) :=
bd4 (M_canPardon φ cA cTx cNm cVa cTr x1 x2) fun r1 c2 c3 c4 =>
if r1 = 0 then (some ((-1), cA, c2, c3, c4)) else (bd1 (M_keep φ cA) fun c6 =>
bd5 (M_payNow φ sIsW c6 cTx c2 c3 c4 x1 x2) fun r8 c9 c10 c11 c12 =>
some (r8, c9, c10, c11, c12))
noncomputable def M_live (φ : Nat) (sIsW : Int32) (sDied : Int32) (cA : Nat → Int32) (cTx : Nat → Int32) (cNm : Nat → Int32) (cVa : Nat → Int64) (cTr : Nat → Int32) (x1 : Int32) : Option (Int32 × (Nat → Int32) × (Nat → Int32) × (Nat → Int64) × (Nat → Int32)) :=
bd1 (M_get cA x1 6) fun r1 =>
if r1 = 3 then (some (sDied, cA, cNm, cVa, cTr)) else (bd1 (M_get cA x1 6) fun r3 =>
if r3 = 1 then (bd1 (M_get cA x1 4) fun r5 =>
bd4 (M_hungersOf φ cA cTx cNm cVa cTr x1) fun r7 c8 c9 c10 =>
bd1 (M_cut (((r5 + r7) : Int32).toInt64) 0 9) fun r12 =>
bd1 (M_put cA x1 4 r12) fun c14 =>
bd1 (M_get c14 x1 4) fun r16 =>
if r16 = 9 then (bd2 (M_die sIsW sDied c14 x1 3) fun c33 c34 =>
some (c33, c34, c8, c9, c10)) else (bd4 (M_findsOf φ c14 cTx c8 c9 c10 x1) fun r18 c19 c20 c21 =>
bd2 (M_drawn c14 10) fun r23 c24 =>
if r18 ≤ r23 then (bd1 (M_get c24 x1 5) fun r26 =>
bd1 (M_put c24 x1 5 (r26 + 1)) fun c28 =>
some (sDied, c28, c19, c20, c21)) else (bd2 (M_die sIsW sDied c24 x1 4) fun c30 c31 =>
some (c30, c31, c19, c20, c21)))) else (bd1 (M_get cA x1 1) fun r36 =>
bd4 (M_earnsOf φ cA cTx cNm cVa cTr x1) fun r38 c39 c40 c41 =>
bd1 (M_cut (((r36 + r38) : Int32).toInt64) 0 9999) fun r43 =>
bd1 (M_put cA x1 1 r43) fun c45 =>
some (sDied, c45, c39, c40, c41)))
noncomputable def M_of (φ : Nat) (cA : Nat → Int32) (cTx : Nat → Int32) (cNm : Nat → Int32) (cVa : Nat → Int64) (cTr : Nat → Int32) (x1 : Int32) (x2 : Int32) : Option (Int32 × (Nat → Int32) × (Nat → Int64) × (Nat → Int32)) :=
bd1 (M_isPerson cA x1) fun r1 =>
if r1 = 0 then (some ((-1), cNm, cVa, cTr)) else (if x2.toInt < 0 then (bd1 (M_isIn x2 2 7) fun r3 =>
if r3 = 0 then (some ((-1), cNm, cVa, cTr)) else (bd1 (M_get cA x1 (x2 - 1)) fun r5 =>
some (r5, cNm, cVa, cTr))) else if 12 < x2.toInt then (bd1 (M_isIn x2 2 7) fun r3 =>
if r3 = 0 then (some ((-1), cNm, cVa, cTr)) else (bd1 (M_get cA x1 (x2 - 1)) fun r5 =>
some (r5, cNm, cVa, cTr))) else if x2 = 0 then (bd1 (M_get cA x1 0) fun r11 =>
some (r11, cNm, cVa, cTr)) else if x2 = 1 then (bd1 (M_get cA x1 7) fun r13 =>
some (r13, cNm, cVa, cTr)) else if x2 = 2 then (bd1 (M_isIn x2 2 7) fun r15 =>
if r15 = 0 then (some ((-1), cNm, cVa, cTr)) else (bd1 (M_get cA x1 (x2 - 1)) fun r17 =>
some (r17, cNm, cVa, cTr))) else if x2 = 3 then (bd1 (M_isIn x2 2 7) fun r19 =>
if r19 = 0 then (some ((-1), cNm, cVa, cTr)) else (bd1 (M_get cA x1 (x2 - 1)) fun r21 =>
some (r21, cNm, cVa, cTr))) else if x2 = 4 then (bd1 (M_isIn x2 2 7) fun r23 =>
if r23 = 0 then (some ((-1), cNm, cVa, cTr)) else (bd1 (M_get cA x1 (x2 - 1)) fun r25 =>
some (r25, cNm, cVa, cTr))) else if x2 = 5 then (bd1 (M_isIn x2 2 7) fun r27 =>
if r27 = 0 then (some ((-1), cNm, cVa, cTr)) else (bd1 (M_get cA x1 (x2 - 1)) fun r29 =>
some (r29, cNm, cVa, cTr))) else if x2 = 6 then (bd1 (M_isIn x2 2 7) fun r31 =>
if r31 = 0 then (some ((-1), cNm, cVa, cTr)) else (bd1 (M_get cA x1 (x2 - 1)) fun r33 =>
some (r33, cNm, cVa, cTr))) else if x2 = 7 then (bd1 (M_isIn x2 2 7) fun r35 =>
if r35 = 0 then (some ((-1), cNm, cVa, cTr)) else (bd1 (M_get cA x1 (x2 - 1)) fun r37 =>
some (r37, cNm, cVa, cTr))) else if x2 = 8 then (bd4 (M_hungersOf φ cA cTx cNm cVa cTr x1) fun r39 c40 c41 c42 =>
some (r39, c40, c41, c42)) else if x2 = 9 then (bd4 (M_findsOf φ cA cTx cNm cVa cTr x1) fun r44 c45 c46 c47 =>
some (r44, c45, c46, c47)) else if x2 = 10 then ((rd cA 8762 3).bind fun v49 =>
bd4 (M_priceOf φ cA cTx cNm cVa cTr v49 x1) fun r50 c51 c52 c53 =>
some (r50, c51, c52, c53)) else if x2 = 11 then (bd4 (M_earnsOf φ cA cTx cNm cVa cTr x1) fun r55 c56 c57 c58 =>
some (r55, c56, c57, c58)) else if x2 = 12 then (bd1 (M_get cA x1 0) fun r60 =>
bd1 (M_crowdOf φ cA x1 r60) fun r62 =>
some (r62, cNm, cVa, cTr)) else none)
noncomputable def M_surest_L115 (φ : Nat) (x2 : Int32) (x3 : Int32) (v15 : Int32) (cA : Nat → Int32) (c10 : Nat → Int32) (c11 : Nat → Int32) : Nat → Int32 → Int32 → Option Int32
  | 0, _, _ => none
  | n27 + 1, v24, v25 =>
    if x3 < v25 then (some v24) else (if v15 = 0 then (bd1 (M_lowestFrom φ cA v24) fun r35 =>
    lt ((v25 + 1) : Int32) fun v37 =>
    M_surest_L115 φ x2 x3 v15 cA c10 c11 n27 r35 v37) else (bd1 (M_nextFrom φ cA c10 c11 v24 (x2 - v25)) fun r32 =>
    lt ((v25 + 1) : Int32) fun v34 =>
    M_surest_L115 φ x2 x3 v15 cA c10 c11 n27 r32 v34))
noncomputable def M_surest_L67 (φ : Nat) (x2 : Int32) (x3 : Int32) (r13 : Int32) (v15 : Int32) : Nat → Int32 → Int32 → Option Int32
  | 0, _, _ => none
  | n19 + 1, v16, v17 =>
    if x2 ≤ v17 then (some v16) else (lt ((v16 * 10) : Int32) fun v44 =>
    lt ((v17 + 1) : Int32) fun v45 =>
    M_surest_L67 φ x2 x3 r13 v15 n19 v44 v45)
noncomputable def M_surest (φ : Nat) (cA : Nat → Int32) (cTx : Nat → Int32) (cNm : Nat → Int32) (cVa : Nat → Int64) (cTr : Nat → Int32) (cLi : Nat → Int32) (cSa : Nat → Int32) (x1 : Int32) (x2 : Int32) (x3 : Int32) : Option (Int32 × (Nat → Int32) × (Nat → Int64) × (Nat → Int32) × (Nat → Int32) × (Nat → Int32)) :=
bd1 (M_isOutlaw cA x1) fun r1 =>
if r1 = 0 then (some ((-3), cNm, cVa, cTr, cLi, cSa)) else (bd1 (M_isIn x2 1 6) fun r3 =>
if r3 = 0 then (some ((-3), cNm, cVa, cTr, cLi, cSa)) else (bd1 (M_isIn x3 (-2) (x2 - 1)) fun r5 =>
if r5 = 0 then (some ((-3), cNm, cVa, cTr, cLi, cSa)) else (bd5 (M_layLikely φ cA cTx cNm cVa cTr cLi cSa x1 x2) fun c7 c8 c9 c10 c11 =>
bd1 (M_get cA x1 0) fun r13 =>
(rd c10 56 ((8 * x2) + r13)).bind fun v15 =>
bd1 (M_surest_L67 φ x2 x3 r13 v15 φ 1 0) fun v18 =>
if 0 ≤ x3 then (bd1 (M_surest_L115 φ x2 x3 v15 cA c10 c11 φ r13 0) fun v26 =>
some (v26, c7, c8, c9, c10, c11)) else (if x3 = (-2) then (bd1 (M_common φ v15 v18) fun r41 =>
nz r41 (
some ((v15 / r41), c7, c8, c9, c10, c11))) else (bd1 (M_common φ v15 v18) fun r38 =>
nz r38 (
some ((v18 / r38), c7, c8, c9, c10, c11)))))))
noncomputable def M_body (φ : Nat) (sTaped : Int32) (sAt : Int32) (sPlace : Int32) (sToken : Int32) (sNumber : Int32) (sWord : Int64) (sText0 : Int32) (sWritten : Int32) (sSort0 : Int32) (sPiled : Int32) (sOpens : Int32) (sWhole : Int32) (cTx : Nat → Int32) (cTp : Nat → Int32) (cPl : Nat → Int32) (x1 : Int32) (x2 : Int32) : Option (Int32 × Int32 × Int32 × Int32 × Int32 × Int64 × Int32 × Int32 × Int32 × Int32 × (Nat → Int32) × (Nat → Int32)) :=
if x1.toInt < 4 then (if 3 < x1 then (bd1 (M_w2 98 121) fun r1 =>
bd7 (M_pair φ sTaped sAt sPlace sToken sNumber sWord cTx cTp x2 5 r1 5) fun r3 c4 c5 c6 c7 c8 c9 =>
some (r3, c4, c5, c6, c7, c8, sWritten, sPiled, sOpens, sWhole, c9, cPl)) else (bd12 (M_lawClause φ sTaped sAt sPlace sToken sNumber sWord sText0 sWritten sSort0 sPiled sOpens sWhole cTx cTp cPl x2) fun r11 c12 c13 c14 c15 c16 c17 c18 c19 c20 c21 c22 =>
some (r11, c12, c13, c14, c15, c16, c17, c18, c19, c20, c21, c22))) else if 12 < x1.toInt then (if 3 < x1 then (bd1 (M_w2 98 121) fun r1 =>
bd7 (M_pair φ sTaped sAt sPlace sToken sNumber sWord cTx cTp x2 5 r1 5) fun r3 c4 c5 c6 c7 c8 c9 =>
some (r3, c4, c5, c6, c7, c8, sWritten, sPiled, sOpens, sWhole, c9, cPl)) else (bd12 (M_lawClause φ sTaped sAt sPlace sToken sNumber sWord sText0 sWritten sSort0 sPiled sOpens sWhole cTx cTp cPl x2) fun r11 c12 c13 c14 c15 c16 c17 c18 c19 c20 c21 c22 =>
some (r11, c12, c13, c14, c15, c16, c17, c18, c19, c20, c21, c22))) else if x1 = 4 then (bd7 (M_figure φ sTaped sAt sPlace sToken sNumber sWord cTx cTp (x2 + 1) 0 9) fun r47 c48 c49 c50 c51 c52 c53 =>
some (r47, c48, c49, c50, c51, c52, sWritten, sPiled, sOpens, sWhole, c53, cPl)) else if x1 = 5 then (bd1 (M_w2 116 111) fun r55 =>
bd7 (M_pair φ sTaped sAt sPlace sToken sNumber sWord cTx cTp x2 7 r55 7) fun r57 c58 c59 c60 c61 c62 c63 =>
some (r57, c58, c59, c60, c61, c62, sWritten, sPiled, sOpens, sWhole, c63, cPl)) else if x1 = 6 then (bd7 (M_personClause φ sTaped sAt sPlace sToken sNumber sWord cTx cTp x2) fun r65 c66 c67 c68 c69 c70 c71 =>
some (r65, c66, c67, c68, c69, c70, sWritten, sPiled, sOpens, sWhole, c71, cPl)) else if x1 = 7 then (bd1 (M_w2 105 110) fun r73 =>
bd7 (M_pair φ sTaped sAt sPlace sToken sNumber sWord cTx cTp x2 5 r73 7) fun r75 c76 c77 c78 c79 c80 c81 =>
some (r75, c76, c77, c78, c79, c80, sWritten, sPiled, sOpens, sWhole, c81, cPl)) else if x1 = 8 then (bd1 (M_w2 116 111) fun r83 =>
bd7 (M_pair φ sTaped sAt sPlace sToken sNumber sWord cTx cTp x2 5 r83 7) fun r85 c86 c87 c88 c89 c90 c91 =>
some (r85, c86, c87, c88, c89, c90, sWritten, sPiled, sOpens, sWhole, c91, cPl)) else if x1 = 9 then (if 3 < x1 then (bd1 (M_w2 98 121) fun r93 =>
bd7 (M_pair φ sTaped sAt sPlace sToken sNumber sWord cTx cTp x2 5 r93 5) fun r95 c96 c97 c98 c99 c100 c101 =>
some (r95, c96, c97, c98, c99, c100, sWritten, sPiled, sOpens, sWhole, c101, cPl)) else (bd12 (M_lawClause φ sTaped sAt sPlace sToken sNumber sWord sText0 sWritten sSort0 sPiled sOpens sWhole cTx cTp cPl x2) fun r103 c104 c105 c106 c107 c108 c109 c110 c111 c112 c113 c114 =>
some (r103, c104, c105, c106, c107, c108, c109, c110, c111, c112, c113, c114))) else if x1 = 10 then (if 3 < x1 then (bd1 (M_w2 98 121) fun r116 =>
bd7 (M_pair φ sTaped sAt sPlace sToken sNumber sWord cTx cTp x2 5 r116 5) fun r118 c119 c120 c121 c122 c123 c124 =>
some (r118, c119, c120, c121, c122, c123, sWritten, sPiled, sOpens, sWhole, c124, cPl)) else (bd12 (M_lawClause φ sTaped sAt sPlace sToken sNumber sWord sText0 sWritten sSort0 sPiled sOpens sWhole cTx cTp cPl x2) fun r126 c127 c128 c129 c130 c131 c132 c133 c134 c135 c136 c137 =>
some (r126, c127, c128, c129, c130, c131, c132, c133, c134, c135, c136, c137))) else if x1 = 11 then (if 3 < x1 then (bd1 (M_w2 98 121) fun r139 =>
bd7 (M_pair φ sTaped sAt sPlace sToken sNumber sWord cTx cTp x2 5 r139 5) fun r141 c142 c143 c144 c145 c146 c147 =>
some (r141, c142, c143, c144, c145, c146, sWritten, sPiled, sOpens, sWhole, c147, cPl)) else (bd12 (M_lawClause φ sTaped sAt sPlace sToken sNumber sWord sText0 sWritten sSort0 sPiled sOpens sWhole cTx cTp cPl x2) fun r149 c150 c151 c152 c153 c154 c155 c156 c157 c158 c159 c160 =>
some (r149, c150, c151, c152, c153, c154, c155, c156, c157, c158, c159, c160))) else if x1 = 12 then (bd7 (M_figure φ sTaped sAt sPlace sToken sNumber sWord cTx cTp (x2 + 1) 1 60) fun r162 c163 c164 c165 c166 c167 c168 =>
some (r162, c163, c164, c165, c166, c167, sWritten, sPiled, sOpens, sWhole, c168, cPl)) else none
noncomputable def M_feedNow (φ : Nat) (sIsW : Int32) (cA : Nat → Int32) (cTx : Nat → Int32) (cNm : Nat → Int32) (cVa : Nat → Int64) (cTr : Nat → Int32) (x1 : Int32) (x2 : Int32) : Option ((Nat → Int32) × (Nat → Int32) × (Nat → Int64) × (Nat → Int32)) :=
bd1 (M_put cA x1 4 0) fun c1 =>
bd1 (M_write sIsW c1 x1 2) fun c3 =>
bd1 (M_get c3 x2 6) fun r5 =>
if r5 = 1 then (some (c3, cNm, cVa, cTr)) else (bd4 (M_findsOf φ c3 cTx cNm cVa cTr x1) fun r7 c8 c9 c10 =>
bd2 (M_drawn c3 10) fun r12 c13 =>
if r7 ≤ r12 then (some (c13, c8, c9, c10)) else (bd1 (M_get c13 x2 3) fun r15 =>
bd1 (M_cut (((r15 + 1) : Int32).toInt64) 0 4) fun r17 =>
bd1 (M_put c13 x2 3 r17) fun c19 =>
some (c19, c8, c9, c10)))
noncomputable def M_goOn_L2 (φ : Nat) (sIsW : Int32) (cTx : Nat → Int32) : Nat → Int32 → Int32 → (Nat → Int32) → (Nat → Int32) → (Nat → Int64) → (Nat → Int32) → Option (Int32 × (Nat → Int32) × (Nat → Int32) × (Nat → Int64) × (Nat → Int32))
  | 0, _, _, _, _, _, _ => none
  | n12 + 1, v1, c2, c3, c4, c5, c6 =>
    (rd c3 8762 1).bind fun v20 =>
    if v20 ≤ v1 then (some (c2, c3, c4, c5, c6)) else (bd5 (M_live φ sIsW c2 c3 cTx c4 c5 c6 v1) fun c21 c22 c23 c24 c25 =>
    lt ((v1 + 1) : Int32) fun v27 =>
    M_goOn_L2 φ sIsW cTx n12 v27 c21 c22 c23 c24 c25)
noncomputable def M_goOn (φ : Nat) (sIsW : Int32) (sDied : Int32) (cA : Nat → Int32) (cTx : Nat → Int32) (cNm : Nat → Int32) (cVa : Nat → Int64) (cTr : Nat → Int32) : Option (Int32 × (Nat → Int32) × (Nat → Int32) × (Nat → Int64) × (Nat → Int32)) :=
bd5 (M_goOn_L2 φ sIsW cTx φ 0 sDied cA cNm cVa cTr) fun c7 c8 c9 c10 c11 =>
(rd c8 8762 10).bind fun v17 =>
lt ((v17 + 1) : Int32) fun v18 =>
(wr c8 8762 10 v18).bind fun c19 =>
some (c7, c19, c9, c10, c11)
noncomputable def M_happens (φ : Nat) (sIsW : Int32) (sDied : Int32) (cA : Nat → Int32) (cTx : Nat → Int32) (cNm : Nat → Int32) (cVa : Nat → Int64) (cTr : Nat → Int32) (x1 : Int32) : Option (Int32 × (Nat → Int32) × (Nat → Int32) × (Nat → Int64) × (Nat → Int32)) :=
(rd cA 8762 1).bind fun v1 =>
nz v1 (
lt ((x1 - x1 / v1 * v1) : Int32) fun v3 =>
(rd cA 8762 0).bind fun v4 =>
nz v4 (
lt (((x1 / 7) - (x1 / 7) / v4 * v4) : Int32) fun v6 =>
(rd cA 8762 1).bind fun v7 =>
nz v7 (
lt (((x1 / 5) - (x1 / 5) / v7 * v7) : Int32) fun v9 =>
lt ((x1 - x1 / 7 * 7) : Int32) fun v10 =>
if v10.toInt < 2 then (bd1 (M_canCall cA v3 v6) fun r11 =>
if r11 = 0 then (some (sDied, cA, cNm, cVa, cTr)) else (bd1 (M_callNow φ sIsW cA v3 v6) fun c13 =>
some (sDied, c13, cNm, cVa, cTr))) else if 6 < v10.toInt then (bd1 (M_canCall cA v3 v6) fun r11 =>
if r11 = 0 then (some (sDied, cA, cNm, cVa, cTr)) else (bd1 (M_callNow φ sIsW cA v3 v6) fun c13 =>
some (sDied, c13, cNm, cVa, cTr))) else if v10 = 2 then (bd1 (M_canMove cA v3 v6) fun r19 =>
if r19 = 0 then (some (sDied, cA, cNm, cVa, cTr)) else (bd1 (M_put cA v3 0 v6) fun c21 =>
some (sDied, c21, cNm, cVa, cTr))) else if v10 = 3 then (bd1 (M_areBeside cA v3 v9) fun r23 =>
if r23 = 0 then (some (sDied, cA, cNm, cVa, cTr)) else (bd4 (M_feedNow φ sIsW cA cTx cNm cVa cTr v3 v9) fun c25 c26 c27 c28 =>
some (sDied, c25, c26, c27, c28))) else if v10 = 4 then (if (x1 - x1 / 4 * 4) = 0 then (bd1 (M_areBeside cA v3 v9) fun r30 =>
if r30 = 0 then (some (sDied, cA, cNm, cVa, cTr)) else (bd2 (M_killNow sIsW sDied cA v3 v9) fun c32 c33 =>
some (c32, c33, cNm, cVa, cTr))) else (some (sDied, cA, cNm, cVa, cTr))) else if v10 = 5 then (bd4 (M_canPardon φ cA cTx cNm cVa cTr v3 v9) fun r35 c36 c37 c38 =>
if r35 = 0 then (some (sDied, cA, c36, c37, c38)) else (bd5 (M_payNow φ sIsW cA cTx c36 c37 c38 v3 v9) fun r40 c41 c42 c43 c44 =>
some (sDied, c41, c42, c43, c44))) else if v10 = 6 then ((rd cA 8762 10).bind fun v46 =>
if 9999 ≤ v46 then (some (sDied, cA, cNm, cVa, cTr)) else (bd5 (M_goOn φ sIsW sDied cA cTx cNm cVa cTr) fun c47 c48 c49 c50 c51 =>
some (c47, c48, c49, c50, c51))) else none)))
noncomputable def M_foretold_L27 (φ : Nat) (x1 : Int32) (x2 : Int32) (x3 : Int32) (c5 : Int32) (cTx : Nat → Int32) : Nat → Int32 → Int32 → (Nat → Int32) → (Nat → Int32) → (Nat → Int64) → (Nat → Int32) → Option (Int32 × (Nat → Int32) × (Nat → Int32) × (Nat → Int64) × (Nat → Int32))
  | 0, _, _, _, _, _, _ => none
  | n19 + 1, v8, c9, c10, c11, c12, c13 =>
    if x1 ≤ v8 then (some (c9, c10, c11, c12, c13)) else ((rd c10 8762 10).bind fun v34 =>
    if 9999 ≤ v34 then (lt ((v8 + 1) : Int32) fun v35 =>
    M_foretold_L27 φ x1 x2 x3 c5 cTx n19 v35 c9 c10 c11 c12 c13) else (bd5 (M_goOn φ c5 c9 c10 cTx c11 c12 c13) fun c36 c37 c38 c39 c40 =>
    lt ((v8 + 1) : Int32) fun v42 =>
    M_foretold_L27 φ x1 x2 x3 c5 cTx n19 v42 c36 c37 c38 c39 c40))
noncomputable def M_foretold (φ : Nat) (sIsW : Int32) (sDied : Int32) (cA : Nat → Int32) (cTx : Nat → Int32) (cNm : Nat → Int32) (cVa : Nat → Int64) (cTr : Nat → Int32) (cAs : Nat → Int32) (x1 : Int32) (x2 : Int32) (x3 : Int32) : Option (Int32 × Int32 × Int32 × (Nat → Int32) × (Nat → Int32) × (Nat → Int64) × (Nat → Int32) × (Nat → Int32)) :=
bd1 (M_isIn x1 1 60) fun r1 =>
if r1 = 0 then (some ((-1), sIsW, sDied, cA, cNm, cVa, cTr, cAs)) else (bd1 (M_isPerson cA x2) fun r3 =>
if r3 = 0 then (some ((-1), sIsW, sDied, cA, cNm, cVa, cTr, cAs)) else (bd2 (M_setAside φ sIsW cA cAs) fun c5 c6 =>
bd5 (M_foretold_L27 φ x1 x2 x3 c5 cTx φ 0 sDied cA cNm cVa cTr) fun c14 c15 c16 c17 c18 =>
if x3 = 0 then (bd1 (M_get c15 x2 6) fun r24 =>
bd2 (M_putBack φ c5 c15 c6) fun c26 c27 =>
some (r24, c26, c14, c27, c16, c17, c18, c6)) else (bd1 (M_get c15 x2 1) fun r29 =>
bd2 (M_putBack φ c5 c15 c6) fun c31 c32 =>
some (r29, c31, c14, c32, c16, c17, c18, c6))))
noncomputable def M_toPay_L27 (φ : Nat) (x1 : Int32) (x2 : Int32) (c5 : Int32) (cTx : Nat → Int32) (c6 : Nat → Int32) : Nat → Int32 → Int32 → Int32 → (Nat → Int32) → (Nat → Int32) → (Nat → Int64) → (Nat → Int32) → Option (Int32 × Int32 × Int32 × (Nat → Int32) × (Nat → Int32) × (Nat → Int64) × (Nat → Int32) × (Nat → Int32))
  | 0, _, _, _, _, _, _, _ => none
  | n15 + 1, v8, v9, c10, c11, c12, c13, c14 =>
    if 60 < v9 then (bd2 (M_putBack φ c5 c11 c6) fun c20 c21 =>
    some (v8, c20, c10, c21, c12, c13, c14, c6)) else (if v8 = (-1) then (bd4 (M_canPardon φ c11 cTx c12 c13 c14 x1 x2) fun r26 c27 c28 c29 =>
    bd1 (if r26 = 0 then (some v8) else (some v9) : Option Int32) fun v31 =>
    (rd c11 8762 10).bind fun v34 =>
    if v34 = 9999 then (bd2 (M_putBack φ c5 c11 c6) fun c42 c43 =>
    some (v31, c42, c10, c43, c27, c28, c29, c6)) else (bd5 (M_goOn φ c5 c10 c11 cTx c27 c28 c29) fun c35 c36 c37 c38 c39 =>
    lt ((v9 + 1) : Int32) fun v41 =>
    M_toPay_L27 φ x1 x2 c5 cTx c6 n15 v31 v41 c35 c36 c37 c38 c39)) else (bd2 (M_putBack φ c5 c11 c6) fun c23 c24 =>
    some (v8, c23, c10, c24, c12, c13, c14, c6)))
noncomputable def M_toPay (φ : Nat) (sIsW : Int32) (sDied : Int32) (cA : Nat → Int32) (cTx : Nat → Int32) (cNm : Nat → Int32) (cVa : Nat → Int64) (cTr : Nat → Int32) (cAs : Nat → Int32) (x1 : Int32) (x2 : Int32) : Option (Int32 × Int32 × Int32 × (Nat → Int32) × (Nat → Int32) × (Nat → Int64) × (Nat → Int32) × (Nat → Int32)) :=
bd1 (M_isPerson cA x1) fun r1 =>
if r1 = 0 then (some ((-1), sIsW, sDied, cA, cNm, cVa, cTr, cAs)) else (bd1 (M_isPerson cA x2) fun r3 =>
if r3 = 0 then (some ((-1), sIsW, sDied, cA, cNm, cVa, cTr, cAs)) else (bd2 (M_setAside φ sIsW cA cAs) fun c5 c6 =>
M_toPay_L27 φ x1 x2 c5 cTx c6 φ (-1) 0 sDied cA cNm cVa cTr))
noncomputable def M_clause (φ : Nat) (sTaped : Int32) (sAt : Int32) (sPlace : Int32) (sToken : Int32) (sNumber : Int32) (sWord : Int64) (sText0 : Int32) (sWritten : Int32) (sSort0 : Int32) (sPiled : Int32) (sOpens : Int32) (sWhole : Int32) (sOnce : Int32) (cTx : Nat → Int32) (cTp : Nat → Int32) (cPl : Nat → Int32) : Option (Int32 × Int32 × Int32 × Int32 × Int32 × Int64 × Int32 × Int32 × Int32 × Int32 × Int32 × Int32 × (Nat → Int32) × (Nat → Int32)) :=
bd1 (M_sortOf sTaped sAt sPlace sToken sWord cTp) fun r1 =>
if 0 ≤ r1 then (jn (((rd cTx 2916 sText0).bind fun v5 =>
if v5 = 24 then (some (6, sAt, sPlace, sToken, sNumber, sWord, sWritten, sSort0, sPiled, sOpens, sWhole, sOnce, cTx, cPl)) else (bd1 (if 3 < r1 then (some sOnce) else (lt ((sOnce ||| (1 <<< (r1 &&& 31))) : Int32) fun v39 =>
some v39) : Option Int32) fun c6 =>
bd5 (M_nextToken φ sTaped sAt sPlace sToken sNumber sWord cTp) fun c9 c10 c11 c12 c13 =>
lt (((sText0 + 1) + (5 * v5)) : Int32) fun v15 =>
(wr cTx 2916 v15 r1).bind fun c16 =>
bd12 (M_body φ sTaped c9 c10 c11 c12 c13 sText0 sWritten r1 sPiled sOpens sWhole c16 cTp cPl r1 v15) fun r17 c18 c19 c20 c21 c22 c23 c24 c25 c26 c27 c28 =>
if r17 = 0 then ((rd c27 2916 sText0).bind fun v30 =>
lt ((v30 + 1) : Int32) fun v31 =>
(wr c27 2916 sText0 v31).bind fun c32 =>
if c20 = 59 then (bd5 (M_nextToken φ sTaped c18 c19 c20 c21 c22 cTp) fun c33 c34 c35 c36 c37 =>
some (0, c33, c34, c35, c36, c37, c23, r1, c24, c25, c26, c6, c32, c28)) else (some (1, c18, c19, c20, c21, c22, c23, r1, c24, c25, c26, c6, c32, c28))) else (some (r17, c18, c19, c20, c21, c22, c23, r1, c24, c25, c26, c6, c27, c28))) : Option (Int32 × Int32 × Int32 × Int32 × Int32 × Int64 × Int32 × Int32 × Int32 × Int32 × Int32 × Int32 × (Nat → Int32) × (Nat → Int32)))) fun k3 =>
if 3 < r1 then (k3) else (bd1 (M_isWith sOnce r1) fun r40 =>
if r40 = 0 then (k3) else (some (4, sAt, sPlace, sToken, sNumber, sWord, sWritten, sSort0, sPiled, sOpens, sWhole, sOnce, cTx, cPl)))) else (some (1, sAt, sPlace, sToken, sNumber, sWord, sWritten, sSort0, sPiled, sOpens, sWhole, sOnce, cTx, cPl))
noncomputable def M_feeds (φ : Nat) (sIsW : Int32) (cA : Nat → Int32) (cTx : Nat → Int32) (cNm : Nat → Int32) (cVa : Nat → Int64) (cTr : Nat → Int32) (x1 : Int32) (x2 : Int32) : Option (Int32 × (Nat → Int32) × (Nat → Int32) × (Nat → Int64) × (Nat → Int32)) :=
bd1 (M_areBeside cA x1 x2) fun r1 =>
if r1 = 0 then (some ((-1), cA, cNm, cVa, cTr)) else (bd1 (M_keep φ cA) fun c3 =>
bd4 (M_feedNow φ sIsW c3 cTx cNm cVa cTr x1 x2) fun c5 c6 c7 c8 =>
bd1 (M_get c5 x2 3) fun r10 =>
some (r10, c5, c6, c7, c8))
noncomputable def M_arePassed_L7 (φ : Nat) (x1 : Int32) (sIsW : Int32) (cTx : Nat → Int32) : Nat → Int32 → Int32 → (Nat → Int32) → (Nat → Int32) → (Nat → Int64) → (Nat → Int32) → Option (Int32 × Int32 × (Nat → Int32) × (Nat → Int32) × (Nat → Int64) × (Nat → Int32))
  | 0, _, _, _, _, _, _ => none
  | n7 + 1, v1, c2, c3, c4, c5, c6 =>
    if x1 ≤ v1 then (some (1, c2, c3, c4, c5, c6)) else ((rd c3 8762 10).bind fun v12 =>
    if v12 = 9999 then (some (0, c2, c3, c4, c5, c6)) else (bd1 (M_keep φ c3) fun c13 =>
    bd5 (M_goOn φ sIsW c2 c13 cTx c4 c5 c6) fun c15 c16 c17 c18 c19 =>
    lt ((v1 + 1) : Int32) fun v21 =>
    M_arePassed_L7 φ x1 sIsW cTx n7 v21 c15 c16 c17 c18 c19))
noncomputable def M_arePassed (φ : Nat) (sIsW : Int32) (sDied : Int32) (cA : Nat → Int32) (cTx : Nat → Int32) (cNm : Nat → Int32) (cVa : Nat → Int64) (cTr : Nat → Int32) (x1 : Int32) : Option (Int32 × Int32 × (Nat → Int32) × (Nat → Int32) × (Nat → Int64) × (Nat → Int32)) :=
M_arePassed_L7 φ x1 sIsW cTx φ 0 0 cA cNm cVa cTr
noncomputable def M_isPlayed (φ : Nat) (sIsW : Int32) (sDied : Int32) (cA : Nat → Int32) (cTx : Nat → Int32) (cNm : Nat → Int32) (cVa : Nat → Int64) (cTr : Nat → Int32) (x1 : Int32) : Option (Int32 × Int32 × (Nat → Int32) × (Nat → Int32) × (Nat → Int64) × (Nat → Int32)) :=
(rd cTx 2916 (x1 + 1)).bind fun v1 =>
(rd cTx 2916 (x1 + 2)).bind fun v2 =>
(rd cTx 2916 x1).bind fun v3 =>
if v3.toInt < 4 then (some (1, sDied, cA, cNm, cVa, cTr)) else if 12 < v3.toInt then (some (1, sDied, cA, cNm, cVa, cTr)) else if v3 = 4 then (bd2 (M_land cA v1) fun r4 c5 =>
if r4 < 0 then (some (0, sDied, c5, cNm, cVa, cTr)) else (some (1, sDied, c5, cNm, cVa, cTr))) else if v3 = 5 then (bd2 (M_road cA v1 v2) fun r7 c8 =>
zk r7 (some (r7, sDied, c8, cNm, cVa, cTr))) else if v3 = 6 then ((rd cTx 2916 (x1 + 3)).bind fun v10 =>
(rd cTx 2916 (x1 + 4)).bind fun v11 =>
bd2 (M_person φ cA v1 v2 v10 v11) fun r12 c13 =>
if r12 < 0 then (some (0, sDied, c13, cNm, cVa, cTr)) else (some (1, sDied, c13, cNm, cVa, cTr))) else if v3 = 7 then (bd2 (M_call φ sIsW cA v1 v2) fun r15 c16 =>
if r15 < 0 then (some (0, sDied, c16, cNm, cVa, cTr)) else (some (1, sDied, c16, cNm, cVa, cTr))) else if v3 = 8 then (bd2 (M_move φ cA v1 v2) fun r18 c19 =>
zk r18 (some (r18, sDied, c19, cNm, cVa, cTr))) else if v3 = 9 then (bd5 (M_feeds φ sIsW cA cTx cNm cVa cTr v1 v2) fun r21 c22 c23 c24 c25 =>
if r21 < 0 then (some (0, sDied, c22, c23, c24, c25)) else (some (1, sDied, c22, c23, c24, c25))) else if v3 = 10 then (bd3 (M_kill φ sIsW sDied cA v1 v2) fun r27 c28 c29 =>
zk r27 (some (r27, c28, c29, cNm, cVa, cTr))) else if v3 = 11 then (bd5 (M_pardon φ sIsW cA cTx cNm cVa cTr v1 v2) fun r31 c32 c33 c34 c35 =>
if r31 < 0 then (some (0, sDied, c32, c33, c34, c35)) else (some (1, sDied, c32, c33, c34, c35))) else if v3 = 12 then (bd6 (M_arePassed φ sIsW sDied cA cTx cNm cVa cTr v1) fun r37 c38 c39 c40 c41 c42 =>
zk r37 (some (r37, c38, c39, c40, c41, c42))) else none
noncomputable def M_reigns_L52 (φ : Nat) (x2 : Int32) (sIsW : Int32) (cTx : Nat → Int32) : Nat → Int32 → Int32 → (Nat → Int32) → (Nat → Int32) → (Nat → Int64) → (Nat → Int32) → Option (Int32 × (Nat → Int32) × (Nat → Int32) × (Nat → Int64) × (Nat → Int32))
  | 0, _, _, _, _, _, _ => none
  | n21 + 1, v10, c11, c12, c13, c14, c15 =>
    if x2 ≤ v10 then (some (c11, c12, c13, c14, c15)) else ((rd c12 8762 11).bind fun v27 =>
    bd1 (M_anew c12) fun c28 =>
    bd5 (M_happens φ sIsW c11 c28 cTx c13 c14 c15 v27) fun c30 c31 c32 c33 c34 =>
    lt ((v10 + 1) : Int32) fun v36 =>
    M_reigns_L52 φ x2 sIsW cTx n21 v36 c30 c31 c32 c33 c34)
noncomputable def M_reigns (φ : Nat) (sIsW : Int32) (sDied : Int32) (cA : Nat → Int32) (cTx : Nat → Int32) (cNm : Nat → Int32) (cVa : Nat → Int64) (cTr : Nat → Int32) (x1 : Int32) (x2 : Int32) : Option (Int32 × Int32 × (Nat → Int32) × (Nat → Int32) × (Nat → Int64) × (Nat → Int32)) :=
bd1 (M_isIn x1 0 9999) fun r1 =>
if r1 = 0 then (some ((-1), sDied, cA, cNm, cVa, cTr)) else (bd1 (M_isIn x2 1 40) fun r3 =>
if r3 = 0 then (some ((-1), sDied, cA, cNm, cVa, cTr)) else ((rd cA 8762 1).bind fun v5 =>
if v5 = 0 then (some ((-1), sDied, cA, cNm, cVa, cTr)) else (bd1 (M_keep φ cA) fun c6 =>
lt (((x1 * 2) + 149) : Int32) fun v8 =>
(wr c6 8762 11 v8).bind fun c9 =>
bd5 (M_reigns_L52 φ x2 sIsW cTx φ 0 sDied c9 cNm cVa cTr) fun c16 c17 c18 c19 c20 =>
(rd c17 8762 10).bind fun v26 =>
some (v26, c16, c17, c18, c19, c20))))
noncomputable def M_readText_L43 (φ : Nat) (sTaped : Int32) (v2 : Int32) (cTp : Nat → Int32) : Nat → Int32 → Int32 → Int32 → Int32 → Int64 → Int32 → Int32 → Int32 → Int32 → Int32 → Int32 → (Nat → Int32) → (Nat → Int32) → Option (Int32 × Int32 × Int32 × Int32 × Int32 × Int64 × Int32 × Int32 × Int32 × Int32 × Int32 × Int32 × Int32 × (Nat → Int32) × (Nat → Int32))
  | 0, _, _, _, _, _, _, _, _, _, _, _, _, _ => none
  | n23 + 1, c10, c11, c12, c13, c14, c15, c16, c17, c18, c19, c20, c21, c22 =>
    if c12 = 0 then (some (0, c10, c11, c12, c13, c14, v2, c15, c16, c17, c18, c19, c20, c21, c22)) else (bd14 (M_clause φ sTaped c10 c11 c12 c13 c14 v2 c15 c16 c17 c18 c19 c20 c21 cTp c22) fun r28 c29 c30 c31 c32 c33 c34 c35 c36 c37 c38 c39 c40 c41 =>
    if r28 = 0 then (M_readText_L43 φ sTaped v2 cTp n23 c29 c30 c31 c32 c33 c34 c35 c36 c37 c38 c39 c40 c41) else (some (r28, c29, c30, c31, c32, c33, v2, c34, c35, c36, c37, c38, c39, c40, c41)))
noncomputable def M_readText (φ : Nat) (sTaped : Int32) (sAt : Int32) (sPlace : Int32) (sToken : Int32) (sNumber : Int32) (sWord : Int64) (sText0 : Int32) (sWritten : Int32) (sSort0 : Int32) (sPiled : Int32) (sOpens : Int32) (sWhole : Int32) (sOnce : Int32) (cA : Nat → Int32) (cTx : Nat → Int32) (cTp : Nat → Int32) (cPl : Nat → Int32) : Option (Int32 × Int32 × Int32 × Int32 × Int32 × Int64 × Int32 × Int32 × Int32 × Int32 × Int32 × Int32 × Int32 × (Nat → Int32) × (Nat → Int32)) :=
(rd cA 8762 2).bind fun v1 =>
lt ((729 * v1) : Int32) fun v2 =>
(wr cTx 2916 v2 0).bind fun c3 =>
bd5 (M_nextToken φ sTaped 0 sPlace sToken sNumber sWord cTp) fun c4 c5 c6 c7 c8 =>
M_readText_L43 φ sTaped v2 cTp φ c4 c5 c6 c7 c8 0 sSort0 sPiled sOpens sWhole 0 c3 cPl
noncomputable def M_month (φ : Nat) (sIsW : Int32) (sDied : Int32) (cA : Nat → Int32) (cTx : Nat → Int32) (cNm : Nat → Int32) (cVa : Nat → Int64) (cTr : Nat → Int32) (x1 : Int32) : Option (Int32 × Int32 × (Nat → Int32) × (Nat → Int32) × (Nat → Int64) × (Nat → Int32)) :=
bd1 (M_isIn x1 1 60) fun r1 =>
if r1 = 0 then (some ((-1), sDied, cA, cNm, cVa, cTr)) else ((rd cA 8762 10).bind fun v3 =>
if 9999 < (v3 + x1) then (some ((-1), sDied, cA, cNm, cVa, cTr)) else (bd6 (M_arePassed φ sIsW sDied cA cTx cNm cVa cTr x1) fun r4 c5 c6 c7 c8 c9 =>
if r4 = 0 then (some ((-1), c5, c6, c7, c8, c9)) else (some (c5, c5, c6, c7, c8, c9))))
noncomputable def M_played_L21 (φ : Nat) (x1 : Int32) (sIsW : Int32) (cTx : Nat → Int32) : Nat → Int32 → Int32 → (Nat → Int32) → (Nat → Int32) → (Nat → Int64) → (Nat → Int32) → Option (Int32 × Int32 × (Nat → Int32) × (Nat → Int32) × (Nat → Int64) × (Nat → Int32))
  | 0, _, _, _, _, _, _ => none
  | n10 + 1, v4, c5, c6, c7, c8, c9 =>
    (rd cTx 2916 (729 * x1)).bind fun v15 =>
    if v15 ≤ v4 then (some ((-1), c5, c6, c7, c8, c9)) else (bd6 (M_isPlayed φ sIsW c5 c6 cTx c7 c8 c9 (((729 * x1) + 1) + (5 * v4))) fun r16 c17 c18 c19 c20 c21 =>
    if r16 = 0 then (some (v4, c17, c18, c19, c20, c21)) else (lt ((v4 + 1) : Int32) fun v23 =>
    M_played_L21 φ x1 sIsW cTx n10 v23 c17 c18 c19 c20 c21))
noncomputable def M_played (φ : Nat) (sIsW : Int32) (sDied : Int32) (cA : Nat → Int32) (cTx : Nat → Int32) (cNm : Nat → Int32) (cVa : Nat → Int64) (cTr : Nat → Int32) (x1 : Int32) : Option (Int32 × Int32 × (Nat → Int32) × (Nat → Int32) × (Nat → Int64) × (Nat → Int32)) :=
(rd cA 8762 2).bind fun v1 =>
bd1 (M_isIn x1 0 (v1 - 1)) fun r2 =>
if r2 = 0 then (some ((-2), sDied, cA, cNm, cVa, cTr)) else (M_played_L21 φ x1 sIsW cTx φ 0 sDied cA cNm cVa cTr)
noncomputable def M_text (φ : Nat) (sTaped : Int32) (sFault : Int32) (sFaultP : Int32) (sAt : Int32) (sPlace : Int32) (sToken : Int32) (sNumber : Int32) (sWord : Int64) (sText0 : Int32) (sWritten : Int32) (sSort0 : Int32) (sPiled : Int32) (sOpens : Int32) (sWhole : Int32) (sOnce : Int32) (cA : Nat → Int32) (cTx : Nat → Int32) (cTp : Nat → Int32) (cPl : Nat → Int32) : Option (Int32 × Int32 × Int32 × Int32 × Int32 × Int32 × Int32 × Int32 × Int64 × Int32 × Int32 × Int32 × Int32 × Int32 × Int32 × Int32 × (Nat → Int32) × (Nat → Int32) × (Nat → Int32)) :=
(rd cA 8762 2).bind fun v1 =>
if v1 = 4 then (some ((-1), sTaped, sFault, sFaultP, sAt, sPlace, sToken, sNumber, sWord, sText0, sWritten, sSort0, sPiled, sOpens, sWhole, sOnce, cA, cTx, cPl)) else (bd15 (M_readText φ sTaped sAt sPlace sToken sNumber sWord sText0 sWritten sSort0 sPiled sOpens sWhole sOnce cA cTx cTp cPl) fun r2 c3 c4 c5 c6 c7 c8 c9 c10 c11 c12 c13 c14 c15 c16 =>
bd1 (if r2 = 0 then (some (-1)) else (some c4) : Option Int32) fun v18 =>
if r2 = 0 then ((rd cA 8762 2).bind fun v21 =>
lt ((v21 + 1) : Int32) fun v22 =>
(wr cA 8762 2 v22).bind fun c23 =>
(rd c23 8762 2).bind fun v24 =>
some ((v24 - 1), 0, r2, v18, c3, c4, c5, c6, c7, c8, c9, c10, c11, c12, c13, c14, c23, c15, c16)) else (some ((-1), 0, r2, v18, c3, c4, c5, c6, c7, c8, c9, c10, c11, c12, c13, c14, cA, c15, c16)))
