/-! WolfsHead: the pure form of its methods, printed by gen/genx.py -/
noncomputable def X_in (x0 : Int32) (x1 : Int32) (x2 : Int32) : Option Int32 :=
if x0 < x1 then (some 0) else (if x2 < x0 then (some 0) else (some 1))
noncomputable def X_land (cN : Nat → Int32) (cFor : Nat → Int32) (x1 : Int32) : Option (Int32 × (Nat → Int32) × (Nat → Int32)) :=
(rd cN 10 0).bind fun v1 =>
bd1 (X_in x1 0 9) fun r2 =>
if r2 = 0 then (some ((-1), cN, cFor)) else (if v1 = 8 then (some ((-1), cN, cFor)) else ((wr cFor 8 v1 x1).bind fun c4 =>
(rd cN 10 0).bind fun v5 =>
lt ((v5 + 1) : Int32) fun v6 =>
(wr cN 10 0 v6).bind fun c7 =>
some (v1, c7, c4)))
noncomputable def X_isLand (cN : Nat → Int32) (x1 : Int32) : Option Int32 :=
(rd cN 10 0).bind fun v1 =>
bd1 (X_in x1 0 (v1 - 1)) fun r2 =>
zk r2 (some r2)
noncomputable def X_isIn (x0 : Int32) (x1 : Int32) : Option Int32 :=
if ((x0 >>> (x1 &&& 31)) &&& 1) = 1 then (some 1) else (some 0)
noncomputable def X_isRoad (cRoad : Nat → Int32) (x1 : Int32) (x2 : Int32) : Option Int32 :=
(rd cRoad 8 x1).bind fun v1 =>
bd1 (X_isIn v1 x2) fun r2 =>
zk r2 (some r2)
noncomputable def X_road (cN : Nat → Int32) (cRoad : Nat → Int32) (x1 : Int32) (x2 : Int32) : Option (Int32 × (Nat → Int32)) :=
bd1 (X_isLand cN x1) fun r1 =>
if r1 = 0 then (some (0, cRoad)) else (bd1 (X_isLand cN x2) fun r3 =>
if r3 = 0 then (some (0, cRoad)) else (if x1 = x2 then (some (0, cRoad)) else (bd1 (X_isRoad cRoad x1 x2) fun r5 =>
if r5 = 0 then ((rd cRoad 8 x1).bind fun v7 =>
lt ((v7 ||| (1 <<< (x2 &&& 31))) : Int32) fun v8 =>
(wr cRoad 8 x1 v8).bind fun c9 =>
(rd c9 8 x2).bind fun v10 =>
lt ((v10 ||| (1 <<< (x1 &&& 31))) : Int32) fun v11 =>
(wr c9 8 x2 v11).bind fun c12 =>
some (1, c12)) else (some (0, cRoad)))))
noncomputable def S_tells_L9 (φ : Nat) (x1 : Int32) (x2 : Int32) (cN : Nat → Int32) : Nat → Int32 → (Nat → Nat → Int32) → Option ((Nat → Nat → Int32))
  | 0, _, _ => none
  | n5 + 1, v2, c3 =>
    (rd cN 10 4).bind fun v10 =>
    if v10 ≤ v2 then (some c3) else (inb v2 30 (
    (wr (c3 (v2 : Int32).toNatClampNeg) 135 x1 x2).bind fun f13 =>
    lt (va_up c3 (v2 : Int32).toNatClampNeg f13) fun c12 =>
    lt ((v2 + 1) : Int32) fun v14 =>
    S_tells_L9 φ x1 x2 cN n5 v14 c12))
noncomputable def S_tells (φ : Nat) (cN : Nat → Int32) (cRow : Nat → Int32) (cStep : Nat → Nat → Int32) (x1 : Int32) (x2 : Int32) : Option ((Nat → Int32) × (Nat → Nat → Int32)) :=
(wr cRow 135 x1 x2).bind fun c1 =>
bd1 (S_tells_L9 φ x1 x2 cN φ 0 cStep) fun c4 =>
some (c1, c4)
noncomputable def X_person (φ : Nat) (cN : Nat → Int32) (cRow : Nat → Int32) (cFear : Nat → Int32) (cStep : Nat → Nat → Int32) (x1 : Int32) (x2 : Int32) (x3 : Int32) (x4 : Int32) : Option (Int32 × (Nat → Int32) × (Nat → Int32) × (Nat → Int32) × (Nat → Nat → Int32)) :=
(rd cN 10 1).bind fun v1 =>
bd1 (X_isLand cN x1) fun r2 =>
if r2 = 0 then (some ((-1), cN, cRow, cFear, cStep)) else (bd1 (X_in x2 0 9) fun r4 =>
if r4 = 0 then (some ((-1), cN, cRow, cFear, cStep)) else (bd1 (X_in x3 0 9999) fun r6 =>
if r6 = 0 then (some ((-1), cN, cRow, cFear, cStep)) else (bd1 (X_in x4 0 9999) fun r8 =>
if r8 = 0 then (some ((-1), cN, cRow, cFear, cStep)) else (if v1 = 6 then (some ((-1), cN, cRow, cFear, cStep)) else ((wr cFear 6 v1 x2).bind fun c10 =>
(rd cN 10 1).bind fun v11 =>
lt ((v11 + 1) : Int32) fun v12 =>
(wr cN 10 1 v12).bind fun c13 =>
bd2 (S_tells φ c13 cRow cStep ((2 + (7 * v1)) + 0) x1) fun c14 c15 =>
bd2 (S_tells φ c13 c14 c15 ((2 + (7 * v1)) + 1) x3) fun c17 c18 =>
bd2 (S_tells φ c13 c17 c18 ((2 + (7 * v1)) + 2) x4) fun c20 c21 =>
some (v1, c13, c20, c10, c21))))))
noncomputable def X_put_L3 (φ : Nat) (x1 : Int32) : Nat → Int32 → Int32 → (Nat → Int32) → Option (Int32 × (Nat → Int32))
  | 0, _, _, _ => none
  | n6 + 1, v1, c2, c3 =>
    if v1 < 0 then (some (c2, c3)) else (lt ((((x1 >>> (v1 &&& 31)) : Int32).toInt8.toInt32) : Int32) fun v11 =>
    (wrB c3 300 c2 v11).bind fun c12 =>
    lt ((c2 + 1) : Int32) fun v13 =>
    lt ((v1 + (-8)) : Int32) fun v14 =>
    X_put_L3 φ x1 n6 v14 v13 c12)
noncomputable def X_put (φ : Nat) (sTaped : Int32) (cTape : Nat → Int32) (x1 : Int32) : Option (Int32 × (Nat → Int32)) :=
bd2 (X_put_L3 φ x1 φ 24 sTaped cTape) fun c4 c5 =>
some (c4, c5)
noncomputable def X_feed (φ : Nat) (sTaped : Int32) (cTape : Nat → Int32) (x1 : Int32) (x2 : Int32) (x3 : Int32) (x4 : Int32) (x5 : Int32) : Option (Int32 × Int32 × (Nat → Int32)) :=
if (sTaped + 20) ≤ 300 then (bd2 (X_put φ sTaped cTape x1) fun c1 c2 =>
bd2 (X_put φ c1 c2 x2) fun c4 c5 =>
bd2 (X_put φ c4 c5 x3) fun c7 c8 =>
bd2 (X_put φ c7 c8 x4) fun c10 c11 =>
bd2 (X_put φ c10 c11 x5) fun c13 c14 =>
some (c13, c13, c14)) else (some ((-1), sTaped, cTape))
noncomputable def X_end (sTaped : Int32) (x1 : Int32) : Option (Int32 × Int32) :=
bd1 (X_in x1 0 sTaped) fun r1 =>
if r1 = 0 then (some ((-1), sTaped)) else (some (x1, x1))
noncomputable def X_fault (sFault : Int32) (sFaultA : Int32) (x1 : Int32) : Option Int32 :=
if x1 = 0 then (some sFault) else (if x1 = 1 then (some sFaultA) else (some (-1)))
noncomputable def X_isText (cN : Nat → Int32) (x1 : Int32) : Option Int32 :=
(rd cN 10 2).bind fun v1 =>
bd1 (X_in x1 0 (v1 - 1)) fun r2 =>
zk r2 (some r2)
noncomputable def X_by (cN : Nat → Int32) (x1 : Int32) : Option (Int32 × (Nat → Int32)) :=
jn (((wr cN 10 3 x1).bind fun c3 =>
some (1, c3) : Option (Int32 × (Nat → Int32)))) fun k1 =>
if x1 = (-1) then (k1) else (bd1 (X_isText cN x1) fun r4 =>
if r4 = 0 then (some (0, cN)) else (k1))
noncomputable def S_keeps_L13 (φ : Nat) : Nat → Int32 → (Nat → Nat → Int32) → Option ((Nat → Nat → Int32))
  | 0, _, _ => none
  | n15 + 1, v12, c13 =>
    if 30 ≤ v12 then (some c13) else (inb v12 30 (
    lt ((v12 - 1) : Int32) fun v24 =>
    inb v24 30 (
    lt (va_up c13 (v24 : Int32).toNatClampNeg (c13 (v12 : Int32).toNatClampNeg)) fun c26 =>
    lt ((v12 + 1) : Int32) fun v27 =>
    S_keeps_L13 φ n15 v27 c26)))
noncomputable def S_keeps (φ : Nat) (cN : Nat → Int32) (cRow : Nat → Int32) (cStep : Nat → Nat → Int32) : Option ((Nat → Int32) × (Nat → Nat → Int32)) :=
(rd cN 10 4).bind fun v1 =>
bd2 (if v1 = 30 then (bd1 (S_keeps_L13 φ φ 1 cStep) fun c14 =>
(rd cN 10 4).bind fun v20 =>
lt ((v20 - 1) : Int32) fun v21 =>
(wr cN 10 4 v21).bind fun c22 =>
some (c22, c14)) else (some (cN, cStep)) : Option ((Nat → Int32) × (Nat → Nat → Int32))) fun c2 c3 =>
(rd c2 10 4).bind fun v6 =>
inb v6 30 (
lt (va_up c3 (v6 : Int32).toNatClampNeg cRow) fun c8 =>
(rd c2 10 4).bind fun v9 =>
lt ((v9 + 1) : Int32) fun v10 =>
(wr c2 10 4 v10).bind fun c11 =>
some (c11, c8))
noncomputable def X_at (cRow : Nat → Int32) (x1 : Int32) (x2 : Int32) : Option Int32 :=
(rd cRow 135 ((2 + (7 * x1)) + x2)).bind fun v1 =>
some v1
noncomputable def X_crowdIn_L6 (φ : Nat) (x2 : Int32) (x3 : Int32) (cN : Nat → Int32) (cRow : Nat → Int32) : Nat → Int32 → Int32 → Option Int32
  | 0, _, _ => none
  | n4 + 1, v1, v2 =>
    (rd cN 10 1).bind fun v9 =>
    if v9 ≤ v2 then (some v1) else (if v2 = x2 then (lt ((v1 + 0) : Int32) fun v10 =>
    lt ((v2 + 1) : Int32) fun v11 =>
    X_crowdIn_L6 φ x2 x3 cN cRow n4 v10 v11) else (bd1 (X_at cRow v2 6) fun r12 =>
    if r12 = 3 then (lt ((v1 + 0) : Int32) fun v14 =>
    lt ((v2 + 1) : Int32) fun v15 =>
    X_crowdIn_L6 φ x2 x3 cN cRow n4 v14 v15) else (bd1 (X_at cRow v2 0) fun r16 =>
    if r16 = x3 then (lt ((v1 + 1) : Int32) fun v20 =>
    lt ((v2 + 1) : Int32) fun v21 =>
    X_crowdIn_L6 φ x2 x3 cN cRow n4 v20 v21) else (lt ((v1 + 0) : Int32) fun v18 =>
    lt ((v2 + 1) : Int32) fun v19 =>
    X_crowdIn_L6 φ x2 x3 cN cRow n4 v18 v19))))
noncomputable def X_crowdIn (φ : Nat) (cN : Nat → Int32) (cRow : Nat → Int32) (x2 : Int32) (x3 : Int32) : Option Int32 :=
bd1 (X_crowdIn_L6 φ x2 x3 cN cRow φ 0 0) fun v3 =>
some v3
noncomputable def X_namesOf (φ : Nat) (cNames : Nat → Int32) (cN : Nat → Int32) (cRow : Nat → Int32) (cFor : Nat → Int32) (cFear : Nat → Int32) (x2 : Int32) (x3 : Int32) : Option ((Nat → Int32)) :=
(rd cRow 135 0).bind fun v1 =>
(wr cNames 16 0 v1).bind fun c2 =>
(wr c2 16 1 x2).bind fun c3 =>
(rd cFear 6 x2).bind fun v4 =>
(wr c3 16 2 v4).bind fun c5 =>
(wr c5 16 3 x3).bind fun c6 =>
(rd cFor 8 x3).bind fun v7 =>
(wr c6 16 4 v7).bind fun c8 =>
bd1 (X_at cRow x2 4) fun r9 =>
(wr c8 16 5 r9).bind fun c11 =>
bd1 (X_at cRow x2 5) fun r12 =>
(wr c11 16 6 r12).bind fun c14 =>
bd1 (X_at cRow x2 1) fun r15 =>
(wr c14 16 7 r15).bind fun c17 =>
bd1 (X_at cRow x2 2) fun r18 =>
(wr c17 16 8 r18).bind fun c20 =>
bd1 (X_crowdIn φ cN cRow x2 x3) fun r21 =>
(wr c20 16 9 r21).bind fun c23 =>
(acp cFear 6 c23 16 0 10 6).bind fun c24 =>
some c24
noncomputable def X_hungersOf (φ : Nat) (cNames : Nat → Int32) (cN : Nat → Int32) (cRow : Nat → Int32) (cFor : Nat → Int32) (cFear : Nat → Int32) (cText : Nat → Option Nat) (E : Nat → Option (Nat → Option ((Nat → Int32) → Int64))) (zN : Nat) (x2 : Int32) : Option (Int32 × (Nat → Int32)) :=
bd1 (X_at cRow x2 0) fun r1 =>
bd1 (X_namesOf φ cNames cN cRow cFor cFear x2 r1) fun c3 =>
bd1 (X_rules cN cText zN) fun r5 =>
bd1 (X_law c3 E r5 0 1 9) fun r7 =>
some (r7, c3)
noncomputable def X_sets (cRow : Nat → Int32) (x1 : Int32) (x2 : Int32) (x3 : Int32) : Option ((Nat → Int32)) :=
(wr cRow 135 ((2 + (7 * x1)) + x2) x3).bind fun c1 =>
some c1
noncomputable def X_draws (cRow : Nat → Int32) : Option ((Nat → Int32)) :=
(rd cRow 135 1).bind fun v1 =>
lt ((((v1 * 379) + 257) - ((v1 * 379) + 257) / 30469 * 30469) : Int32) fun v2 =>
(wr cRow 135 1 v2).bind fun c3 =>
some c3
noncomputable def X_draw (cRow : Nat → Int32) : Option (Int32 × (Nat → Int32)) :=
(rd cRow 135 1).bind fun v1 =>
lt ((v1 - v1 / 10 * 10) : Int32) fun v2 =>
bd1 (X_draws cRow) fun c3 =>
some (v2, c3)
noncomputable def X_findsIn (φ : Nat) (cNames : Nat → Int32) (cN : Nat → Int32) (cRow : Nat → Int32) (cFor : Nat → Int32) (cFear : Nat → Int32) (cText : Nat → Option Nat) (E : Nat → Option (Nat → Option ((Nat → Int32) → Int64))) (zN : Nat) (x2 : Int32) (x3 : Int32) : Option (Int32 × (Nat → Int32)) :=
bd1 (X_namesOf φ cNames cN cRow cFor cFear x2 x3) fun c1 =>
bd1 (X_rules cN cText zN) fun r3 =>
(rd c1 16 4).bind fun v5 =>
bd1 (X_law c1 E r3 1 (5 - (v5 / 2)) 10) fun r6 =>
some (r6, c1)
noncomputable def X_findsOf (φ : Nat) (cNames : Nat → Int32) (cN : Nat → Int32) (cRow : Nat → Int32) (cFor : Nat → Int32) (cFear : Nat → Int32) (cText : Nat → Option Nat) (E : Nat → Option (Nat → Option ((Nat → Int32) → Int64))) (zN : Nat) (x2 : Int32) : Option (Int32 × (Nat → Int32)) :=
bd1 (X_at cRow x2 0) fun r1 =>
bd2 (X_findsIn φ cNames cN cRow cFor cFear cText E zN x2 r1) fun r3 c4 =>
some (r3, c4)
noncomputable def X_writes (cRow : Nat → Int32) (x1 : Int32) (x2 : Int32) : Option ((Nat → Int32)) :=
(rd cRow 135 44).bind fun v1 =>
bd1 (if v1 = 30 then ((acp cRow 135 cRow 135 48 45 87).bind fun c14 =>
(rd c14 135 44).bind fun v15 =>
lt ((v15 - 1) : Int32) fun v16 =>
(wr c14 135 44 v16).bind fun c17 =>
some c17) else (some cRow) : Option ((Nat → Int32))) fun c2 =>
(rd c2 135 44).bind fun v5 =>
lt ((45 + (3 * v5)) : Int32) fun v6 =>
(rd c2 135 0).bind fun v7 =>
(wr c2 135 v6 v7).bind fun c8 =>
(wr c8 135 (v6 + 1) x1).bind fun c9 =>
(wr c9 135 (v6 + 2) x2).bind fun c10 =>
(rd c10 135 44).bind fun v11 =>
lt ((v11 + 1) : Int32) fun v12 =>
(wr c10 135 44 v12).bind fun c13 =>
some c13
noncomputable def X_dies (cRow : Nat → Int32) (x1 : Int32) (x2 : Int32) : Option ((Nat → Int32)) :=
bd1 (X_sets cRow x1 6 3) fun c1 =>
bd1 (X_writes c1 x1 x2) fun c3 =>
some c3
noncomputable def X_lives (φ : Nat) (cNames : Nat → Int32) (cN : Nat → Int32) (cRow : Nat → Int32) (cFor : Nat → Int32) (cFear : Nat → Int32) (cText : Nat → Option Nat) (E : Nat → Option (Nat → Option ((Nat → Int32) → Int64))) (zN : Nat) (x2 : Int32) : Option (Int32 × (Nat → Int32) × (Nat → Int32)) :=
bd1 (X_at cRow x2 4) fun r1 =>
bd2 (X_hungersOf φ cNames cN cRow cFor cFear cText E zN x2) fun r3 c4 =>
lt ((if (r1 + r3) < 9 then (r1 + r3) else 9) : Int32) fun v6 =>
bd1 (X_sets cRow x2 4 v6) fun c7 =>
bd1 (X_at c7 x2 4) fun r9 =>
bd2 (if r9 = 9 then (bd1 (X_dies c7 x2 3) fun c30 =>
some (c4, c30)) else (bd2 (X_draw c7) fun r17 c18 =>
bd2 (X_findsOf φ c4 cN c18 cFor cFear cText E zN x2) fun r20 c21 =>
if r20 ≤ r17 then (bd1 (X_at c18 x2 5) fun r23 =>
lt ((if (r23 + 1) < 9999 then (r23 + 1) else 9999) : Int32) fun v25 =>
bd1 (X_sets c18 x2 5 v25) fun c26 =>
some (c21, c26)) else (bd1 (X_dies c18 x2 4) fun c28 =>
some (c21, c28))) : Option ((Nat → Int32) × (Nat → Int32))) fun c11 c12 =>
bd1 (X_at c12 x2 6) fun r15 =>
if r15 = 3 then (some (0, c11, c12)) else (some (1, c11, c12))
noncomputable def X_earnsOf (φ : Nat) (cNames : Nat → Int32) (cN : Nat → Int32) (cRow : Nat → Int32) (cFor : Nat → Int32) (cFear : Nat → Int32) (cText : Nat → Option Nat) (E : Nat → Option (Nat → Option ((Nat → Int32) → Int64))) (zN : Nat) (x2 : Int32) : Option (Int32 × (Nat → Int32)) :=
bd1 (X_at cRow x2 0) fun r1 =>
bd1 (X_namesOf φ cNames cN cRow cFor cFear x2 r1) fun c3 =>
bd1 (X_rules cN cText zN) fun r5 =>
bd1 (X_law c3 E r5 3 10 99) fun r7 =>
some (r7, c3)
noncomputable def X_passes_L4 (φ : Nat) (cN : Nat → Int32) (cFor : Nat → Int32) (cFear : Nat → Int32) (cText : Nat → Option Nat) (E : Nat → Option (Nat → Option ((Nat → Int32) → Int64))) (zN : Nat) : Nat → Int32 → Int32 → (Nat → Int32) → (Nat → Int32) → Option (Int32 × (Nat → Int32) × (Nat → Int32))
  | 0, _, _, _, _ => none
  | n8 + 1, v1, v2, c3, c4 =>
    (rd cN 10 1).bind fun v16 =>
    if v16 ≤ v2 then (some (v1, c3, c4)) else (bd1 (X_at c4 v2 6) fun r17 =>
    if r17 = 3 then (lt ((v2 + 1) : Int32) fun v37 =>
    X_passes_L4 φ cN cFor cFear cText E zN n8 v1 v37 c3 c4) else (bd1 (X_at c4 v2 6) fun r19 =>
    if r19 = 1 then (bd3 (X_lives φ c3 cN c4 cFor cFear cText E zN v2) fun r21 c22 c23 =>
    if r21 = 0 then (lt ((v1 + 1) : Int32) fun v26 =>
    lt ((v2 + 1) : Int32) fun v27 =>
    X_passes_L4 φ cN cFor cFear cText E zN n8 v26 v27 c22 c23) else (lt ((v2 + 1) : Int32) fun v25 =>
    X_passes_L4 φ cN cFor cFear cText E zN n8 v1 v25 c22 c23)) else (bd1 (X_at c4 v2 1) fun r28 =>
    bd2 (X_earnsOf φ c3 cN c4 cFor cFear cText E zN v2) fun r30 c31 =>
    lt ((if (r28 + r30) < 9999 then (r28 + r30) else 9999) : Int32) fun v33 =>
    bd1 (X_sets c4 v2 1 v33) fun c34 =>
    lt ((v2 + 1) : Int32) fun v36 =>
    X_passes_L4 φ cN cFor cFear cText E zN n8 v1 v36 c31 c34)))
noncomputable def X_passes (φ : Nat) (cNames : Nat → Int32) (cN : Nat → Int32) (cRow : Nat → Int32) (cFor : Nat → Int32) (cFear : Nat → Int32) (cText : Nat → Option Nat) (E : Nat → Option (Nat → Option ((Nat → Int32) → Int64))) (zN : Nat) : Option (Int32 × (Nat → Int32) × (Nat → Int32)) :=
bd3 (X_passes_L4 φ cN cFor cFear cText E zN φ 0 0 cNames cRow) fun v5 c6 c7 =>
(rd c7 135 0).bind fun v13 =>
lt ((v13 + 1) : Int32) fun v14 =>
(wr c7 135 0 v14).bind fun c15 =>
some (v5, c6, c15)
noncomputable def X_month_L33 (φ : Nat) (x1 : Int32) (cFor : Nat → Int32) (cFear : Nat → Int32) (cText : Nat → Option Nat) (E : Nat → Option (Nat → Option ((Nat → Int32) → Int64))) (zN : Nat) : Nat → Int32 → Int32 → (Nat → Int32) → (Nat → Int32) → (Nat → Int32) → (Nat → Nat → Int32) → Option (Int32 × (Nat → Int32) × (Nat → Int32) × (Nat → Int32) × (Nat → Nat → Int32))
  | 0, _, _, _, _, _, _ => none
  | n15 + 1, v4, v5, c6, c7, c8, c9 =>
    if x1 ≤ v5 then (some (v4, c6, c7, c8, c9)) else (bd2 (S_keeps φ c7 c8 c9) fun c20 c21 =>
    bd3 (X_passes φ c6 c20 c8 cFor cFear cText E zN) fun r23 c24 c25 =>
    lt ((v4 + r23) : Int32) fun v27 =>
    lt ((v5 + 1) : Int32) fun v28 =>
    X_month_L33 φ x1 cFor cFear cText E zN n15 v27 v28 c24 c20 c25 c21)
noncomputable def X_month (φ : Nat) (cNames : Nat → Int32) (cN : Nat → Int32) (cRow : Nat → Int32) (cFor : Nat → Int32) (cFear : Nat → Int32) (cStep : Nat → Nat → Int32) (cText : Nat → Option Nat) (E : Nat → Option (Nat → Option ((Nat → Int32) → Int64))) (zN : Nat) (x1 : Int32) : Option (Int32 × (Nat → Int32) × (Nat → Int32) × (Nat → Int32) × (Nat → Nat → Int32)) :=
bd1 (X_in x1 1 60) fun r1 =>
if r1 = 0 then (some ((-1), cNames, cN, cRow, cStep)) else ((rd cRow 135 0).bind fun v3 =>
if (v3 + x1) ≤ 9999 then (bd5 (X_month_L33 φ x1 cFor cFear cText E zN φ 0 0 cNames cN cRow cStep) fun v10 c11 c12 c13 c14 =>
some (v10, c11, c12, c13, c14)) else (some ((-1), cNames, cN, cRow, cStep)))
noncomputable def X_isPerson (cN : Nat → Int32) (x1 : Int32) : Option Int32 :=
(rd cN 10 1).bind fun v1 =>
bd1 (X_in x1 0 (v1 - 1)) fun r2 =>
zk r2 (some r2)
noncomputable def X_isAlive (cN : Nat → Int32) (cRow : Nat → Int32) (x1 : Int32) : Option Int32 :=
bd1 (X_isPerson cN x1) fun r1 =>
if r1 = 0 then (some 0) else (bd1 (X_at cRow x1 6) fun r3 =>
if r3 = 3 then (some 0) else (some 1))
noncomputable def X_isWolf (cN : Nat → Int32) (cRow : Nat → Int32) (x1 : Int32) : Option Int32 :=
bd1 (X_isPerson cN x1) fun r1 =>
if r1 = 0 then (some 0) else (bd1 (X_at cRow x1 6) fun r3 =>
if r3 = 1 then (some 1) else (some 0))
noncomputable def X_canCall (cN : Nat → Int32) (cRow : Nat → Int32) (x1 : Int32) (x2 : Int32) : Option Int32 :=
bd1 (X_isAlive cN cRow x1) fun r1 =>
if r1 = 0 then (some 0) else (bd1 (X_isWolf cN cRow x1) fun r3 =>
if r3 = 0 then (bd1 (X_isLand cN x2) fun r5 =>
if r5 = 0 then (some 0) else (some 1)) else (some 0))
noncomputable def X_calls (cRow : Nat → Int32) (x1 : Int32) (x2 : Int32) : Option (Int32 × (Nat → Int32)) :=
bd1 (X_at cRow x1 0) fun r1 =>
bd1 (if r1 = x2 then (some 0) else (bd1 (X_at cRow x1 3) fun r25 =>
some (r25 + 1)) : Option Int32) fun v3 =>
bd1 (X_sets cRow x1 3 (v3 - v3 / 5 * 5)) fun c6 =>
bd1 (if v3 = 0 then (bd1 (X_writes c6 x1 0) fun c23 =>
some c23) else (some c6) : Option ((Nat → Int32))) fun c8 =>
if 5 ≤ v3 then (bd1 (X_sets c8 x1 6 1) fun c11 =>
bd1 (X_sets c11 x1 5 0) fun c13 =>
bd1 (X_sets c13 x1 4 0) fun c15 =>
bd1 (X_sets c15 x1 1 0) fun c17 =>
bd1 (X_sets c17 x1 2 0) fun c19 =>
bd1 (X_writes c19 x1 1) fun c21 =>
some (0, c21)) else (some (v3, c8))
noncomputable def X_call (φ : Nat) (cN : Nat → Int32) (cRow : Nat → Int32) (cStep : Nat → Nat → Int32) (x1 : Int32) (x2 : Int32) : Option (Int32 × (Nat → Int32) × (Nat → Int32) × (Nat → Nat → Int32)) :=
bd1 (X_canCall cN cRow x1 x2) fun r1 =>
if r1 = 0 then (some ((-1), cN, cRow, cStep)) else (bd2 (S_keeps φ cN cRow cStep) fun c3 c4 =>
bd2 (X_calls cRow x1 x2) fun r6 c7 =>
some (r6, c3, c7, c4))
noncomputable def X_canMove (cN : Nat → Int32) (cRow : Nat → Int32) (cRoad : Nat → Int32) (x1 : Int32) (x2 : Int32) : Option Int32 :=
bd1 (X_isAlive cN cRow x1) fun r1 =>
if r1 = 0 then (some 0) else (bd1 (X_isLand cN x2) fun r3 =>
if r3 = 0 then (some 0) else (bd1 (X_at cRow x1 0) fun r5 =>
bd1 (X_isRoad cRoad r5 x2) fun r7 =>
if r7 = 0 then (some 0) else (some 1)))
noncomputable def X_move (φ : Nat) (cN : Nat → Int32) (cRow : Nat → Int32) (cRoad : Nat → Int32) (cStep : Nat → Nat → Int32) (x1 : Int32) (x2 : Int32) : Option (Int32 × (Nat → Int32) × (Nat → Int32) × (Nat → Nat → Int32)) :=
bd1 (X_canMove cN cRow cRoad x1 x2) fun r1 =>
if r1 = 0 then (some (0, cN, cRow, cStep)) else (bd2 (S_keeps φ cN cRow cStep) fun c3 c4 =>
bd1 (X_sets cRow x1 0 x2) fun c6 =>
some (1, c3, c6, c4))
noncomputable def X_doMeet (cN : Nat → Int32) (cRow : Nat → Int32) (x1 : Int32) (x2 : Int32) : Option Int32 :=
bd1 (X_isWolf cN cRow x1) fun r1 =>
if r1 = 0 then (some 0) else (bd1 (X_isAlive cN cRow x2) fun r3 =>
if r3 = 0 then (some 0) else (if x1 = x2 then (some 0) else (bd1 (X_at cRow x1 0) fun r5 =>
bd1 (X_at cRow x2 0) fun r7 =>
if r5 = r7 then (some 1) else (some 0))))
noncomputable def X_isFed (φ : Nat) (cNames : Nat → Int32) (cN : Nat → Int32) (cRow : Nat → Int32) (cFor : Nat → Int32) (cFear : Nat → Int32) (cText : Nat → Option Nat) (E : Nat → Option (Nat → Option ((Nat → Int32) → Int64))) (zN : Nat) (x1 : Int32) (x2 : Int32) : Option (Int32 × (Nat → Int32) × (Nat → Int32)) :=
bd1 (X_sets cRow x1 4 0) fun c1 =>
bd1 (X_writes c1 x1 2) fun c3 =>
bd1 (X_isWolf cN c3 x2) fun r5 =>
if r5 = 0 then (bd2 (X_draw c3) fun r9 c10 =>
bd2 (X_findsOf φ cNames cN c10 cFor cFear cText E zN x1) fun r12 c13 =>
if r12 ≤ r9 then (bd1 (X_at c10 x2 3) fun r15 =>
some (r15, c13, c10)) else (bd1 (X_at c10 x2 3) fun r17 =>
lt ((if (r17 + 1) < 4 then (r17 + 1) else 4) : Int32) fun v19 =>
bd1 (X_sets c10 x2 3 v19) fun c20 =>
bd1 (X_at c20 x2 3) fun r22 =>
some (r22, c13, c20))) else (bd1 (X_at c3 x2 3) fun r7 =>
some (r7, cNames, c3))
noncomputable def X_feeds (φ : Nat) (cNames : Nat → Int32) (cN : Nat → Int32) (cRow : Nat → Int32) (cFor : Nat → Int32) (cFear : Nat → Int32) (cStep : Nat → Nat → Int32) (cText : Nat → Option Nat) (E : Nat → Option (Nat → Option ((Nat → Int32) → Int64))) (zN : Nat) (x1 : Int32) (x2 : Int32) : Option (Int32 × (Nat → Int32) × (Nat → Int32) × (Nat → Int32) × (Nat → Nat → Int32)) :=
bd1 (X_doMeet cN cRow x1 x2) fun r1 =>
if r1 = 0 then (some ((-1), cNames, cN, cRow, cStep)) else (bd2 (S_keeps φ cN cRow cStep) fun c3 c4 =>
bd3 (X_isFed φ cNames c3 cRow cFor cFear cText E zN x1 x2) fun r6 c7 c8 =>
some (r6, c7, c3, c8, c4))
noncomputable def X_frees (cRow : Nat → Int32) (x1 : Int32) : Option ((Nat → Int32)) :=
bd1 (X_sets cRow x1 6 2) fun c1 =>
bd1 (X_sets c1 x1 5 0) fun c3 =>
bd1 (X_sets c3 x1 4 0) fun c5 =>
some c5
noncomputable def X_isKilled (cN : Nat → Int32) (cRow : Nat → Int32) (x1 : Int32) (x2 : Int32) : Option ((Nat → Int32)) :=
bd1 (X_dies cRow x1 5) fun c1 =>
bd1 (X_isWolf cN c1 x2) fun r3 =>
if r3 = 0 then (some c1) else (bd1 (X_frees c1 x2) fun c5 =>
some c5)
noncomputable def X_kill (φ : Nat) (cN : Nat → Int32) (cRow : Nat → Int32) (cStep : Nat → Nat → Int32) (x1 : Int32) (x2 : Int32) : Option (Int32 × (Nat → Int32) × (Nat → Int32) × (Nat → Nat → Int32)) :=
bd1 (X_doMeet cN cRow x1 x2) fun r1 =>
if r1 = 0 then (some (0, cN, cRow, cStep)) else (bd2 (S_keeps φ cN cRow cStep) fun c3 c4 =>
bd1 (X_isKilled c3 cRow x1 x2) fun c6 =>
some (1, c3, c6, c4))
noncomputable def X_priceBy (φ : Nat) (cNames : Nat → Int32) (cN : Nat → Int32) (cRow : Nat → Int32) (cFor : Nat → Int32) (cFear : Nat → Int32) (E : Nat → Option (Nat → Option ((Nat → Int32) → Int64))) (t : Nat) (x3 : Int32) : Option (Int32 × (Nat → Int32)) :=
bd1 (X_at cRow x3 0) fun r1 =>
bd1 (X_namesOf φ cNames cN cRow cFor cFear x3 r1) fun c3 =>
(rd c3 16 6).bind fun v5 =>
bd1 (X_law c3 E t 2 (100 + (20 * v5)) 9999) fun r6 =>
some (r6, c3)
noncomputable def X_canPay (φ : Nat) (cNames : Nat → Int32) (cN : Nat → Int32) (cRow : Nat → Int32) (cFor : Nat → Int32) (cFear : Nat → Int32) (cText : Nat → Option Nat) (E : Nat → Option (Nat → Option ((Nat → Int32) → Int64))) (zN : Nat) (x2 : Int32) (x3 : Int32) : Option (Int32 × (Nat → Int32)) :=
bd1 (X_at cRow x2 6) fun r1 =>
if r1 = 1 then (bd1 (X_at cRow x3 6) fun r3 =>
if r3 = 3 then (some (0, cNames)) else (bd1 (X_at cRow x3 1) fun r5 =>
bd1 (X_rules cN cText zN) fun r7 =>
bd2 (X_priceBy φ cNames cN cRow cFor cFear E r7 x2) fun r9 c10 =>
if r5 < r9 then (some (0, c10)) else (some (1, c10)))) else (some (0, cNames))
noncomputable def X_canPardon (φ : Nat) (cNames : Nat → Int32) (cN : Nat → Int32) (cRow : Nat → Int32) (cFor : Nat → Int32) (cFear : Nat → Int32) (cText : Nat → Option Nat) (E : Nat → Option (Nat → Option ((Nat → Int32) → Int64))) (zN : Nat) (x1 : Int32) (x2 : Int32) : Option (Int32 × (Nat → Int32)) :=
bd1 (X_isPerson cN x1) fun r1 =>
if r1 = 0 then (some (0, cNames)) else (bd1 (X_isPerson cN x2) fun r3 =>
if r3 = 0 then (some (0, cNames)) else (bd2 (X_canPay φ cNames cN cRow cFor cFear cText E zN x1 x2) fun r5 c6 =>
if r5 = 0 then (some (0, c6)) else (some (1, c6))))
noncomputable def X_buys (φ : Nat) (cNames : Nat → Int32) (cN : Nat → Int32) (cRow : Nat → Int32) (cFor : Nat → Int32) (cFear : Nat → Int32) (cText : Nat → Option Nat) (E : Nat → Option (Nat → Option ((Nat → Int32) → Int64))) (zN : Nat) (x1 : Int32) (x2 : Int32) : Option (Int32 × (Nat → Int32) × (Nat → Int32)) :=
bd1 (X_rules cN cText zN) fun r1 =>
bd2 (X_priceBy φ cNames cN cRow cFor cFear E r1 x1) fun r3 c4 =>
bd1 (X_at cRow x2 1) fun r6 =>
bd1 (X_sets cRow x2 1 (r6 - r3)) fun c8 =>
bd1 (X_frees c8 x1) fun c10 =>
bd1 (X_writes c10 x1 6) fun c12 =>
some (r3, c4, c12)
noncomputable def X_pardon (φ : Nat) (cNames : Nat → Int32) (cN : Nat → Int32) (cRow : Nat → Int32) (cFor : Nat → Int32) (cFear : Nat → Int32) (cStep : Nat → Nat → Int32) (cText : Nat → Option Nat) (E : Nat → Option (Nat → Option ((Nat → Int32) → Int64))) (zN : Nat) (x1 : Int32) (x2 : Int32) : Option (Int32 × (Nat → Int32) × (Nat → Int32) × (Nat → Int32) × (Nat → Nat → Int32)) :=
bd2 (X_canPardon φ cNames cN cRow cFor cFear cText E zN x1 x2) fun r1 c2 =>
if r1 = 0 then (some ((-1), c2, cN, cRow, cStep)) else (bd2 (S_keeps φ cN cRow cStep) fun c4 c5 =>
bd3 (X_buys φ c2 c4 cRow cFor cFear cText E zN x1 x2) fun r7 c8 c9 =>
some (r7, c8, c4, c9, c5))
noncomputable def X_passesAll_L2 (φ : Nat) (x1 : Int32) (cFor : Nat → Int32) (cFear : Nat → Int32) (cText : Nat → Option Nat) (E : Nat → Option (Nat → Option ((Nat → Int32) → Int64))) (zN : Nat) : Nat → Int32 → (Nat → Int32) → (Nat → Int32) → (Nat → Int32) → (Nat → Nat → Int32) → Option (Int32 × (Nat → Int32) × (Nat → Int32) × (Nat → Int32) × (Nat → Nat → Int32))
  | 0, _, _, _, _, _ => none
  | n6 + 1, v1, c2, c3, c4, c5 =>
    if x1 ≤ v1 then (some (1, c2, c3, c4, c5)) else (bd5 (X_month φ c2 c3 c4 cFor cFear c5 cText E zN 1) fun r11 c12 c13 c14 c15 =>
    if r11 = (-1) then (some (0, c12, c13, c14, c15)) else (lt ((v1 + 1) : Int32) fun v17 =>
    X_passesAll_L2 φ x1 cFor cFear cText E zN n6 v17 c12 c13 c14 c15))
noncomputable def X_passesAll (φ : Nat) (cNames : Nat → Int32) (cN : Nat → Int32) (cRow : Nat → Int32) (cFor : Nat → Int32) (cFear : Nat → Int32) (cStep : Nat → Nat → Int32) (cText : Nat → Option Nat) (E : Nat → Option (Nat → Option ((Nat → Int32) → Int64))) (zN : Nat) (x1 : Int32) : Option (Int32 × (Nat → Int32) × (Nat → Int32) × (Nat → Int32) × (Nat → Nat → Int32)) :=
X_passesAll_L2 φ x1 cFor cFear cText E zN φ 0 cNames cN cRow cStep
noncomputable def X_happens (φ : Nat) (cNames : Nat → Int32) (cN : Nat → Int32) (cRow : Nat → Int32) (cFor : Nat → Int32) (cRoad : Nat → Int32) (cFear : Nat → Int32) (cText : Nat → Option Nat) (E : Nat → Option (Nat → Option ((Nat → Int32) → Int64))) (zN : Nat) (x1 : Int32) : Option ((Nat → Int32) × (Nat → Int32)) :=
(rd cN 10 1).bind fun v1 =>
nz v1 (
lt ((x1 - x1 / v1 * v1) : Int32) fun v3 =>
(rd cN 10 0).bind fun v4 =>
nz v4 (
lt (((x1 / 7) - (x1 / 7) / v4 * v4) : Int32) fun v6 =>
(rd cN 10 1).bind fun v7 =>
nz v7 (
lt (((x1 / 5) - (x1 / 5) / v7 * v7) : Int32) fun v9 =>
lt ((x1 - x1 / 7 * 7) : Int32) fun v10 =>
if v10.toInt < 0 then ((rd cRow 135 0).bind fun v11 =>
if 9999 ≤ v11 then (some (cNames, cRow)) else (bd3 (X_passes φ cNames cN cRow cFor cFear cText E zN) fun r12 c13 c14 =>
some (c13, c14))) else if 5 < v10.toInt then ((rd cRow 135 0).bind fun v11 =>
if 9999 ≤ v11 then (some (cNames, cRow)) else (bd3 (X_passes φ cNames cN cRow cFor cFear cText E zN) fun r12 c13 c14 =>
some (c13, c14))) else if v10 = 0 then (bd1 (X_canCall cN cRow v3 v6) fun r21 =>
if r21 = 0 then (some (cNames, cRow)) else (bd2 (X_calls cRow v3 v6) fun r23 c24 =>
some (cNames, c24))) else if v10 = 1 then (bd1 (X_canCall cN cRow v3 v6) fun r26 =>
if r26 = 0 then (some (cNames, cRow)) else (bd2 (X_calls cRow v3 v6) fun r28 c29 =>
some (cNames, c29))) else if v10 = 2 then (bd1 (X_canMove cN cRow cRoad v3 v6) fun r31 =>
if r31 = 0 then (some (cNames, cRow)) else (bd1 (X_sets cRow v3 0 v6) fun c33 =>
some (cNames, c33))) else if v10 = 3 then (bd1 (X_doMeet cN cRow v3 v9) fun r35 =>
if r35 = 0 then (some (cNames, cRow)) else (bd3 (X_isFed φ cNames cN cRow cFor cFear cText E zN v3 v9) fun r37 c38 c39 =>
some (c38, c39))) else if v10 = 4 then (if (x1 - x1 / 4 * 4) = 0 then (bd1 (X_doMeet cN cRow v3 v9) fun r41 =>
if r41 = 0 then (some (cNames, cRow)) else (bd1 (X_isKilled cN cRow v3 v9) fun c43 =>
some (cNames, c43))) else (some (cNames, cRow))) else if v10 = 5 then (bd2 (X_canPardon φ cNames cN cRow cFor cFear cText E zN v3 v9) fun r45 c46 =>
if r45 = 0 then (some (c46, cRow)) else (bd3 (X_buys φ c46 cN cRow cFor cFear cText E zN v3 v9) fun r48 c49 c50 =>
some (c49, c50))) else none)))
noncomputable def X_reigns_L60 (φ : Nat) (x2 : Int32) (c6 : Nat → Int32) (cFor : Nat → Int32) (cRoad : Nat → Int32) (cFear : Nat → Int32) (cText : Nat → Option Nat) (E : Nat → Option (Nat → Option ((Nat → Int32) → Int64))) (zN : Nat) : Nat → Int32 → (Nat → Int32) → (Nat → Int32) → Option ((Nat → Int32) × (Nat → Int32))
  | 0, _, _, _ => none
  | n16 + 1, v11, c12, c13 =>
    if x2 ≤ v11 then (some (c12, c13)) else ((rd c13 135 1).bind fun v22 =>
    bd1 (X_draws c13) fun c23 =>
    bd2 (X_happens φ c12 c6 c23 cFor cRoad cFear cText E zN v22) fun c25 c26 =>
    lt ((v11 + 1) : Int32) fun v28 =>
    X_reigns_L60 φ x2 c6 cFor cRoad cFear cText E zN n16 v28 c25 c26)
noncomputable def X_reigns (φ : Nat) (cNames : Nat → Int32) (cN : Nat → Int32) (cRow : Nat → Int32) (cFor : Nat → Int32) (cRoad : Nat → Int32) (cFear : Nat → Int32) (cStep : Nat → Nat → Int32) (cText : Nat → Option Nat) (E : Nat → Option (Nat → Option ((Nat → Int32) → Int64))) (zN : Nat) (x1 : Int32) (x2 : Int32) : Option (Int32 × (Nat → Int32) × (Nat → Int32) × (Nat → Int32) × (Nat → Nat → Int32)) :=
bd1 (X_in x1 0 9999) fun r1 =>
if r1 = 0 then (some ((-1), cNames, cN, cRow, cStep)) else (bd1 (X_in x2 1 40) fun r3 =>
if r3 = 0 then (some ((-1), cNames, cN, cRow, cStep)) else ((rd cN 10 1).bind fun v5 =>
if v5 = 0 then (some ((-1), cNames, cN, cRow, cStep)) else (bd2 (S_keeps φ cN cRow cStep) fun c6 c7 =>
lt (((x1 * 2) + 149) : Int32) fun v9 =>
(wr cRow 135 1 v9).bind fun c10 =>
bd2 (X_reigns_L60 φ x2 c6 cFor cRoad cFear cText E zN φ 0 cNames c10) fun c14 c15 =>
(rd c15 135 0).bind fun v21 =>
some (v21, c14, c6, c15, c7))))
noncomputable def X_undo (cN : Nat → Int32) (cRow : Nat → Int32) (cStep : Nat → Nat → Int32) : Option (Int32 × (Nat → Int32) × (Nat → Int32)) :=
(rd cN 10 4).bind fun v1 =>
if v1 = 0 then (some ((-1), cN, cRow)) else ((rd cN 10 4).bind fun v2 =>
lt ((v2 - 1) : Int32) fun v3 =>
(wr cN 10 4 v3).bind fun c4 =>
(rd c4 10 4).bind fun v5 =>
inb v5 30 (
lt ((cStep (v5 : Int32).toNatClampNeg) : Nat → Int32) fun c7 =>
(rd c4 10 4).bind fun v8 =>
some (v8, c4, c7)))
noncomputable def X_of (φ : Nat) (cNames : Nat → Int32) (cN : Nat → Int32) (cRow : Nat → Int32) (cFor : Nat → Int32) (cFear : Nat → Int32) (cText : Nat → Option Nat) (E : Nat → Option (Nat → Option ((Nat → Int32) → Int64))) (zN : Nat) (x1 : Int32) (x2 : Int32) : Option (Int32 × (Nat → Int32)) :=
bd1 (X_isPerson cN x1) fun r1 =>
if r1 = 0 then (some ((-1), cNames)) else (if x2.toInt < 0 then (bd1 (X_in x2 2 7) fun r3 =>
if r3 = 0 then (some ((-1), cNames)) else (bd1 (X_at cRow x1 (x2 - 1)) fun r5 =>
some (r5, cNames))) else if 12 < x2.toInt then (bd1 (X_in x2 2 7) fun r3 =>
if r3 = 0 then (some ((-1), cNames)) else (bd1 (X_at cRow x1 (x2 - 1)) fun r5 =>
some (r5, cNames))) else if x2 = 0 then (bd1 (X_at cRow x1 0) fun r11 =>
some (r11, cNames)) else if x2 = 1 then ((rd cFear 6 x1).bind fun v13 =>
some (v13, cNames)) else if x2 = 2 then (bd1 (X_in x2 2 7) fun r14 =>
if r14 = 0 then (some ((-1), cNames)) else (bd1 (X_at cRow x1 (x2 - 1)) fun r16 =>
some (r16, cNames))) else if x2 = 3 then (bd1 (X_in x2 2 7) fun r18 =>
if r18 = 0 then (some ((-1), cNames)) else (bd1 (X_at cRow x1 (x2 - 1)) fun r20 =>
some (r20, cNames))) else if x2 = 4 then (bd1 (X_in x2 2 7) fun r22 =>
if r22 = 0 then (some ((-1), cNames)) else (bd1 (X_at cRow x1 (x2 - 1)) fun r24 =>
some (r24, cNames))) else if x2 = 5 then (bd1 (X_in x2 2 7) fun r26 =>
if r26 = 0 then (some ((-1), cNames)) else (bd1 (X_at cRow x1 (x2 - 1)) fun r28 =>
some (r28, cNames))) else if x2 = 6 then (bd1 (X_in x2 2 7) fun r30 =>
if r30 = 0 then (some ((-1), cNames)) else (bd1 (X_at cRow x1 (x2 - 1)) fun r32 =>
some (r32, cNames))) else if x2 = 7 then (bd1 (X_in x2 2 7) fun r34 =>
if r34 = 0 then (some ((-1), cNames)) else (bd1 (X_at cRow x1 (x2 - 1)) fun r36 =>
some (r36, cNames))) else if x2 = 8 then (bd2 (X_hungersOf φ cNames cN cRow cFor cFear cText E zN x1) fun r38 c39 =>
some (r38, c39)) else if x2 = 9 then (bd2 (X_findsOf φ cNames cN cRow cFor cFear cText E zN x1) fun r41 c42 =>
some (r41, c42)) else if x2 = 10 then (bd1 (X_rules cN cText zN) fun r44 =>
bd2 (X_priceBy φ cNames cN cRow cFor cFear E r44 x1) fun r46 c47 =>
some (r46, c47)) else if x2 = 11 then (bd2 (X_earnsOf φ cNames cN cRow cFor cFear cText E zN x1) fun r49 c50 =>
some (r49, c50)) else if x2 = 12 then (bd1 (X_at cRow x1 0) fun r52 =>
bd1 (X_crowdIn φ cN cRow x1 r52) fun r54 =>
some (r54, cNames)) else none)
noncomputable def X_aliveIn_L4 (φ : Nat) (x1 : Int32) (cN : Nat → Int32) (cRow : Nat → Int32) : Nat → Int32 → Int32 → Option Int32
  | 0, _, _ => none
  | n4 + 1, v1, v2 =>
    (rd cN 10 1).bind fun v9 =>
    if v9 ≤ v2 then (some v1) else (bd1 (X_isAlive cN cRow v2) fun r10 =>
    if r10 = 0 then (lt ((v1 ||| 0) : Int32) fun v12 =>
    lt ((v2 + 1) : Int32) fun v13 =>
    X_aliveIn_L4 φ x1 cN cRow n4 v12 v13) else (bd1 (X_at cRow v2 0) fun r14 =>
    if r14 = x1 then (lt ((v1 ||| (1 <<< (v2 &&& 31))) : Int32) fun v18 =>
    lt ((v2 + 1) : Int32) fun v19 =>
    X_aliveIn_L4 φ x1 cN cRow n4 v18 v19) else (lt ((v1 ||| 0) : Int32) fun v16 =>
    lt ((v2 + 1) : Int32) fun v17 =>
    X_aliveIn_L4 φ x1 cN cRow n4 v16 v17)))
noncomputable def X_aliveIn (φ : Nat) (cN : Nat → Int32) (cRow : Nat → Int32) (x1 : Int32) : Option Int32 :=
bd1 (X_aliveIn_L4 φ x1 cN cRow φ 0 0) fun v3 =>
some v3
noncomputable def X_ofLand (φ : Nat) (cN : Nat → Int32) (cRow : Nat → Int32) (cFor : Nat → Int32) (cRoad : Nat → Int32) (x1 : Int32) (x2 : Int32) : Option Int32 :=
bd1 (X_isLand cN x1) fun r1 =>
if r1 = 0 then (some (-1)) else (if x2 = 0 then ((rd cFor 8 x1).bind fun v6 =>
some v6) else (if x2 = 1 then ((rd cRoad 8 x1).bind fun v5 =>
some v5) else (if x2 = 2 then (bd1 (X_aliveIn φ cN cRow x1) fun r3 =>
some r3) else (some (-1)))))
noncomputable def X_is (cRow : Nat → Int32) (x1 : Int32) : Option Int32 :=
if x1 = 0 then ((rd cRow 135 0).bind fun v2 =>
some v2) else (if x1 = 1 then ((rd cRow 135 1).bind fun v1 =>
some v1) else (some (-2)))
noncomputable def X_book (cRow : Nat → Int32) (x1 : Int32) (x2 : Int32) : Option Int32 :=
if x1 = (-1) then ((rd cRow 135 44).bind fun v7 =>
some v7) else ((rd cRow 135 44).bind fun v1 =>
bd1 (X_in x1 0 (v1 - 1)) fun r2 =>
if r2 = 0 then (some (-2)) else (bd1 (X_in x2 0 2) fun r4 =>
if r4 = 0 then (some (-2)) else ((rd cRow 135 ((45 + (3 * x1)) + x2)).bind fun v6 =>
some v6)))
noncomputable def X_foretold_L40 (φ : Nat) (x1 : Int32) (x2 : Int32) (x3 : Int32) (cN : Nat → Int32) (cFor : Nat → Int32) (cFear : Nat → Int32) (cText : Nat → Option Nat) (E : Nat → Option (Nat → Option ((Nat → Int32) → Int64))) (zN : Nat) : Nat → Int32 → Int32 → (Nat → Int32) → (Nat → Int32) → Option ((Nat → Int32) × (Nat → Int32))
  | 0, _, _, _, _ => none
  | n12 + 1, v6, v7, c8, c9 =>
    if x1 ≤ v7 then (some (c8, c9)) else ((rd c9 135 0).bind fun v21 =>
    if 9999 ≤ v21 then (some (c8, c9)) else (bd3 (X_passes φ c8 cN c9 cFor cFear cText E zN) fun r22 c23 c24 =>
    lt ((v6 + r22) : Int32) fun v26 =>
    lt ((v7 + 1) : Int32) fun v27 =>
    X_foretold_L40 φ x1 x2 x3 cN cFor cFear cText E zN n12 v26 v27 c23 c24))
noncomputable def X_foretold (φ : Nat) (cNames : Nat → Int32) (cN : Nat → Int32) (cRow : Nat → Int32) (cTried : Nat → Int32) (cFor : Nat → Int32) (cFear : Nat → Int32) (cText : Nat → Option Nat) (E : Nat → Option (Nat → Option ((Nat → Int32) → Int64))) (zN : Nat) (x1 : Int32) (x2 : Int32) (x3 : Int32) : Option (Int32 × (Nat → Int32) × (Nat → Int32)) :=
bd1 (X_in x1 1 60) fun r1 =>
if r1 = 0 then (some ((-1), cNames, cTried)) else (bd1 (X_isPerson cN x2) fun r3 =>
if r3 = 0 then (some ((-1), cNames, cTried)) else (lt (cRow : Nat → Int32) fun c5 =>
bd2 (X_foretold_L40 φ x1 x2 x3 cN cFor cFear cText E zN φ 0 0 cNames c5) fun c10 c11 =>
if x3 = 0 then (bd1 (X_at c11 x2 6) fun r17 =>
some (r17, c10, c11)) else (bd1 (X_at c11 x2 1) fun r19 =>
some (r19, c10, c11))))
noncomputable def X_toPay_L34 (φ : Nat) (x1 : Int32) (x2 : Int32) (cN : Nat → Int32) (cFor : Nat → Int32) (cFear : Nat → Int32) (cText : Nat → Option Nat) (E : Nat → Option (Nat → Option ((Nat → Int32) → Int64))) (zN : Nat) : Nat → Int32 → (Nat → Int32) → (Nat → Int32) → Option (Int32 × (Nat → Int32) × (Nat → Int32))
  | 0, _, _, _ => none
  | n9 + 1, v6, c7, c8 =>
    if 60 < v6 then (some ((-1), c7, c8)) else (bd2 (X_canPay φ c7 cN c8 cFor cFear cText E zN x1 x2) fun r14 c15 =>
    if r14 = 0 then ((rd c8 135 0).bind fun v17 =>
    if v17 = 9999 then (some ((-1), c15, c8)) else (bd3 (X_passes φ c15 cN c8 cFor cFear cText E zN) fun r18 c19 c20 =>
    lt ((v6 + 1) : Int32) fun v22 =>
    X_toPay_L34 φ x1 x2 cN cFor cFear cText E zN n9 v22 c19 c20)) else (some (v6, c15, c8)))
noncomputable def X_toPay (φ : Nat) (cNames : Nat → Int32) (cN : Nat → Int32) (cRow : Nat → Int32) (cTried : Nat → Int32) (cFor : Nat → Int32) (cFear : Nat → Int32) (cText : Nat → Option Nat) (E : Nat → Option (Nat → Option ((Nat → Int32) → Int64))) (zN : Nat) (x1 : Int32) (x2 : Int32) : Option (Int32 × (Nat → Int32) × (Nat → Int32)) :=
bd1 (X_isPerson cN x1) fun r1 =>
if r1 = 0 then (some ((-1), cNames, cTried)) else (bd1 (X_isPerson cN x2) fun r3 =>
if r3 = 0 then (some ((-1), cNames, cTried)) else (lt (cRow : Nat → Int32) fun c5 =>
X_toPay_L34 φ x1 x2 cN cFor cFear cText E zN φ 0 cNames c5))
noncomputable def X_mayGo (cRoad : Nat → Int32) (x1 : Int32) (x2 : Int32) : Option Int32 :=
if x1 = x2 then (some 1) else (bd1 (X_isRoad cRoad x1 x2) fun r1 =>
if r1 = 0 then (some 0) else (some 1))
noncomputable def X_sureBy (φ : Nat) (cNames : Nat → Int32) (cSure : Nat → Nat → Int32) (cN : Nat → Int32) (cRow : Nat → Int32) (cFor : Nat → Int32) (cFear : Nat → Int32) (cText : Nat → Option Nat) (E : Nat → Option (Nat → Option ((Nat → Int32) → Int64))) (zN : Nat) (x1 : Int32) (x2 : Int32) (x3 : Int32) : Option (Int32 × (Nat → Int32)) :=
bd2 (X_findsIn φ cNames cN cRow cFor cFear cText E zN x1 x3) fun r1 c2 =>
lt ((x2 - 1) : Int32) fun v4 =>
inb v4 7 (
(rd (cSure (v4 : Int32).toNatClampNeg) 8 x3).bind fun v6 =>
some (((10 - r1) * v6), c2))
noncomputable def X_laysSure_L47 (φ : Nat) (x1 : Int32) (x2 : Int32) (v3 : Int32) (v13 : Int32) (cN : Nat → Int32) (cRow : Nat → Int32) (cFor : Nat → Int32) (cRoad : Nat → Int32) (cFear : Nat → Int32) (cText : Nat → Option Nat) (E : Nat → Option (Nat → Option ((Nat → Int32) → Int64))) (zN : Nat) : Nat → Int32 → (Nat → Int32) → (Nat → Nat → Int32) → Option ((Nat → Int32) × (Nat → Nat → Int32))
  | 0, _, _, _ => none
  | n33 + 1, v28, c29, c30 =>
    (rd cN 10 0).bind fun v39 =>
    if v39 ≤ v28 then (some (c29, c30)) else (bd1 (X_mayGo cRoad v13 v28) fun r40 =>
    if r40 = 0 then (lt ((v28 + 1) : Int32) fun v42 =>
    X_laysSure_L47 φ x1 x2 v3 v13 cN cRow cFor cRoad cFear cText E zN n33 v42 c29 c30) else (inb v3 7 (
    inb v3 7 (
    (rd (c30 (v3 : Int32).toNatClampNeg) 8 v13).bind fun v45 =>
    bd2 (X_sureBy φ c29 c30 cN cRow cFor cFear cText E zN x1 v3 v28) fun r46 c47 =>
    lt ((if v45 < r46 then r46 else v45) : Int32) fun v49 =>
    (wr (c30 (v3 : Int32).toNatClampNeg) 8 v13 v49).bind fun f51 =>
    lt (va_up c30 (v3 : Int32).toNatClampNeg f51) fun c50 =>
    lt ((v28 + 1) : Int32) fun v52 =>
    X_laysSure_L47 φ x1 x2 v3 v13 cN cRow cFor cRoad cFear cText E zN n33 v52 c47 c50))))
noncomputable def X_laysSure_L20 (φ : Nat) (x1 : Int32) (x2 : Int32) (v3 : Int32) (cN : Nat → Int32) (cRow : Nat → Int32) (cFor : Nat → Int32) (cRoad : Nat → Int32) (cFear : Nat → Int32) (cText : Nat → Option Nat) (E : Nat → Option (Nat → Option ((Nat → Int32) → Int64))) (zN : Nat) : Nat → Int32 → (Nat → Int32) → (Nat → Nat → Int32) → Option ((Nat → Int32) × (Nat → Nat → Int32))
  | 0, _, _, _ => none
  | n18 + 1, v13, c14, c15 =>
    (rd cN 10 0).bind fun v24 =>
    if v24 ≤ v13 then (some (c14, c15)) else (inb v3 7 (
    (wr (c15 (v3 : Int32).toNatClampNeg) 8 v13 0).bind fun f27 =>
    lt (va_up c15 (v3 : Int32).toNatClampNeg f27) fun c26 =>
    bd2 (X_laysSure_L47 φ x1 x2 v3 v13 cN cRow cFor cRoad cFear cText E zN φ 0 c14 c26) fun c31 c32 =>
    lt ((v13 + 1) : Int32) fun v38 =>
    X_laysSure_L20 φ x1 x2 v3 cN cRow cFor cRoad cFear cText E zN n18 v38 c31 c32))
noncomputable def X_laysSure_L12 (φ : Nat) (x1 : Int32) (x2 : Int32) (cN : Nat → Int32) (cRow : Nat → Int32) (cFor : Nat → Int32) (cRoad : Nat → Int32) (cFear : Nat → Int32) (cText : Nat → Option Nat) (E : Nat → Option (Nat → Option ((Nat → Int32) → Int64))) (zN : Nat) : Nat → Int32 → (Nat → Int32) → (Nat → Nat → Int32) → Option ((Nat → Int32) × (Nat → Nat → Int32))
  | 0, _, _, _ => none
  | n8 + 1, v3, c4, c5 =>
    if x2 < v3 then (some (c4, c5)) else (bd2 (X_laysSure_L20 φ x1 x2 v3 cN cRow cFor cRoad cFear cText E zN φ 0 c4 c5) fun c16 c17 =>
    lt ((v3 + 1) : Int32) fun v23 =>
    X_laysSure_L12 φ x1 x2 cN cRow cFor cRoad cFear cText E zN n8 v23 c16 c17)
noncomputable def X_laysSure (φ : Nat) (cNames : Nat → Int32) (cSure : Nat → Nat → Int32) (cN : Nat → Int32) (cRow : Nat → Int32) (cFor : Nat → Int32) (cRoad : Nat → Int32) (cFear : Nat → Int32) (cText : Nat → Option Nat) (E : Nat → Option (Nat → Option ((Nat → Int32) → Int64))) (zN : Nat) (x1 : Int32) (x2 : Int32) : Option ((Nat → Int32) × (Nat → Nat → Int32)) :=
inb 0 7 (
lt (va_up cSure (0 : Int32).toNatClampNeg (fun _ => 1)) fun c2 =>
bd2 (X_laysSure_L12 φ x1 x2 cN cRow cFor cRoad cFear cText E zN φ 1 cNames c2) fun c6 c7 =>
some (c6, c7))
noncomputable def X_power : Nat → Int32 → Int32 → Option Int32
  | 0, _, _ => none
  | n0 + 1, x0, x1 =>
    if x1 = 0 then (some 1) else (bd1 (X_power n0 x0 (x1 - 1)) fun r1 =>
    some (x0 * r1))
noncomputable def X_common : Nat → Int32 → Int32 → Option Int32
  | 0, _, _ => none
  | n0 + 1, x0, x1 =>
    if x1 = 0 then (some x0) else (nz x1 (
    bd1 (X_common n0 x1 (x0 - x0 / x1 * x1)) fun r2 =>
    some r2))
noncomputable def X_surest_L116 (φ : Nat) (x1 : Int32) (x2 : Int32) (x3 : Int32) (v18 : Int32) (v13 : Int32) (v19 : Int32) (c8 : Nat → Nat → Int32) (cN : Nat → Int32) (cRow : Nat → Int32) (cFor : Nat → Int32) (cRoad : Nat → Int32) (cFear : Nat → Int32) (cText : Nat → Option Nat) (E : Nat → Option (Nat → Option ((Nat → Int32) → Int64))) (zN : Nat) : Nat → Int32 → (Nat → Int32) → Option (Int32 × (Nat → Int32))
  | 0, _, _ => none
  | n32 + 1, v28, c29 =>
    bd1 (X_mayGo cRoad v18 v28) fun r38 =>
    if r38 = 0 then (lt ((v28 + 1) : Int32) fun v40 =>
    X_surest_L116 φ x1 x2 x3 v18 v13 v19 c8 cN cRow cFor cRoad cFear cText E zN n32 v40 c29) else (if v13 ≤ 0 then (some (v28, c29)) else (bd2 (X_sureBy φ c29 c8 cN cRow cFor cFear cText E zN x1 (x2 - v19) v28) fun r41 c42 =>
    lt ((x2 - v19) : Int32) fun v44 =>
    inb v44 7 (
    (rd (c8 (v44 : Int32).toNatClampNeg) 8 v18).bind fun v46 =>
    if r41 = v46 then (some (v28, c42)) else (lt ((v28 + 1) : Int32) fun v47 =>
    X_surest_L116 φ x1 x2 x3 v18 v13 v19 c8 cN cRow cFor cRoad cFear cText E zN n32 v47 c42))))
noncomputable def X_surest_L107 (φ : Nat) (x1 : Int32) (x2 : Int32) (x3 : Int32) (v13 : Int32) (c8 : Nat → Nat → Int32) (cN : Nat → Int32) (cRow : Nat → Int32) (cFor : Nat → Int32) (cRoad : Nat → Int32) (cFear : Nat → Int32) (cText : Nat → Option Nat) (E : Nat → Option (Nat → Option ((Nat → Int32) → Int64))) (zN : Nat) : Nat → Int32 → Int32 → (Nat → Int32) → Option (Int32 × (Nat → Int32))
  | 0, _, _, _ => none
  | n23 + 1, v18, v19, c20 =>
    if x3 < v19 then (some (v18, c20)) else (bd2 (X_surest_L116 φ x1 x2 x3 v18 v13 v19 c8 cN cRow cFor cRoad cFear cText E zN φ 0 c20) fun v30 c31 =>
    lt ((v19 + 1) : Int32) fun v37 =>
    X_surest_L107 φ x1 x2 x3 v13 c8 cN cRow cFor cRoad cFear cText E zN n23 v30 v37 c31)
noncomputable def X_surest (φ : Nat) (cNames : Nat → Int32) (cSure : Nat → Nat → Int32) (cN : Nat → Int32) (cRow : Nat → Int32) (cFor : Nat → Int32) (cRoad : Nat → Int32) (cFear : Nat → Int32) (cText : Nat → Option Nat) (E : Nat → Option (Nat → Option ((Nat → Int32) → Int64))) (zN : Nat) (x1 : Int32) (x2 : Int32) (x3 : Int32) : Option (Int32 × (Nat → Int32) × (Nat → Nat → Int32)) :=
bd1 (X_isWolf cN cRow x1) fun r1 =>
if r1 = 0 then (some ((-3), cNames, cSure)) else (bd1 (X_in x2 1 6) fun r3 =>
if r3 = 0 then (some ((-3), cNames, cSure)) else (bd1 (X_in x3 (-2) (x2 - 1)) fun r5 =>
if r5 = 0 then (some ((-3), cNames, cSure)) else (bd2 (X_laysSure φ cNames cSure cN cRow cFor cRoad cFear cText E zN x1 x2) fun c7 c8 =>
bd1 (X_at cRow x1 0) fun r10 =>
inb x2 7 (
(rd (c8 (x2 : Int32).toNatClampNeg) 8 r10).bind fun v13 =>
bd1 (X_power 8 10 x2) fun r14 =>
bd1 (X_common 40 r14 v13) fun r16 =>
if x3 = (-2) then (nz r16 (
some ((v13 / r16), c7, c8))) else (if x3 = (-1) then (nz r16 (
some ((r14 / r16), c7, c8))) else (bd2 (X_surest_L107 φ x1 x2 x3 v13 c8 cN cRow cFor cRoad cFear cText E zN φ r10 0 c7) fun v21 c22 =>
some (v21, c22, c8)))))))
noncomputable def X_spreads_L5 (φ : Nat) (x1 : Int32) (x2 : Int32) (cN : Nat → Int32) (cRoad : Nat → Int32) : Nat → Int32 → Int32 → Option Int32
  | 0, _, _ => none
  | n4 + 1, v1, v2 =>
    (rd cN 10 0).bind fun v9 =>
    if v9 ≤ v2 then (some v1) else (bd1 (X_isIn x1 v2) fun r10 =>
    if r10 = 0 then (lt ((v1 ||| 0) : Int32) fun v12 =>
    lt ((v2 + 1) : Int32) fun v13 =>
    X_spreads_L5 φ x1 x2 cN cRoad n4 v12 v13) else ((rd cRoad 8 v2).bind fun v14 =>
    lt ((v1 ||| v14) : Int32) fun v15 =>
    lt ((v2 + 1) : Int32) fun v16 =>
    X_spreads_L5 φ x1 x2 cN cRoad n4 v15 v16))
noncomputable def X_spreads (φ : Nat) (cN : Nat → Int32) (cRoad : Nat → Int32) (x1 : Int32) (x2 : Int32) : Option Int32 :=
bd1 (X_spreads_L5 φ x1 x2 cN cRoad φ x1 0) fun v3 =>
some (v3 &&& (x2 ^^^ (-1)))
noncomputable def X_stepsTo_L7 (φ : Nat) (x2 : Int32) (cN : Nat → Int32) (cRoad : Nat → Int32) : Nat → Int32 → Int32 → Option Int32
  | 0, _, _ => none
  | n4 + 1, v2, v3 =>
    if 8 ≤ v3 then (some (-1)) else (if (v2 &&& x2) = 0 then (bd1 (X_spreads φ cN cRoad v2 0) fun r9 =>
    lt ((v3 + 1) : Int32) fun v11 =>
    X_stepsTo_L7 φ x2 cN cRoad n4 r9 v11) else (some v3))
noncomputable def X_stepsTo (φ : Nat) (cN : Nat → Int32) (cRoad : Nat → Int32) (x1 : Int32) (x2 : Int32) : Option Int32 :=
lt ((1 <<< (x1 &&& 31)) : Int32) fun v1 =>
X_stepsTo_L7 φ x2 cN cRoad φ v1 0
noncomputable def X_steps (φ : Nat) (cN : Nat → Int32) (cRoad : Nat → Int32) (x1 : Int32) (x2 : Int32) : Option Int32 :=
bd1 (X_isLand cN x1) fun r1 =>
if r1 = 0 then (some (-1)) else (bd1 (X_isLand cN x2) fun r3 =>
if r3 = 0 then (some (-1)) else (bd1 (X_stepsTo φ cN cRoad x1 (1 <<< (x2 &&& 31))) fun r5 =>
some r5))
noncomputable def X_allLands (cN : Nat → Int32) : Option Int32 :=
(rd cN 10 0).bind fun v1 =>
some ((1 <<< (v1 &&& 31)) - 1)
noncomputable def X_unheard_L27 (φ : Nat) (x2 : Int32) (cN : Nat → Int32) (cRoad : Nat → Int32) : Nat → Int32 → Int32 → Option Int32
  | 0, _, _ => none
  | n9 + 1, v6, v7 =>
    if x2 ≤ v7 then (some v6) else (bd1 (X_spreads φ cN cRoad v6 0) fun r16 =>
    lt ((v7 + 1) : Int32) fun v18 =>
    X_unheard_L27 φ x2 cN cRoad n9 r16 v18)
noncomputable def X_unheard (φ : Nat) (cN : Nat → Int32) (cRoad : Nat → Int32) (x1 : Int32) (x2 : Int32) : Option Int32 :=
bd1 (X_isLand cN x1) fun r1 =>
if r1 = 0 then (some (-1)) else (bd1 (X_in x2 0 9) fun r3 =>
if r3 = 0 then (some (-1)) else (lt ((1 <<< (x1 &&& 31)) : Int32) fun v5 =>
bd1 (X_unheard_L27 φ x2 cN cRoad φ v5 0) fun v8 =>
bd1 (X_allLands cN) fun r14 =>
some (r14 &&& (v8 ^^^ (-1)))))
noncomputable def S_clears (cN : Nat → Int32) (x1 : Int32) : Option (Int32 × (Nat → Int32)) :=
(wr cN 10 x1 0).bind fun c1 =>
some (0, c1)
noncomputable def X_crowd (cN : Nat → Int32) (cCall : Nat → Int32) (x1 : Int32) : Option (Int32 × (Nat → Int32) × (Nat → Int32)) :=
if x1 = (-1) then (bd2 (S_clears cN 5) fun r10 c11 =>
some (r10, c11, cCall)) else (bd1 (X_isLand cN x1) fun r1 =>
if r1 = 0 then (some ((-2), cN, cCall)) else ((rd cN 10 5).bind fun v3 =>
if v3 = 5 then (some ((-2), cN, cCall)) else ((rd cN 10 5).bind fun v4 =>
(wr cCall 5 v4 x1).bind fun c5 =>
(rd cN 10 5).bind fun v6 =>
lt ((v6 + 1) : Int32) fun v7 =>
(wr cN 10 5 v7).bind fun c8 =>
(rd c8 10 5).bind fun v9 =>
some (v9, c8, c5))))
noncomputable def J_bitCount (x0 : Int32) : Option Int32 :=
lt ((x0 - ((((x0 : Int32).toUInt32 >>> ((1 : Int32).toUInt32 &&& Int32.toUInt32 31)).toInt32) &&& 1431655765)) : Int32) fun v1 =>
lt (((v1 &&& 858993459) + ((((v1 : Int32).toUInt32 >>> ((2 : Int32).toUInt32 &&& Int32.toUInt32 31)).toInt32) &&& 858993459)) : Int32) fun v2 =>
lt (((v2 + (((v2 : Int32).toUInt32 >>> ((4 : Int32).toUInt32 &&& Int32.toUInt32 31)).toInt32)) &&& 252645135) : Int32) fun v3 =>
lt ((v3 + (((v3 : Int32).toUInt32 >>> ((8 : Int32).toUInt32 &&& Int32.toUInt32 31)).toInt32)) : Int32) fun v4 =>
lt ((v4 + (((v4 : Int32).toUInt32 >>> ((16 : Int32).toUInt32 &&& Int32.toUInt32 31)).toInt32)) : Int32) fun v5 =>
some (v5 &&& 63)
noncomputable def X_goes_L86 (rec : Int32 → Int32 → Int32 → (Nat → Int32) → (Nat → Int32) → (Nat → Int32) → Int32 → Int32 → Int32 → Int32 → Option (Int32 × Int32 × Int32)) (φ : Nat) (x1 : Int32) (x2 : Int32) (x4 : Int32) (v2 : Int32) (cN : Nat → Int32) (cRoad : Nat → Int32) (cCall : Nat → Int32) : Nat → Int32 → Int32 → Int32 → Int32 → Option (Int32 × Int32 × Int32)
  | 0, _, _, _, _ => none
  | n13 + 1, v6, c7, c8, c9 =>
    (rd cN 10 0).bind fun v18 =>
    if v18 ≤ v6 then (some (c7, c8, c9)) else (bd1 (X_mayGo cRoad x1 v6) fun r19 =>
    if r19 = 0 then (lt ((v6 + 1) : Int32) fun v21 =>
    X_goes_L86 rec φ x1 x2 x4 v2 cN cRoad cCall n13 v21 c7 c8 c9) else (bd3 (rec c7 c8 c9 cN cRoad cCall v6 (x2 + 1) v2 x4) fun c22 c23 c24 =>
    lt ((v6 + 1) : Int32) fun v26 =>
    X_goes_L86 rec φ x1 x2 x4 v2 cN cRoad cCall n13 v26 c22 c23 c24))
noncomputable def X_goes (φ : Nat) : Nat → Int32 → Int32 → Int32 → (Nat → Int32) → (Nat → Int32) → (Nat → Int32) → Int32 → Int32 → Int32 → Int32 → Option (Int32 × Int32 × Int32)
  | 0, _, _, _, _, _, _, _, _, _, _ => none
  | n0 + 1, sWays, sMay, sMust, cN, cRoad, cCall, x1, x2, x3, x4 =>
    (rd cCall 5 x2).bind fun v1 =>
    bd1 (if v1 = x1 then (some (x3 ||| (1 <<< (x2 &&& 31)))) else (some x3) : Option Int32) fun v2 =>
    (rd cN 10 5).bind fun v5 =>
    if x2 = (v5 - 1) then (bd1 (J_bitCount v2) fun r27 =>
    if r27 = x4 then (lt ((sWays + 1) : Int32) fun v29 =>
    lt ((sMay ||| v2) : Int32) fun v30 =>
    lt ((sMust &&& v2) : Int32) fun v31 =>
    some (v29, v30, v31)) else (some (sWays, sMay, sMust))) else (bd3 (X_goes_L86 (X_goes φ n0) φ x1 x2 x4 v2 cN cRoad cCall φ 0 sWays sMay sMust) fun c10 c11 c12 =>
    some (c10, c11, c12))
noncomputable def X_inCrowd (φ : Nat) (sWays : Int32) (sMay : Int32) (sMust : Int32) (cN : Nat → Int32) (cRoad : Nat → Int32) (cCall : Nat → Int32) (x1 : Int32) (x2 : Int32) (x3 : Int32) : Option (Int32 × Int32 × Int32 × Int32) :=
bd1 (X_isLand cN x1) fun r1 =>
if r1 = 0 then (some ((-1), sWays, sMay, sMust)) else (bd1 (X_in x2 0 5) fun r3 =>
if r3 = 0 then (some ((-1), sWays, sMay, sMust)) else (bd1 (X_in x3 0 2) fun r5 =>
if r5 = 0 then (some ((-1), sWays, sMay, sMust)) else ((rd cN 10 5).bind fun v7 =>
if v7 = 0 then (some ((-1), sWays, sMay, sMust)) else (bd3 (X_goes φ 6 0 0 31 cN cRoad cCall x1 0 0 x2) fun c8 c9 c10 =>
if x3 = 0 then (some (c8, c8, c9, c10)) else (if x3 = 1 then (some (c9, c8, c9, c10)) else (if c8 = 0 then (some (0, c8, c9, c10)) else (some (c10, c8, c9, c10))))))))
noncomputable def X_helpers_L7 (φ : Nat) (cN : Nat → Int32) (cRoad : Nat → Int32) : Nat → Int32 → Int32 → Option Int32
  | 0, _, _ => none
  | n6 + 1, v3, v4 =>
    if v4 < 0 then (some v3) else (bd1 (J_bitCount v4) fun r11 =>
    bd1 (J_bitCount v3) fun r13 =>
    if r13 < r11 then (lt ((v4 + (-1)) : Int32) fun v15 =>
    X_helpers_L7 φ cN cRoad n6 v3 v15) else (bd1 (X_spreads φ cN cRoad v4 0) fun r16 =>
    bd1 (X_allLands cN) fun r18 =>
    if r16 = r18 then (lt ((v4 + (-1)) : Int32) fun v21 =>
    X_helpers_L7 φ cN cRoad n6 v4 v21) else (lt ((v4 + (-1)) : Int32) fun v20 =>
    X_helpers_L7 φ cN cRoad n6 v3 v20)))
noncomputable def X_helpers (φ : Nat) (cN : Nat → Int32) (cRoad : Nat → Int32) : Option Int32 :=
bd1 (X_allLands cN) fun r1 =>
bd1 (X_helpers_L7 φ cN cRoad φ r1 r1) fun v5 =>
some v5
noncomputable def X_isCut_L8 (φ : Nat) (x2 : Int32) (x3 : Int32) (cN : Nat → Int32) (cRoad : Nat → Int32) : Nat → Int32 → Int32 → Option Int32
  | 0, _, _ => none
  | n5 + 1, v2, v3 =>
    if 8 ≤ v3 then (some v2) else (bd1 (X_spreads φ cN cRoad v2 x3) fun r12 =>
    lt ((v3 + 1) : Int32) fun v14 =>
    X_isCut_L8 φ x2 x3 cN cRoad n5 r12 v14)
noncomputable def X_isCut (φ : Nat) (cN : Nat → Int32) (cRoad : Nat → Int32) (x1 : Int32) (x2 : Int32) (x3 : Int32) : Option Int32 :=
lt ((1 <<< (x1 &&& 31)) : Int32) fun v1 =>
bd1 (X_isCut_L8 φ x2 x3 cN cRoad φ v1 0) fun v4 =>
bd1 (X_isIn v4 x2) fun r10 =>
if r10 = 0 then (some 1) else (some 0)
noncomputable def X_watch_L48 (φ : Nat) (x1 : Int32) (x2 : Int32) (v9 : Int32) (cN : Nat → Int32) (cRoad : Nat → Int32) : Nat → Int32 → Int32 → Option Int32
  | 0, _, _ => none
  | n13 + 1, v10, v11 =>
    bd1 (J_bitCount v11) fun r18 =>
    bd1 (J_bitCount v10) fun r20 =>
    bd1 (if r20 < r18 then (some v10) else (bd1 (X_isCut φ cN cRoad x1 x2 v11) fun r26 =>
    if r26 = 0 then (some v10) else (some v11)) : Option Int32) fun v22 =>
    if v11 = 0 then (some v22) else (lt (((v11 - 1) &&& v9) : Int32) fun v25 =>
    X_watch_L48 φ x1 x2 v9 cN cRoad n13 v22 v25)
noncomputable def X_watch (φ : Nat) (cN : Nat → Int32) (cRoad : Nat → Int32) (x1 : Int32) (x2 : Int32) : Option Int32 :=
bd1 (X_isLand cN x1) fun r1 =>
if r1 = 0 then (some (-1)) else (bd1 (X_isLand cN x2) fun r3 =>
if r3 = 0 then (some (-1)) else (bd1 (X_mayGo cRoad x1 x2) fun r5 =>
if r5 = 0 then (bd1 (X_allLands cN) fun r7 =>
lt ((r7 &&& (((1 <<< (x1 &&& 31)) ||| (1 <<< (x2 &&& 31))) ^^^ (-1))) : Int32) fun v9 =>
bd1 (X_watch_L48 φ x1 x2 v9 cN cRoad φ v9 v9) fun v12 =>
some v12) else (some (-1))))
noncomputable def X_borders (cN : Nat → Int32) (x1 : Int32) : Option (Int32 × (Nat → Int32)) :=
bd1 (X_in x1 0 255) fun r1 =>
if r1 = 0 then (some (0, cN)) else ((wr cN 10 9 x1).bind fun c3 =>
some (1, c3))
noncomputable def X_toBorder (φ : Nat) (cN : Nat → Int32) (cRoad : Nat → Int32) (x1 : Int32) : Option Int32 :=
bd1 (X_isLand cN x1) fun r1 =>
if r1 = 0 then (some (-1)) else ((rd cN 10 9).bind fun v3 =>
bd1 (X_allLands cN) fun r4 =>
bd1 (X_stepsTo φ cN cRoad x1 (v3 &&& r4)) fun r6 =>
some r6)
noncomputable def X_reports (cN : Nat → Int32) (cUnl : Nat → Int32) (x1 : Int32) : Option (Int32 × (Nat → Int32) × (Nat → Int32)) :=
bd1 (X_in x1 0 8) fun r1 =>
if r1 = 0 then (some (0, cN, cUnl)) else ((wr cN 10 6 x1).bind fun c3 =>
(wr c3 10 7 0).bind fun c4 =>
lt (fun _ => 0 : Nat → Int32) fun c5 =>
some (1, c4, c5))
noncomputable def X_isReport (cN : Nat → Int32) (x1 : Int32) : Option Int32 :=
(rd cN 10 6).bind fun v1 =>
bd1 (X_in x1 0 (v1 - 1)) fun r2 =>
zk r2 (some r2)
noncomputable def X_unlike (cN : Nat → Int32) (cUnl : Nat → Int32) (x1 : Int32) (x2 : Int32) : Option (Int32 × (Nat → Int32) × (Nat → Int32)) :=
bd1 (X_isReport cN x1) fun r1 =>
if r1 = 0 then (some ((-2), cN, cUnl)) else (bd1 (X_isReport cN x2) fun r3 =>
if r3 = 0 then (some ((-2), cN, cUnl)) else (if x1 = x2 then (some ((-2), cN, cUnl)) else ((rd cN 10 7).bind fun v5 =>
if v5 = 8 then (some ((-2), cN, cUnl)) else ((rd cUnl 8 x1).bind fun v6 =>
lt ((v6 ||| (1 <<< (x2 &&& 31))) : Int32) fun v7 =>
(wr cUnl 8 x1 v7).bind fun c8 =>
(rd c8 8 x2).bind fun v9 =>
lt ((v9 ||| (1 <<< (x1 &&& 31))) : Int32) fun v10 =>
(wr c8 8 x2 v10).bind fun c11 =>
(rd cN 10 7).bind fun v12 =>
lt ((v12 + 1) : Int32) fun v13 =>
(wr cN 10 7 v13).bind fun c14 =>
(rd c14 10 7).bind fun v15 =>
some (v15, c14, c11)))))
noncomputable def X_areOf_L29 (φ : Nat) (x1 : Int32) (x2 : Int32) (v2 : Int32) (c3 : Nat → Int32) (cUnl : Nat → Int32) : Nat → Int32 → Int32 → Option Int32
  | 0, _, _ => none
  | n12 + 1, v9, v10 =>
    if x1 ≤ v10 then (some v9) else ((rd c3 8 v10).bind fun v23 =>
    if v23 = v2 then ((rd cUnl 8 x1).bind fun v26 =>
    bd1 (X_isIn v26 v10) fun r27 =>
    if r27 = 0 then (lt ((v9 &&& 1) : Int32) fun v31 =>
    lt ((v10 + 1) : Int32) fun v32 =>
    X_areOf_L29 φ x1 x2 v2 c3 cUnl n12 v31 v32) else (lt ((v9 &&& 0) : Int32) fun v29 =>
    lt ((v10 + 1) : Int32) fun v30 =>
    X_areOf_L29 φ x1 x2 v2 c3 cUnl n12 v29 v30)) else (lt ((v9 &&& 1) : Int32) fun v24 =>
    lt ((v10 + 1) : Int32) fun v25 =>
    X_areOf_L29 φ x1 x2 v2 c3 cUnl n12 v24 v25))
noncomputable def X_areOf_L18 (rec : (Nat → Int32) → (Nat → Int32) → (Nat → Int32) → Int32 → Int32 → Option (Int32 × (Nat → Int32))) (φ : Nat) (x1 : Int32) (x2 : Int32) (cN : Nat → Int32) (cUnl : Nat → Int32) : Nat → Int32 → (Nat → Int32) → Option (Int32 × (Nat → Int32))
  | 0, _, _ => none
  | n4 + 1, v2, c3 =>
    if x2 ≤ v2 then (some (0, c3)) else (bd1 (X_areOf_L29 φ x1 x2 v2 c3 cUnl φ 1 0) fun v11 =>
    if v11 = 0 then (lt ((v2 + 1) : Int32) fun v22 =>
    X_areOf_L18 rec φ x1 x2 cN cUnl n4 v22 c3) else ((wr c3 8 x1 v2).bind fun c17 =>
    bd2 (rec c17 cN cUnl (x1 + 1) x2) fun r18 c19 =>
    if r18 = 0 then (lt ((v2 + 1) : Int32) fun v21 =>
    X_areOf_L18 rec φ x1 x2 cN cUnl n4 v21 c19) else (some (1, c19))))
noncomputable def X_areOf (φ : Nat) : Nat → (Nat → Int32) → (Nat → Int32) → (Nat → Int32) → Int32 → Int32 → Option (Int32 × (Nat → Int32))
  | 0, _, _, _, _, _ => none
  | n0 + 1, cHead, cN, cUnl, x1, x2 =>
    (rd cN 10 6).bind fun v1 =>
    if x1 = v1 then (some (1, cHead)) else (X_areOf_L18 (X_areOf φ n0) φ x1 x2 cN cUnl φ 0 cHead)
noncomputable def X_heads_L25 (φ : Nat) (x1 : Int32) (cN : Nat → Int32) (cUnl : Nat → Int32) : Nat → Int32 → (Nat → Int32) → Option (Int32 × (Nat → Int32))
  | 0, _, _ => none
  | n8 + 1, v4, c5 =>
    bd2 (X_areOf φ 10 c5 cN cUnl 0 v4) fun r14 c15 =>
    if r14 = 0 then (lt ((v4 + 1) : Int32) fun v17 =>
    X_heads_L25 φ x1 cN cUnl n8 v17 c15) else (some (v4, c15))
noncomputable def X_heads (φ : Nat) (cHead : Nat → Int32) (cN : Nat → Int32) (cUnl : Nat → Int32) (x1 : Int32) : Option (Int32 × (Nat → Int32)) :=
(rd cN 10 6).bind fun v1 =>
bd1 (X_in x1 (-1) (v1 - 1)) fun r2 =>
if r2 = 0 then (some ((-2), cHead)) else (bd2 (X_heads_L25 φ x1 cN cUnl φ 0 cHead) fun v6 c7 =>
if x1 = (-1) then (some (v6, c7)) else ((rd c7 8 x1).bind fun v13 =>
some (v13, c7)))
noncomputable def X_has (cGain : Nat → Nat → Int32) (x1 : Int32) (x2 : Int32) (x3 : Int32) (x4 : Int32) : Option (Int32 × (Nat → Nat → Int32)) :=
bd1 (X_in x2 0 1) fun r1 =>
if r1 = 0 then (some (0, cGain)) else (bd1 (X_in x3 0 1) fun r3 =>
if r3 = 0 then (some (0, cGain)) else (bd1 (X_in x4 0 99) fun r5 =>
if r5 = 0 then (some (0, cGain)) else (bd1 (if x1 = 0 then (some 0) else (some 1) : Option Int32) fun v7 =>
inb v7 2 (
(wr (cGain (v7 : Int32).toNatClampNeg) 4 ((2 * x3) + x2) x4).bind fun f12 =>
lt (va_up cGain (v7 : Int32).toNatClampNeg f12) fun c11 =>
some (1, c11)))))
noncomputable def X_rests_L4 (φ : Nat) (cGain : Nat → Nat → Int32) : Nat → Int32 → Int32 → Option Int32
  | 0, _, _ => none
  | n4 + 1, v1, v2 =>
    if 4 ≤ v2 then (some v1) else (inb 0 2 (
    (rd (cGain (0 : Int32).toNatClampNeg) 4 (v2 ^^^ 1)).bind fun v10 =>
    inb 0 2 (
    (rd (cGain (0 : Int32).toNatClampNeg) 4 v2).bind fun v12 =>
    if v12 < v10 then (lt ((v1 ||| 0) : Int32) fun v13 =>
    lt ((v2 + 1) : Int32) fun v14 =>
    X_rests_L4 φ cGain n4 v13 v14) else (inb 1 2 (
    (rd (cGain (1 : Int32).toNatClampNeg) 4 (v2 ^^^ 2)).bind fun v16 =>
    inb 1 2 (
    (rd (cGain (1 : Int32).toNatClampNeg) 4 v2).bind fun v18 =>
    if v18 < v16 then (lt ((v1 ||| 0) : Int32) fun v19 =>
    lt ((v2 + 1) : Int32) fun v20 =>
    X_rests_L4 φ cGain n4 v19 v20) else (lt ((v1 ||| (1 <<< (v2 &&& 31))) : Int32) fun v21 =>
    lt ((v2 + 1) : Int32) fun v22 =>
    X_rests_L4 φ cGain n4 v21 v22)))))))
noncomputable def X_rests (φ : Nat) (cGain : Nat → Nat → Int32) : Option Int32 :=
bd1 (X_rests_L4 φ cGain φ 0 0) fun v3 =>
some v3
noncomputable def X_mixed (cGain : Nat → Nat → Int32) (x1 : Int32) : Option Int32 :=
inb 1 2 (
(rd (cGain (1 : Int32).toNatClampNeg) 4 3).bind fun v2 =>
(rd (cGain (1 : Int32).toNatClampNeg) 4 1).bind fun v3 =>
lt ((v2 - v3) : Int32) fun v4 =>
(rd (cGain (1 : Int32).toNatClampNeg) 4 0).bind fun v5 =>
(rd (cGain (1 : Int32).toNatClampNeg) 4 2).bind fun v6 =>
lt (((v5 - v6) + v4) : Int32) fun v7 =>
bd2 (if 0 ≤ v7 then (some (v4, v7)) else (lt ((-v4) : Int32) fun v18 =>
lt ((-v7) : Int32) fun v19 =>
some (v18, v19)) : Option (Int32 × Int32)) fun v8 v9 =>
if v8 ≤ 0 then (some (-1)) else (if v8 < v9 then (if x1 = 0 then (bd1 (X_common 40 v9 v8) fun r12 =>
nz r12 (
some (v8 / r12))) else (bd1 (X_common 40 v9 v8) fun r15 =>
nz r15 (
some (v9 / r15)))) else (some (-1))))
noncomputable def X_befell_L31 (φ : Nat) (x1 : Int32) (x2 : Int32) (cRow : Nat → Int32) : Nat → Int32 → Int32 → Option Int32
  | 0, _, _ => none
  | n8 + 1, v5, v6 =>
    (rd cRow 135 44).bind fun v13 =>
    if v13 ≤ v6 then (some v5) else ((rd cRow 135 ((45 + (3 * v6)) + 2)).bind fun v14 =>
    if v14 = x2 then (if x1 = (-1) then (lt ((v5 + 1) : Int32) fun v17 =>
    lt ((v6 + 1) : Int32) fun v18 =>
    X_befell_L31 φ x1 x2 cRow n8 v17 v18) else ((rd cRow 135 ((45 + (3 * v6)) + 1)).bind fun v19 =>
    if v19 = x1 then (lt ((v5 + 1) : Int32) fun v22 =>
    lt ((v6 + 1) : Int32) fun v23 =>
    X_befell_L31 φ x1 x2 cRow n8 v22 v23) else (lt ((v5 + 0) : Int32) fun v20 =>
    lt ((v6 + 1) : Int32) fun v21 =>
    X_befell_L31 φ x1 x2 cRow n8 v20 v21))) else (lt ((v5 + 0) : Int32) fun v15 =>
    lt ((v6 + 1) : Int32) fun v16 =>
    X_befell_L31 φ x1 x2 cRow n8 v15 v16))
noncomputable def X_befell (φ : Nat) (cN : Nat → Int32) (cRow : Nat → Int32) (x1 : Int32) (x2 : Int32) : Option Int32 :=
jn ((bd1 (X_in x2 0 6) fun r3 =>
if r3 = 0 then (some (-2)) else (bd1 (X_befell_L31 φ x1 x2 cRow φ 0 0) fun v7 =>
some v7) : Option Int32)) fun k1 =>
if x1 = (-1) then (k1) else (bd1 (X_isPerson cN x1) fun r24 =>
if r24 = 0 then (some (-2)) else (k1))
noncomputable def X_heirs (φ : Nat) (cN : Nat → Int32) (cRow : Nat → Int32) (x1 : Int32) : Option Int32 :=
bd1 (X_isPerson cN x1) fun r1 =>
if r1 = 0 then (some (-1)) else (bd1 (X_at cRow x1 0) fun r3 =>
bd1 (X_aliveIn φ cN cRow r3) fun r5 =>
some (r5 &&& ((1 <<< (x1 &&& 31)) ^^^ (-1))))
noncomputable def X_wolves_L4 (φ : Nat) (cN : Nat → Int32) (cRow : Nat → Int32) : Nat → Int32 → Int32 → Option Int32
  | 0, _, _ => none
  | n4 + 1, v1, v2 =>
    (rd cN 10 1).bind fun v9 =>
    if v9 ≤ v2 then (some v1) else (bd1 (X_isWolf cN cRow v2) fun r10 =>
    if r10 = 0 then (lt ((v1 ||| 0) : Int32) fun v12 =>
    lt ((v2 + 1) : Int32) fun v13 =>
    X_wolves_L4 φ cN cRow n4 v12 v13) else (lt ((v1 ||| (1 <<< (v2 &&& 31))) : Int32) fun v14 =>
    lt ((v2 + 1) : Int32) fun v15 =>
    X_wolves_L4 φ cN cRow n4 v14 v15))
noncomputable def X_wolves (φ : Nat) (cN : Nat → Int32) (cRow : Nat → Int32) : Option Int32 :=
bd1 (X_wolves_L4 φ cN cRow φ 0 0) fun v3 =>
some v3
noncomputable def X_wolvesBeside (φ : Nat) (cN : Nat → Int32) (cRow : Nat → Int32) (x1 : Int32) : Option Int32 :=
bd1 (X_wolves φ cN cRow) fun r1 =>
bd1 (X_at cRow x1 0) fun r3 =>
bd1 (X_aliveIn φ cN cRow r3) fun r5 =>
bd1 (J_bitCount ((r1 &&& r5) &&& ((1 <<< (x1 &&& 31)) ^^^ (-1)))) fun r7 =>
some r7
noncomputable def X_feared_L4 (φ : Nat) (cN : Nat → Int32) (cRow : Nat → Int32) : Nat → Int32 → Int32 → Option Int32
  | 0, _, _ => none
  | n4 + 1, v1, v2 =>
    (rd cN 10 1).bind fun v9 =>
    if v9 ≤ v2 then (some v1) else (bd1 (X_isAlive cN cRow v2) fun r10 =>
    if r10 = 0 then (lt ((v2 + 1) : Int32) fun v12 =>
    X_feared_L4 φ cN cRow n4 v1 v12) else (bd1 (X_wolvesBeside φ cN cRow v2) fun r13 =>
    if v1 = (-1) then (if r13 ≤ 0 then (lt ((v2 + 1) : Int32) fun v19 =>
    X_feared_L4 φ cN cRow n4 v1 v19) else (lt ((v2 + 1) : Int32) fun v20 =>
    X_feared_L4 φ cN cRow n4 v2 v20)) else (bd1 (X_wolvesBeside φ cN cRow v1) fun r15 =>
    if r13 ≤ r15 then (lt ((v2 + 1) : Int32) fun v17 =>
    X_feared_L4 φ cN cRow n4 v1 v17) else (lt ((v2 + 1) : Int32) fun v18 =>
    X_feared_L4 φ cN cRow n4 v2 v18))))
noncomputable def X_feared (φ : Nat) (cN : Nat → Int32) (cRow : Nat → Int32) : Option Int32 :=
bd1 (X_feared_L4 φ cN cRow φ (-1) 0) fun v3 =>
some v3
noncomputable def X_paid (cN : Nat → Int32) (cPaid : Nat → Nat → Int32) (x1 : Int32) (x2 : Int32) : Option (Int32 × (Nat → Int32) × (Nat → Nat → Int32)) :=
if x1 = (-1) then (bd2 (S_clears cN 8) fun r18 c19 =>
some (r18, c19, cPaid)) else (bd1 (X_isPerson cN x1) fun r1 =>
if r1 = 0 then (some ((-2), cN, cPaid)) else (bd1 (X_in x2 0 9999) fun r3 =>
if r3 = 0 then (some ((-2), cN, cPaid)) else ((rd cN 10 8).bind fun v5 =>
if v5 = 8 then (some ((-2), cN, cPaid)) else ((rd cN 10 8).bind fun v6 =>
inb v6 8 (
(wr (cPaid (v6 : Int32).toNatClampNeg) 2 0 x1).bind fun f9 =>
lt (va_up cPaid (v6 : Int32).toNatClampNeg f9) fun c8 =>
(rd cN 10 8).bind fun v10 =>
inb v10 8 (
(wr (c8 (v10 : Int32).toNatClampNeg) 2 1 x2).bind fun f13 =>
lt (va_up c8 (v10 : Int32).toNatClampNeg f13) fun c12 =>
(rd cN 10 8).bind fun v14 =>
lt ((v14 + 1) : Int32) fun v15 =>
(wr cN 10 8 v15).bind fun c16 =>
(rd c16 10 8).bind fun v17 =>
some (v17, c16, c12)))))))
noncomputable def X_isLaw_L2 (φ : Nat) (t : Nat) (cN : Nat → Int32) (cRow : Nat → Int32) (cFor : Nat → Int32) (cFear : Nat → Int32) (cPaid : Nat → Nat → Int32) (E : Nat → Option (Nat → Option ((Nat → Int32) → Int64))) : Nat → Int32 → (Nat → Int32) → Option (Int32 × (Nat → Int32))
  | 0, _, _ => none
  | n3 + 1, v1, c2 =>
    (rd cN 10 8).bind fun v8 =>
    if v8 ≤ v1 then (some (1, c2)) else (inb v1 8 (
    (rd (cPaid (v1 : Int32).toNatClampNeg) 2 0).bind fun v10 =>
    bd2 (X_priceBy φ c2 cN cRow cFor cFear E t v10) fun r11 c12 =>
    inb v1 8 (
    (rd (cPaid (v1 : Int32).toNatClampNeg) 2 1).bind fun v15 =>
    if r11 = v15 then (lt ((v1 + 1) : Int32) fun v16 =>
    X_isLaw_L2 φ t cN cRow cFor cFear cPaid E n3 v16 c12) else (some (0, c12)))))
noncomputable def X_isLaw (φ : Nat) (cNames : Nat → Int32) (cN : Nat → Int32) (cRow : Nat → Int32) (cFor : Nat → Int32) (cFear : Nat → Int32) (cPaid : Nat → Nat → Int32) (E : Nat → Option (Nat → Option ((Nat → Int32) → Int64))) (t : Nat) : Option (Int32 × (Nat → Int32)) :=
X_isLaw_L2 φ t cN cRow cFor cFear cPaid E φ 0 cNames
noncomputable def X_whose_L4 (φ : Nat) (cN : Nat → Int32) (cRow : Nat → Int32) (cFor : Nat → Int32) (cFear : Nat → Int32) (cPaid : Nat → Nat → Int32) (cText : Nat → Option Nat) (E : Nat → Option (Nat → Option ((Nat → Int32) → Int64))) : Nat → Int32 → Int32 → (Nat → Int32) → Option (Int32 × (Nat → Int32))
  | 0, _, _, _ => none
  | n6 + 1, v1, v2, c3 =>
    (rd cN 10 2).bind fun v11 =>
    if v11 ≤ v2 then (some (v1, c3)) else ((rdq cText 4 v2).bind fun v12 =>
    bd2 (X_isLaw φ c3 cN cRow cFor cFear cPaid E v12) fun r13 c14 =>
    if r13 = 0 then (lt ((v1 ||| 0) : Int32) fun v16 =>
    lt ((v2 + 1) : Int32) fun v17 =>
    X_whose_L4 φ cN cRow cFor cFear cPaid cText E n6 v16 v17 c14) else (lt ((v1 ||| (1 <<< (v2 &&& 31))) : Int32) fun v18 =>
    lt ((v2 + 1) : Int32) fun v19 =>
    X_whose_L4 φ cN cRow cFor cFear cPaid cText E n6 v18 v19 c14))
noncomputable def X_whose (φ : Nat) (cNames : Nat → Int32) (cN : Nat → Int32) (cRow : Nat → Int32) (cFor : Nat → Int32) (cFear : Nat → Int32) (cPaid : Nat → Nat → Int32) (cText : Nat → Option Nat) (E : Nat → Option (Nat → Option ((Nat → Int32) → Int64))) : Option (Int32 × (Nat → Int32)) :=
bd2 (X_whose_L4 φ cN cRow cFor cFear cPaid cText E φ 0 0 cNames) fun v4 c5 =>
some (v4, c5)
noncomputable def S_copy_2PaidI_L2 (φ : Nat) (cPaid : Nat → Nat → Int32) : Nat → Int32 → (Nat → Nat → Int32) → Option ((Nat → Nat → Int32))
  | 0, _, _ => none
  | n4 + 1, v1, c2 =>
    if 8 ≤ v1 then (some c2) else (inb v1 8 (
    inb v1 8 (
    lt (va_up c2 (v1 : Int32).toNatClampNeg (cPaid (v1 : Int32).toNatClampNeg)) fun c11 =>
    lt ((v1 + 1) : Int32) fun v12 =>
    S_copy_2PaidI_L2 φ cPaid n4 v12 c11)))
noncomputable def S_copy_2PaidI (φ : Nat) (cPaid : Nat → Nat → Int32) (iPaid : Nat → Nat → Int32) : Option ((Nat → Nat → Int32)) :=
bd1 (S_copy_2PaidI_L2 φ cPaid φ 0 iPaid) fun c3 =>
some c3
noncomputable def S_copy_2StepI_L2 (φ : Nat) (cStep : Nat → Nat → Int32) : Nat → Int32 → (Nat → Nat → Int32) → Option ((Nat → Nat → Int32))
  | 0, _, _ => none
  | n4 + 1, v1, c2 =>
    if 30 ≤ v1 then (some c2) else (inb v1 30 (
    inb v1 30 (
    lt (va_up c2 (v1 : Int32).toNatClampNeg (cStep (v1 : Int32).toNatClampNeg)) fun c11 =>
    lt ((v1 + 1) : Int32) fun v12 =>
    S_copy_2StepI_L2 φ cStep n4 v12 c11)))
noncomputable def S_copy_2StepI (φ : Nat) (cStep : Nat → Nat → Int32) (iStep : Nat → Nat → Int32) : Option ((Nat → Nat → Int32)) :=
bd1 (S_copy_2StepI_L2 φ cStep φ 0 iStep) fun c3 =>
some c3
noncomputable def S_copy_2GainI_L2 (φ : Nat) (cGain : Nat → Nat → Int32) : Nat → Int32 → (Nat → Nat → Int32) → Option ((Nat → Nat → Int32))
  | 0, _, _ => none
  | n4 + 1, v1, c2 =>
    if 2 ≤ v1 then (some c2) else (inb v1 2 (
    inb v1 2 (
    lt (va_up c2 (v1 : Int32).toNatClampNeg (cGain (v1 : Int32).toNatClampNeg)) fun c11 =>
    lt ((v1 + 1) : Int32) fun v12 =>
    S_copy_2GainI_L2 φ cGain n4 v12 c11)))
noncomputable def S_copy_2GainI (φ : Nat) (cGain : Nat → Nat → Int32) (iGain : Nat → Nat → Int32) : Option ((Nat → Nat → Int32)) :=
bd1 (S_copy_2GainI_L2 φ cGain φ 0 iGain) fun c3 =>
some c3
noncomputable def S_beI (φ : Nat) (cN : Nat → Int32) (cRow : Nat → Int32) (cFor : Nat → Int32) (cRoad : Nat → Int32) (cFear : Nat → Int32) (cCall : Nat → Int32) (cUnl : Nat → Int32) (cPaid : Nat → Nat → Int32) (cStep : Nat → Nat → Int32) (cGain : Nat → Nat → Int32) (cText : Nat → Option Nat) (iN : Nat → Int32) (iRow : Nat → Int32) (iFor : Nat → Int32) (iRoad : Nat → Int32) (iFear : Nat → Int32) (iCall : Nat → Int32) (iUnl : Nat → Int32) (iPaid : Nat → Nat → Int32) (iStep : Nat → Nat → Int32) (iGain : Nat → Nat → Int32) (iText : Nat → Option Nat) : Option ((Nat → Int32) × (Nat → Int32) × (Nat → Int32) × (Nat → Int32) × (Nat → Int32) × (Nat → Int32) × (Nat → Int32) × (Nat → Nat → Int32) × (Nat → Nat → Int32) × (Nat → Nat → Int32) × (Nat → Option Nat)) :=
lt (cN : Nat → Int32) fun c1 =>
lt (cRow : Nat → Int32) fun c2 =>
lt (cFor : Nat → Int32) fun c3 =>
lt (cRoad : Nat → Int32) fun c4 =>
lt (cFear : Nat → Int32) fun c5 =>
lt (cCall : Nat → Int32) fun c6 =>
lt (cUnl : Nat → Int32) fun c7 =>
bd1 (S_copy_2PaidI φ cPaid iPaid) fun c8 =>
bd1 (S_copy_2StepI φ cStep iStep) fun c10 =>
bd1 (S_copy_2GainI φ cGain iGain) fun c12 =>
some (c1, c2, c3, c4, c5, c6, c7, c8, c10, c12, cText)
noncomputable def X_image (φ : Nat) (cN : Nat → Int32) (cRow : Nat → Int32) (cFor : Nat → Int32) (cRoad : Nat → Int32) (cFear : Nat → Int32) (cCall : Nat → Int32) (cUnl : Nat → Int32) (cPaid : Nat → Nat → Int32) (cStep : Nat → Nat → Int32) (cGain : Nat → Nat → Int32) (cText : Nat → Option Nat) (iN : Nat → Int32) (iRow : Nat → Int32) (iFor : Nat → Int32) (iRoad : Nat → Int32) (iFear : Nat → Int32) (iCall : Nat → Int32) (iUnl : Nat → Int32) (iPaid : Nat → Nat → Int32) (iStep : Nat → Nat → Int32) (iGain : Nat → Nat → Int32) (iText : Nat → Option Nat) : Option (Int32 × (Nat → Int32) × (Nat → Int32) × (Nat → Int32) × (Nat → Int32) × (Nat → Int32) × (Nat → Int32) × (Nat → Int32) × (Nat → Nat → Int32) × (Nat → Nat → Int32) × (Nat → Nat → Int32) × (Nat → Option Nat)) :=
bd11 (S_beI φ cN cRow cFor cRoad cFear cCall cUnl cPaid cStep cGain cText iN iRow iFor iRoad iFear iCall iUnl iPaid iStep iGain iText) fun c1 c2 c3 c4 c5 c6 c7 c8 c9 c10 c11 =>
(rd cRow 135 0).bind fun v13 =>
some (v13, c1, c2, c3, c4, c5, c6, c7, c8, c9, c10, c11)
noncomputable def S_copy_2PaidN_L2 (φ : Nat) (iPaid : Nat → Nat → Int32) : Nat → Int32 → (Nat → Nat → Int32) → Option ((Nat → Nat → Int32))
  | 0, _, _ => none
  | n4 + 1, v1, c2 =>
    if 8 ≤ v1 then (some c2) else (inb v1 8 (
    inb v1 8 (
    lt (va_up c2 (v1 : Int32).toNatClampNeg (iPaid (v1 : Int32).toNatClampNeg)) fun c11 =>
    lt ((v1 + 1) : Int32) fun v12 =>
    S_copy_2PaidN_L2 φ iPaid n4 v12 c11)))
noncomputable def S_copy_2PaidN (φ : Nat) (cPaid : Nat → Nat → Int32) (iPaid : Nat → Nat → Int32) : Option ((Nat → Nat → Int32)) :=
bd1 (S_copy_2PaidN_L2 φ iPaid φ 0 cPaid) fun c3 =>
some c3
noncomputable def S_copy_2StepN_L2 (φ : Nat) (iStep : Nat → Nat → Int32) : Nat → Int32 → (Nat → Nat → Int32) → Option ((Nat → Nat → Int32))
  | 0, _, _ => none
  | n4 + 1, v1, c2 =>
    if 30 ≤ v1 then (some c2) else (inb v1 30 (
    inb v1 30 (
    lt (va_up c2 (v1 : Int32).toNatClampNeg (iStep (v1 : Int32).toNatClampNeg)) fun c11 =>
    lt ((v1 + 1) : Int32) fun v12 =>
    S_copy_2StepN_L2 φ iStep n4 v12 c11)))
noncomputable def S_copy_2StepN (φ : Nat) (cStep : Nat → Nat → Int32) (iStep : Nat → Nat → Int32) : Option ((Nat → Nat → Int32)) :=
bd1 (S_copy_2StepN_L2 φ iStep φ 0 cStep) fun c3 =>
some c3
noncomputable def S_copy_2GainN_L2 (φ : Nat) (iGain : Nat → Nat → Int32) : Nat → Int32 → (Nat → Nat → Int32) → Option ((Nat → Nat → Int32))
  | 0, _, _ => none
  | n4 + 1, v1, c2 =>
    if 2 ≤ v1 then (some c2) else (inb v1 2 (
    inb v1 2 (
    lt (va_up c2 (v1 : Int32).toNatClampNeg (iGain (v1 : Int32).toNatClampNeg)) fun c11 =>
    lt ((v1 + 1) : Int32) fun v12 =>
    S_copy_2GainN_L2 φ iGain n4 v12 c11)))
noncomputable def S_copy_2GainN (φ : Nat) (cGain : Nat → Nat → Int32) (iGain : Nat → Nat → Int32) : Option ((Nat → Nat → Int32)) :=
bd1 (S_copy_2GainN_L2 φ iGain φ 0 cGain) fun c3 =>
some c3
noncomputable def S_beN (φ : Nat) (cN : Nat → Int32) (cRow : Nat → Int32) (cFor : Nat → Int32) (cRoad : Nat → Int32) (cFear : Nat → Int32) (cCall : Nat → Int32) (cUnl : Nat → Int32) (cPaid : Nat → Nat → Int32) (cStep : Nat → Nat → Int32) (cGain : Nat → Nat → Int32) (cText : Nat → Option Nat) (iN : Nat → Int32) (iRow : Nat → Int32) (iFor : Nat → Int32) (iRoad : Nat → Int32) (iFear : Nat → Int32) (iCall : Nat → Int32) (iUnl : Nat → Int32) (iPaid : Nat → Nat → Int32) (iStep : Nat → Nat → Int32) (iGain : Nat → Nat → Int32) (iText : Nat → Option Nat) : Option ((Nat → Int32) × (Nat → Int32) × (Nat → Int32) × (Nat → Int32) × (Nat → Int32) × (Nat → Int32) × (Nat → Int32) × (Nat → Nat → Int32) × (Nat → Nat → Int32) × (Nat → Nat → Int32) × (Nat → Option Nat)) :=
lt (iN : Nat → Int32) fun c1 =>
lt (iRow : Nat → Int32) fun c2 =>
lt (iFor : Nat → Int32) fun c3 =>
lt (iRoad : Nat → Int32) fun c4 =>
lt (iFear : Nat → Int32) fun c5 =>
lt (iCall : Nat → Int32) fun c6 =>
lt (iUnl : Nat → Int32) fun c7 =>
bd1 (S_copy_2PaidN φ cPaid iPaid) fun c8 =>
bd1 (S_copy_2StepN φ cStep iStep) fun c10 =>
bd1 (S_copy_2GainN φ cGain iGain) fun c12 =>
some (c1, c2, c3, c4, c5, c6, c7, c8, c10, c12, iText)
noncomputable def X_back (φ : Nat) (cN : Nat → Int32) (cRow : Nat → Int32) (cFor : Nat → Int32) (cRoad : Nat → Int32) (cFear : Nat → Int32) (cCall : Nat → Int32) (cUnl : Nat → Int32) (cPaid : Nat → Nat → Int32) (cStep : Nat → Nat → Int32) (cGain : Nat → Nat → Int32) (cText : Nat → Option Nat) (iN : Nat → Int32) (iRow : Nat → Int32) (iFor : Nat → Int32) (iRoad : Nat → Int32) (iFear : Nat → Int32) (iCall : Nat → Int32) (iUnl : Nat → Int32) (iPaid : Nat → Nat → Int32) (iStep : Nat → Nat → Int32) (iGain : Nat → Nat → Int32) (iText : Nat → Option Nat) : Option (Int32 × (Nat → Int32) × (Nat → Int32) × (Nat → Int32) × (Nat → Int32) × (Nat → Int32) × (Nat → Int32) × (Nat → Int32) × (Nat → Nat → Int32) × (Nat → Nat → Int32) × (Nat → Nat → Int32) × (Nat → Option Nat)) :=
bd11 (S_beN φ cN cRow cFor cRoad cFear cCall cUnl cPaid cStep cGain cText iN iRow iFor iRoad iFear iCall iUnl iPaid iStep iGain iText) fun c1 c2 c3 c4 c5 c6 c7 c8 c9 c10 c11 =>
(rd c2 135 0).bind fun v13 =>
some (v13, c1, c2, c3, c4, c5, c6, c7, c8, c9, c10, c11)
noncomputable def X_about (sTaped : Int32) (cN : Nat → Int32) (x1 : Int32) : Option Int32 :=
if x1.toInt < 0 then (some (-2)) else if 9 < x1.toInt then (some (-2)) else if x1 = 0 then ((rd cN 10 0).bind fun v1 =>
some v1) else if x1 = 1 then ((rd cN 10 1).bind fun v2 =>
some v2) else if x1 = 2 then ((rd cN 10 2).bind fun v3 =>
some v3) else if x1 = 3 then ((rd cN 10 3).bind fun v4 =>
some v4) else if x1 = 4 then ((rd cN 10 4).bind fun v5 =>
some v5) else if x1 = 5 then ((rd cN 10 5).bind fun v6 =>
some v6) else if x1 = 6 then ((rd cN 10 6).bind fun v7 =>
some v7) else if x1 = 7 then ((rd cN 10 7).bind fun v8 =>
some v8) else if x1 = 8 then ((rd cN 10 8).bind fun v9 =>
some v9) else if x1 = 9 then (some sTaped) else none
