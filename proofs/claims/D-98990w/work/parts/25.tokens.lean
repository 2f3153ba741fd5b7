/-! the tokens' world: the parser's object, the tape -/
def tkW (g : gG) (r0 ta : Nat) (cT : Nat → Int32) (sSz : Int32) (sAt : Int32) (sTok : Int32) (sSort : Int32) (sNum : Int32) (sOpen : Int32) (sKind : Int32) : va_W := [(r0, .inr (3, [.ref ta, .int sSz, .int sAt, .int sTok, .int sSort, .int sNum, .int sOpen, .int sKind])), (ta, .inl (g.2 3, 300, .inl cT))]
theorem plain_X3 : plainName RX3 = true := by decide +kernel
section TKW
variable {p : Program} {l : Launch} {e : Env} {R : Room} {s : State} {m : MethodId} {args : Array Value} {below : List Frame} {meth : Method} {c : Code} {H : Heap} {locs : List Loc} {cells slots : Nat} {Q : State → Prop} {A : Nat → Prop} {own : String} {cc : ByteArray} {nL : Nat} {ret : Option FieldType} {ls : Array Slot} {st0 rest : List Value} {pc : Nat}
variable {g : gG} {r0 ta : Nat} {z : Nat → Nat} {cT : Nat → Int32} {sSz : Int32} {sAt : Int32} {sTok : Int32} {sSort : Int32} {sNum : Int32} {sOpen : Int32} {sKind : Int32} 
theorem gT_text (X : Cx p s m meth c args RX3 cc nL ret g A) {wf : va_W} (hP : va_P g.1 vwCl ((tkW g r0 ta cT sSz sAt sTok sSort sNum sOpen sKind) ++ wf) H) (hdg : decode cc pc = .ok (.getfield 9, 3)) (kk : W p l e R s m args below meth c H locs cells slots Q (F0 m (pc + 3) ls (.ref ta :: rest))) : W p l e R s m args below meth c H locs cells slots Q (F0 m pc ls (.ref r0 :: rest)) :=
  gF X in_X3 hP 0 rfl rfl 0 (by decide) q352 rfl hdg kk
theorem gT_size (X : Cx p s m meth c args RX3 cc nL ret g A) {wf : va_W} (hP : va_P g.1 vwCl ((tkW g r0 ta cT sSz sAt sTok sSort sNum sOpen sKind) ++ wf) H) (hdg : decode cc pc = .ok (.getfield 15, 3)) (kk : W p l e R s m args below meth c H locs cells slots Q (F0 m (pc + 3) ls (.int sSz :: rest))) : W p l e R s m args below meth c H locs cells slots Q (F0 m pc ls (.ref r0 :: rest)) :=
  gF X in_X3 hP 0 rfl rfl 1 (by decide) q353 rfl hdg kk
theorem gT_at (X : Cx p s m meth c args RX3 cc nL ret g A) {wf : va_W} (hP : va_P g.1 vwCl ((tkW g r0 ta cT sSz sAt sTok sSort sNum sOpen sKind) ++ wf) H) (hdg : decode cc pc = .ok (.getfield 19, 3)) (kk : W p l e R s m args below meth c H locs cells slots Q (F0 m (pc + 3) ls (.int sAt :: rest))) : W p l e R s m args below meth c H locs cells slots Q (F0 m pc ls (.ref r0 :: rest)) :=
  gF X in_X3 hP 0 rfl rfl 2 (by decide) q354 rfl hdg kk
theorem pT_at {x : Int32} (X : Cx p s m meth c args RX3 cc nL ret g A) {wf : va_W} (hP : va_P g.1 vwCl ((tkW g r0 ta cT sSz sAt sTok sSort sNum sOpen sKind) ++ wf) H) (hD : va_D A ((tkW g r0 ta cT sSz sAt sTok sSort sNum sOpen sKind) ++ wf)) (hS : va_S A s.heap H locs) (hdg : decode cc pc = .ok (.putfield 19, 3)) (kk : ∀ (H1 : Heap) (locs1 : List Loc), va_P g.1 vwCl ((tkW g r0 ta cT sSz x sTok sSort sNum sOpen sKind) ++ wf) H1 → va_D A ((tkW g r0 ta cT sSz x sTok sSort sNum sOpen sKind) ++ wf) → va_S A s.heap H1 locs1 → W p l e R s m args below meth c H1 locs1 cells slots Q (F0 m (pc + 3) ls rest)) : W p l e R s m args below meth c H locs cells slots Q (F0 m pc ls (.int x :: .ref r0 :: rest)) :=
  pF (w' := (tkW g r0 ta cT sSz x sTok sSort sNum sOpen sKind) ++ wf) X in_X3 tyX3 tyX3_ok nmX3 hP hD hS 0 rfl rfl 2 (by decide) q354 rfl rfl rfl (Nat.le_of_ble_eq_true rfl) rfl hdg kk
theorem gT_token (X : Cx p s m meth c args RX3 cc nL ret g A) {wf : va_W} (hP : va_P g.1 vwCl ((tkW g r0 ta cT sSz sAt sTok sSort sNum sOpen sKind) ++ wf) H) (hdg : decode cc pc = .ok (.getfield 22, 3)) (kk : W p l e R s m args below meth c H locs cells slots Q (F0 m (pc + 3) ls (.int sTok :: rest))) : W p l e R s m args below meth c H locs cells slots Q (F0 m pc ls (.ref r0 :: rest)) :=
  gF X in_X3 hP 0 rfl rfl 3 (by decide) q355 rfl hdg kk
theorem pT_token {x : Int32} (X : Cx p s m meth c args RX3 cc nL ret g A) {wf : va_W} (hP : va_P g.1 vwCl ((tkW g r0 ta cT sSz sAt sTok sSort sNum sOpen sKind) ++ wf) H) (hD : va_D A ((tkW g r0 ta cT sSz sAt sTok sSort sNum sOpen sKind) ++ wf)) (hS : va_S A s.heap H locs) (hdg : decode cc pc = .ok (.putfield 22, 3)) (kk : ∀ (H1 : Heap) (locs1 : List Loc), va_P g.1 vwCl ((tkW g r0 ta cT sSz sAt x sSort sNum sOpen sKind) ++ wf) H1 → va_D A ((tkW g r0 ta cT sSz sAt x sSort sNum sOpen sKind) ++ wf) → va_S A s.heap H1 locs1 → W p l e R s m args below meth c H1 locs1 cells slots Q (F0 m (pc + 3) ls rest)) : W p l e R s m args below meth c H locs cells slots Q (F0 m pc ls (.int x :: .ref r0 :: rest)) :=
  pF (w' := (tkW g r0 ta cT sSz sAt x sSort sNum sOpen sKind) ++ wf) X in_X3 tyX3 tyX3_ok nmX3 hP hD hS 0 rfl rfl 3 (by decide) q355 rfl rfl rfl (Nat.le_of_ble_eq_true rfl) rfl hdg kk
theorem gT_sort (X : Cx p s m meth c args RX3 cc nL ret g A) {wf : va_W} (hP : va_P g.1 vwCl ((tkW g r0 ta cT sSz sAt sTok sSort sNum sOpen sKind) ++ wf) H) (hdg : decode cc pc = .ok (.getfield 25, 3)) (kk : W p l e R s m args below meth c H locs cells slots Q (F0 m (pc + 3) ls (.int sSort :: rest))) : W p l e R s m args below meth c H locs cells slots Q (F0 m pc ls (.ref r0 :: rest)) :=
  gF X in_X3 hP 0 rfl rfl 4 (by decide) q356 rfl hdg kk
theorem pT_sort {x : Int32} (X : Cx p s m meth c args RX3 cc nL ret g A) {wf : va_W} (hP : va_P g.1 vwCl ((tkW g r0 ta cT sSz sAt sTok sSort sNum sOpen sKind) ++ wf) H) (hD : va_D A ((tkW g r0 ta cT sSz sAt sTok sSort sNum sOpen sKind) ++ wf)) (hS : va_S A s.heap H locs) (hdg : decode cc pc = .ok (.putfield 25, 3)) (kk : ∀ (H1 : Heap) (locs1 : List Loc), va_P g.1 vwCl ((tkW g r0 ta cT sSz sAt sTok x sNum sOpen sKind) ++ wf) H1 → va_D A ((tkW g r0 ta cT sSz sAt sTok x sNum sOpen sKind) ++ wf) → va_S A s.heap H1 locs1 → W p l e R s m args below meth c H1 locs1 cells slots Q (F0 m (pc + 3) ls rest)) : W p l e R s m args below meth c H locs cells slots Q (F0 m pc ls (.int x :: .ref r0 :: rest)) :=
  pF (w' := (tkW g r0 ta cT sSz sAt sTok x sNum sOpen sKind) ++ wf) X in_X3 tyX3 tyX3_ok nmX3 hP hD hS 0 rfl rfl 4 (by decide) q356 rfl rfl rfl (Nat.le_of_ble_eq_true rfl) rfl hdg kk
theorem gT_number (X : Cx p s m meth c args RX3 cc nL ret g A) {wf : va_W} (hP : va_P g.1 vwCl ((tkW g r0 ta cT sSz sAt sTok sSort sNum sOpen sKind) ++ wf) H) (hdg : decode cc pc = .ok (.getfield 43, 3)) (kk : W p l e R s m args below meth c H locs cells slots Q (F0 m (pc + 3) ls (.int sNum :: rest))) : W p l e R s m args below meth c H locs cells slots Q (F0 m pc ls (.ref r0 :: rest)) :=
  gF X in_X3 hP 0 rfl rfl 5 (by decide) q357 rfl hdg kk
theorem pT_number {x : Int32} (X : Cx p s m meth c args RX3 cc nL ret g A) {wf : va_W} (hP : va_P g.1 vwCl ((tkW g r0 ta cT sSz sAt sTok sSort sNum sOpen sKind) ++ wf) H) (hD : va_D A ((tkW g r0 ta cT sSz sAt sTok sSort sNum sOpen sKind) ++ wf)) (hS : va_S A s.heap H locs) (hdg : decode cc pc = .ok (.putfield 43, 3)) (kk : ∀ (H1 : Heap) (locs1 : List Loc), va_P g.1 vwCl ((tkW g r0 ta cT sSz sAt sTok sSort x sOpen sKind) ++ wf) H1 → va_D A ((tkW g r0 ta cT sSz sAt sTok sSort x sOpen sKind) ++ wf) → va_S A s.heap H1 locs1 → W p l e R s m args below meth c H1 locs1 cells slots Q (F0 m (pc + 3) ls rest)) : W p l e R s m args below meth c H locs cells slots Q (F0 m pc ls (.int x :: .ref r0 :: rest)) :=
  pF (w' := (tkW g r0 ta cT sSz sAt sTok sSort x sOpen sKind) ++ wf) X in_X3 tyX3 tyX3_ok nmX3 hP hD hS 0 rfl rfl 5 (by decide) q357 rfl rfl rfl (Nat.le_of_ble_eq_true rfl) rfl hdg kk
theorem gT_open (X : Cx p s m meth c args RX3 cc nL ret g A) {wf : va_W} (hP : va_P g.1 vwCl ((tkW g r0 ta cT sSz sAt sTok sSort sNum sOpen sKind) ++ wf) H) (hdg : decode cc pc = .ok (.getfield 77, 3)) (kk : W p l e R s m args below meth c H locs cells slots Q (F0 m (pc + 3) ls (.int sOpen :: rest))) : W p l e R s m args below meth c H locs cells slots Q (F0 m pc ls (.ref r0 :: rest)) :=
  gF X in_X3 hP 0 rfl rfl 6 (by decide) q358 rfl hdg kk
theorem pT_open {x : Int32} (X : Cx p s m meth c args RX3 cc nL ret g A) {wf : va_W} (hP : va_P g.1 vwCl ((tkW g r0 ta cT sSz sAt sTok sSort sNum sOpen sKind) ++ wf) H) (hD : va_D A ((tkW g r0 ta cT sSz sAt sTok sSort sNum sOpen sKind) ++ wf)) (hS : va_S A s.heap H locs) (hdg : decode cc pc = .ok (.putfield 77, 3)) (kk : ∀ (H1 : Heap) (locs1 : List Loc), va_P g.1 vwCl ((tkW g r0 ta cT sSz sAt sTok sSort sNum x sKind) ++ wf) H1 → va_D A ((tkW g r0 ta cT sSz sAt sTok sSort sNum x sKind) ++ wf) → va_S A s.heap H1 locs1 → W p l e R s m args below meth c H1 locs1 cells slots Q (F0 m (pc + 3) ls rest)) : W p l e R s m args below meth c H locs cells slots Q (F0 m pc ls (.int x :: .ref r0 :: rest)) :=
  pF (w' := (tkW g r0 ta cT sSz sAt sTok sSort sNum x sKind) ++ wf) X in_X3 tyX3 tyX3_ok nmX3 hP hD hS 0 rfl rfl 6 (by decide) q358 rfl rfl rfl (Nat.le_of_ble_eq_true rfl) rfl hdg kk
theorem gT_kind (X : Cx p s m meth c args RX3 cc nL ret g A) {wf : va_W} (hP : va_P g.1 vwCl ((tkW g r0 ta cT sSz sAt sTok sSort sNum sOpen sKind) ++ wf) H) (hdg : decode cc pc = .ok (.getfield 83, 3)) (kk : W p l e R s m args below meth c H locs cells slots Q (F0 m (pc + 3) ls (.int sKind :: rest))) : W p l e R s m args below meth c H locs cells slots Q (F0 m pc ls (.ref r0 :: rest)) :=
  gF X in_X3 hP 0 rfl rfl 7 (by decide) q359 rfl hdg kk
theorem pT_kind {x : Int32} (X : Cx p s m meth c args RX3 cc nL ret g A) {wf : va_W} (hP : va_P g.1 vwCl ((tkW g r0 ta cT sSz sAt sTok sSort sNum sOpen sKind) ++ wf) H) (hD : va_D A ((tkW g r0 ta cT sSz sAt sTok sSort sNum sOpen sKind) ++ wf)) (hS : va_S A s.heap H locs) (hdg : decode cc pc = .ok (.putfield 83, 3)) (kk : ∀ (H1 : Heap) (locs1 : List Loc), va_P g.1 vwCl ((tkW g r0 ta cT sSz sAt sTok sSort sNum sOpen x) ++ wf) H1 → va_D A ((tkW g r0 ta cT sSz sAt sTok sSort sNum sOpen x) ++ wf) → va_S A s.heap H1 locs1 → W p l e R s m args below meth c H1 locs1 cells slots Q (F0 m (pc + 3) ls rest)) : W p l e R s m args below meth c H locs cells slots Q (F0 m pc ls (.int x :: .ref r0 :: rest)) :=
  pF (w' := (tkW g r0 ta cT sSz sAt sTok sSort sNum sOpen x) ++ wf) X in_X3 tyX3 tyX3_ok nmX3 hP hD hS 0 rfl rfl 7 (by decide) q359 rfl rfl rfl (Nat.le_of_ble_eq_true rfl) rfl hdg kk
theorem lT_cT {i : Int32} {v : Int32} (X : Cx p s m meth c args own cc nL ret g A) {wf : va_W} (hP : va_P g.1 vwCl ((tkW g r0 ta cT sSz sAt sTok sSort sNum sOpen sKind) ++ wf) H) (ev : v = cT i.toNatClampNeg) (hin : vp_in i 300) (hdg : decode cc pc = .ok (.baload, 1)) (kk : W p l e R s m args below meth c H locs cells slots Q (F0 m (pc + 1) ls (.int v :: rest))) : W p l e R s m args below meth c H locs cells slots Q (F0 m pc ls (.int i :: .ref ta :: rest)) :=
  va_bald X.1 X.2.1 X.2.2.2.2.2.2.2.2 hP 1 3 rfl rfl hin hdg (by rw [← ev]; exact kk)
theorem zVv {y : MethodName} {cy : ByteArray} {nLy : Nat} {rety : Option FieldType} {rmy : Room} {b : Nat} {As : List Value} {w w' : va_W} {C : String} {index n : Nat} (X : Cx p s m meth c args own cc nL ret g A) (hG9 : XG z A s s.heap) (hM : CZ l y (ws_ y cy nLy rety) rmy g z (.ref b :: As) w none w' 0 0) (hG : GoodIn lw_all (wsV own index C y (ws_ y cy nLy rety))) (hd : Dy y C n) (hR : Ry rmy R nLy 0 0) (hP : va_P g.1 vwCl w H) (hD : va_D A w) (hS : va_S A s.heap H locs) (hl : ls.size = nL) (hc : Rc w b C) (hn : As.length = n) (hst : st0 = As.reverse ++ .ref b :: rest) (hf : cells ≤ R.cells ∧ slots ≤ R.slots) (hw : (rest.map fun v => v.category).sum ≤ 8) (hdg : decode cc pc = .ok (.invokevirtual index, 3))
    (kk : ∀ (H1 : Heap) (locs1 : List Loc), va_P g.1 vwCl w' H1 → va_D A w' → va_S A s.heap H1 locs1 → W p l e R s m args below meth c H1 locs1 cells slots Q (F0 m (pc + 3) ls (rest))) : W p l e R s m args below meth c H locs cells slots Q (F0 m pc ls st0) := by
  obtain ⟨q0, ci, fs, T, N, he, hcl⟩ := hc
  exact zV0 (wf := []) X hG9 hM hG hd hR hf (by rw [List.append_nil]; exact hP) (by rw [List.append_nil]; exact hD) hS (rcv X hP he hcl) hn hl hst hw hdg (fun H1 locs1 h1 h2 h3 => kk H1 locs1 (by rw [List.append_nil] at h1; exact h1) (by rw [List.append_nil] at h2; exact h2) h3)
theorem zVi {r : Int32} {y : MethodName} {cy : ByteArray} {nLy : Nat} {rety : Option FieldType} {rmy : Room} {b : Nat} {As : List Value} {w w' : va_W} {C : String} {index n : Nat} (X : Cx p s m meth c args own cc nL ret g A) (hG9 : XG z A s s.heap) (hM : CZ l y (ws_ y cy nLy rety) rmy g z (.ref b :: As) w (some (.int r)) w' 0 0) (hG : GoodIn lw_all (wsV own index C y (ws_ y cy nLy rety))) (hd : Dy y C n) (hR : Ry rmy R nLy 0 0) (hP : va_P g.1 vwCl w H) (hD : va_D A w) (hS : va_S A s.heap H locs) (hl : ls.size = nL) (hc : Rc w b C) (hn : As.length = n) (hst : st0 = As.reverse ++ .ref b :: rest) (hf : cells ≤ R.cells ∧ slots ≤ R.slots) (hw : (rest.map fun v => v.category).sum ≤ 8) (hdg : decode cc pc = .ok (.invokevirtual index, 3))
    (kk : ∀ (H1 : Heap) (locs1 : List Loc), va_P g.1 vwCl w' H1 → va_D A w' → va_S A s.heap H1 locs1 → W p l e R s m args below meth c H1 locs1 cells slots Q (F0 m (pc + 3) ls (.int r :: rest))) : W p l e R s m args below meth c H locs cells slots Q (F0 m pc ls st0) := by
  obtain ⟨q0, ci, fs, T, N, he, hcl⟩ := hc
  exact zV0 (wf := []) X hG9 hM hG hd hR hf (by rw [List.append_nil]; exact hP) (by rw [List.append_nil]; exact hD) hS (rcv X hP he hcl) hn hl hst hw hdg (fun H1 locs1 h1 h2 h3 => kk H1 locs1 (by rw [List.append_nil] at h1; exact h1) (by rw [List.append_nil] at h2; exact h2) h3)
end TKW
noncomputable def T_isLetter (x0 : Int32) : Option Int32 :=
jn ((if x0 < 65 then (some 0) else (if 90 < x0 then (some 0) else (some 1)) : Option Int32)) fun k1 =>
if x0 < 97 then (k1) else (if x0 ≤ 122 then (some 1) else (k1))
noncomputable def T_isDigit (x0 : Int32) : Option Int32 :=
if x0 < 48 then (some 0) else (if 57 < x0 then (some 0) else (some 1))
noncomputable def T_isWord_L20 (φ : Nat) (k9 : Nat) (cT : Nat → Int32) (sTok : Int32) : Nat → Int32 → Option Int32
  | 0, _ => none
  | n3 + 1, v2 =>
    lt ((nI (xWl.getD (k9) 0)) : Int32) fun v8 =>
    if v8 ≤ v2 then (some 1) else ((rd cT 300 (sTok + v2)).bind fun v9 =>
    inb v2 (xWl.getD (k9) 0) (
    lt ((xCh (k9) (v2 : Int32).toNatClampNeg) : Int32) fun v11 =>
    if v9 = v11 then (lt ((v2 + 1) : Int32) fun v12 =>
    T_isWord_L20 φ k9 cT sTok n3 v12) else (some 0)))
noncomputable def T_isWord (φ : Nat) (cT : Nat → Int32) (sAt : Int32) (sTok : Int32) (k9 : Nat) : Option Int32 :=
lt ((nI (xWl.getD (k9) 0)) : Int32) fun v1 =>
if (sAt - sTok) = v1 then (T_isWord_L20 φ k9 cT sTok φ 0) else (some 0)
noncomputable def T_next_L306 (φ : Nat) (v14 : Int32) : Nat → Int32 → Int32 → Option Int32
  | 0, _, _ => none
  | n19 + 1, v16, c17 =>
    lt ((nI (xWl.getD (33) 0)) : Int32) fun v31 =>
    if v31 ≤ v16 then (some c17) else (inb v16 (xWl.getD (33) 0) (
    lt ((xCh (33) (v16 : Int32).toNatClampNeg) : Int32) fun v33 =>
    if v33 = v14 then (lt ((v16 + 1) : Int32) fun v35 =>
    T_next_L306 φ v14 n19 v35 v14) else (lt ((v16 + 1) : Int32) fun v34 =>
    T_next_L306 φ v14 n19 v34 c17)))
noncomputable def T_next_L209 (φ : Nat) (cT : Nat → Int32) (sSz : Int32) : Nat → Int32 → Int32 → Option (Int32 × Int32)
  | 0, _, _ => none
  | n40 + 1, c36, c37 =>
    if sSz ≤ c36 then (some (c36, c37)) else ((rd cT 300 c36).bind fun v45 =>
    bd1 (T_isDigit v45) fun r46 =>
    if r46 = 0 then (some (c36, c37)) else ((rd cT 300 c36).bind fun v48 =>
    lt ((if (((10 * c37) + v48) - 48) < 99999 then (((10 * c37) + v48) - 48) else 99999) : Int32) fun v49 =>
    lt ((c36 + 1) : Int32) fun v50 =>
    T_next_L209 φ cT sSz n40 v50 v49))
noncomputable def T_next_L144 (φ : Nat) (cT : Nat → Int32) (c52 : Int32) (c2 : Int32) : Nat → Int32 → Int32 → Option Int32
  | 0, _, _ => none
  | n61 + 1, v58, c59 =>
    if 33 ≤ v58 then (some c59) else (inb v58 33 (
    bd1 (T_isWord φ cT c52 c2 ((v58 : Int32).toNatClampNeg)) fun r67 =>
    if r67 = 0 then (lt ((v58 + 1) : Int32) fun v69 =>
    T_next_L144 φ cT c52 c2 n61 v69 c59) else (lt ((200 + v58) : Int32) fun v70 =>
    lt ((v58 + 1) : Int32) fun v71 =>
    T_next_L144 φ cT c52 c2 n61 v71 v70)))
noncomputable def T_next_L96 (φ : Nat) (cT : Nat → Int32) (sSz : Int32) : Nat → Int32 → Option Int32
  | 0, _ => none
  | n53 + 1, c51 =>
    if sSz ≤ c51 then (some c51) else ((rd cT 300 c51).bind fun v72 =>
    bd1 (T_isLetter v72) fun r73 =>
    if r73 = 0 then (some c51) else (lt ((c51 + 1) : Int32) fun v75 =>
    T_next_L96 φ cT sSz n53 v75))
noncomputable def T_next_L0 (φ : Nat) (cT : Nat → Int32) (sSz : Int32) : Nat → Int32 → Option Int32
  | 0, _ => none
  | n3 + 1, c1 =>
    if sSz ≤ c1 then (some c1) else ((rd cT 300 c1).bind fun v76 =>
    if v76 = 32 then (lt ((c1 + 1) : Int32) fun v77 =>
    T_next_L0 φ cT sSz n3 v77) else ((rd cT 300 c1).bind fun v78 =>
    if v78 = 10 then (lt ((c1 + 1) : Int32) fun v79 =>
    T_next_L0 φ cT sSz n3 v79) else (some c1)))
noncomputable def T_next (φ : Nat) (cT : Nat → Int32) (sSz : Int32) (sAt : Int32) (sTok : Int32) (sSort : Int32) (sNum : Int32) : Option (Int32 × Int32 × Int32 × Int32) :=
bd1 (T_next_L0 φ cT sSz φ sAt) fun c2 =>
if c2 = sSz then (some (c2, c2, 301, sNum)) else ((rd cT 300 c2).bind fun v8 =>
bd1 (T_isLetter v8) fun r9 =>
if r9 = 0 then ((rd cT 300 c2).bind fun v11 =>
bd1 (T_isDigit v11) fun r12 =>
if r12 = 0 then ((rd cT 300 c2).bind fun v14 =>
lt ((c2 + 1) : Int32) fun v15 =>
bd1 (T_next_L306 φ v14 φ 0 302) fun c18 =>
jn ((if sSz ≤ v15 then (some (v15, c2, c18, sNum)) else ((rd cT 300 v15).bind fun v26 =>
if v26 = 61 then (bd1 (if v14 = 60 then (some 303) else (some 304) : Option Int32) fun v27 =>
lt ((v15 + 1) : Int32) fun v30 =>
some (v30, c2, v27, sNum)) else (some (v15, c2, c18, sNum))) : Option (Int32 × Int32 × Int32 × Int32))) fun k24 =>
if v14 = 60 then (k24) else (if v14 = 62 then (k24) else (some (v15, c2, c18, sNum)))) else (bd2 (T_next_L209 φ cT sSz φ c2 0) fun c38 c39 =>
some (c38, c2, 300, c39))) else (bd1 (T_next_L96 φ cT sSz φ c2) fun c52 =>
bd1 (T_next_L144 φ cT c52 c2 φ 0 302) fun c60 =>
some (c52, c2, c60, sNum)))
noncomputable def T_nameNow_L2 (φ : Nat) (sSort : Int32) : Nat → Int32 → Option Int32
  | 0, _ => none
  | n2 + 1, v1 =>
    if 10 ≤ v1 then (some (-1)) else (inb v1 10 (
    lt ((xNm (v1 : Int32).toNatClampNeg) : Int32) fun v8 =>
    if v8 = sSort then (some v1) else (lt ((v1 + 1) : Int32) fun v9 =>
    T_nameNow_L2 φ sSort n2 v9)))
noncomputable def T_nameNow (φ : Nat) (sSort : Int32) : Option Int32 :=
T_nameNow_L2 φ sSort φ 0
noncomputable def T_mayName (sKind : Int32) (x1 : Int32) : Option Int32 :=
if 5 ≤ x1 then (if 7 ≤ x1 then (if 9 ≤ x1 then (if sKind = 201 then (some 1) else (if sKind = 203 then (some 1) else (some 0))) else (if sKind < 202 then (some 0) else (some 1))) else (if sKind = 203 then (some 0) else (some 1))) else (some 1)
set_option maxHeartbeats 4000000 in
theorem met_T_isLetter {l : Launch} {g : gG} {x0 : Int32} {r : Int32} (hf : T_isLetter x0 = some r) : CC l yX3_isLetter (ws_ yX3_isLetter cX3_isLetter 1 (some .boolean)) ({ frames := 0, cells := 0, slots := 0, locals := 0 } : Room) g [.int x0] ([] : va_W) (some (.int r)) ([] : va_W) 0 0 := by
  refine CC.of RX3 rfl plain_X3 (Nat.le_of_ble_eq_true rfl) (fun p e s m below meth c A ls X hP hD hS hl => ?_)
  have hx := X.1
  have hb := X.2.1
  have hown := X.2.2.2.2.2.1
  have hts := X.2.2.2.2.2.2.1
  have hl : lv_has ls 1 [(0, .int x0)] := hl
  unfold T_isLetter at hf
  refine lv_iload_n hx hb dX3_isLetter_0 rfl (lv_at hl 0 rfl) ?_
  refine lv_bipush (v := 97) hx hb dX3_isLetter_1 (by decide) ?_
  obtain ⟨k1, ek1, hf⟩ := jns hf
  have hj2 : k1 = some r → ∀ (H : Heap) (locs : List Loc) (ls : Array Slot), va_P g.1 vwCl ([] : va_W) H → va_D A ([] : va_W) → va_S A s.heap H locs → lv_has ls 1 [(0, .int x0)] → W p l e ({ frames := 0, cells := 0, slots := 0, locals := 0 } : Room) s m ([.int x0] : List Value).toArray below meth c H locs 0 0 (MQ below (QQ g (some (.int r)) ([] : va_W) A) ([.int x0] : List Value).toArray s 0 0 A) (F0 m 12 ls []) := by
    intro hf H locs ls hP hD hS hl
    rw [ek1] at hf
    refine lv_iload_n hx hb dX3_isLetter_12 rfl (lv_at hl 0 rfl) ?_
    refine lv_bipush (v := 65) hx hb dX3_isLetter_13 (by decide) ?_
    refine bc_lt (tgt := 28) hx hb hf dX3_isLetter_15 (by decide) (fun hf => ?_) (fun hf => ?_)
    · refine lv_iconst (v := 0) hx hb dX3_isLetter_28 (by decide) ?_
      cases hf
      exact rZ X rfl hP hD hS dX3_isLetter_29
    · refine lv_iload_n hx hb dX3_isLetter_18 rfl (lv_at hl 0 rfl) ?_
      refine lv_bipush (v := 90) hx hb dX3_isLetter_19 (by decide) ?_
      refine bc_gt (tgt := 28) hx hb hf dX3_isLetter_21 (by decide) (fun hf => ?_) (fun hf => ?_)
      · refine lv_iconst (v := 0) hx hb dX3_isLetter_28 (by decide) ?_
        cases hf
        exact rZ X rfl hP hD hS dX3_isLetter_29
      · refine lv_iconst (v := 1) hx hb dX3_isLetter_24 (by decide) ?_
        refine lv_goto (tgt := 29) hx hb dX3_isLetter_25 (by decide) ?_
        cases hf
        exact rZ X rfl hP hD hS dX3_isLetter_29
  clear ek1
  refine bc_lt (tgt := 12) hx hb hf dX3_isLetter_3 (by decide) (fun hf => ?_) (fun hf => ?_)
  · exact hj2 hf _ _ _ hP hD hS (lv_sub hl [0] rfl)
  · refine lv_iload_n hx hb dX3_isLetter_6 rfl (lv_at hl 0 rfl) ?_
    refine lv_bipush (v := 122) hx hb dX3_isLetter_7 (by decide) ?_
    refine bc_le (tgt := 24) hx hb hf dX3_isLetter_9 (by decide) (fun hf => ?_) (fun hf => ?_)
    · refine lv_iconst (v := 1) hx hb dX3_isLetter_24 (by decide) ?_
      refine lv_goto (tgt := 29) hx hb dX3_isLetter_25 (by decide) ?_
      cases hf
      exact rZ X rfl hP hD hS dX3_isLetter_29
    · exact hj2 hf _ _ _ hP hD hS (lv_sub hl [0] rfl)
set_option maxHeartbeats 4000000 in
theorem met_T_isDigit {l : Launch} {g : gG} {x0 : Int32} {r : Int32} (hf : T_isDigit x0 = some r) : CC l yX3_isDigit (ws_ yX3_isDigit cX3_isDigit 1 (some .boolean)) ({ frames := 0, cells := 0, slots := 0, locals := 0 } : Room) g [.int x0] ([] : va_W) (some (.int r)) ([] : va_W) 0 0 := by
  refine CC.of RX3 rfl plain_X3 (Nat.le_of_ble_eq_true rfl) (fun p e s m below meth c A ls X hP hD hS hl => ?_)
  have hx := X.1
  have hb := X.2.1
  have hown := X.2.2.2.2.2.1
  have hts := X.2.2.2.2.2.2.1
  have hl : lv_has ls 1 [(0, .int x0)] := hl
  unfold T_isDigit at hf
  refine lv_iload_n hx hb dX3_isDigit_0 rfl (lv_at hl 0 rfl) ?_
  refine lv_bipush (v := 48) hx hb dX3_isDigit_1 (by decide) ?_
  refine bc_lt (tgt := 16) hx hb hf dX3_isDigit_3 (by decide) (fun hf => ?_) (fun hf => ?_)
  · refine lv_iconst (v := 0) hx hb dX3_isDigit_16 (by decide) ?_
    cases hf
    exact rZ X rfl hP hD hS dX3_isDigit_17
  · refine lv_iload_n hx hb dX3_isDigit_6 rfl (lv_at hl 0 rfl) ?_
    refine lv_bipush (v := 57) hx hb dX3_isDigit_7 (by decide) ?_
    refine bc_gt (tgt := 16) hx hb hf dX3_isDigit_9 (by decide) (fun hf => ?_) (fun hf => ?_)
    · refine lv_iconst (v := 0) hx hb dX3_isDigit_16 (by decide) ?_
      cases hf
      exact rZ X rfl hP hD hS dX3_isDigit_17
    · refine lv_iconst (v := 1) hx hb dX3_isDigit_12 (by decide) ?_
      refine lv_goto (tgt := 17) hx hb dX3_isDigit_13 (by decide) ?_
      cases hf
      exact rZ X rfl hP hD hS dX3_isDigit_17
theorem gw_X3_J3_length : GoodIn lw_all (wsV RX3 55 RJ3 yJ3_length (ws_ yJ3_length cJ3_length 1 (some .int))) := lw_V q442 q443 q444 q154 q445
theorem dy_J3_length : Dy yJ3_length RJ3 0 := by decide +kernel
theorem gw_X3_J3_charAt : GoodIn lw_all (wsV RX3 61 RJ3 yJ3_charAt (ws_ yJ3_charAt cJ3_charAt 2 (some .char))) := lw_V q452 q453 q454 q154 q455
theorem dy_J3_charAt : Dy yJ3_charAt RJ3 1 := by decide +kernel
set_option maxHeartbeats 4000000 in
theorem met_T_isWord {l : Launch} {g : gG} {r0 ta : Nat} {z : Nat → Nat} {cT : Nat → Int32} {sSz : Int32} {sAt : Int32} {sTok : Int32} {sSort : Int32} {sNum : Int32} {sOpen : Int32} {sKind : Int32} {k9 : Nat} {r : Int32} {φ : Nat} (hk9 : k9 < 34) (hf : T_isWord φ cT sAt sTok k9 = some r) : CZ l yX3_isWord (ws_ yX3_isWord cX3_isWord 3 (some .boolean)) ({ frames := 4, cells := 0, slots := 0, locals := 112 } : Room) g z [.ref r0, .ref (z (100 + k9))] (tkW g r0 ta cT sSz sAt sTok sSort sNum sOpen sKind) (some (.int r)) (tkW g r0 ta cT sSz sAt sTok sSort sNum sOpen sKind) 0 0 := by
  refine CZ.ofI RX3 rfl plain_X3 (Nat.le_of_ble_eq_true rfl) (fun p e s m below meth c A ls hnm X hG hP hD hS hl => ?_)
  have hx := X.1
  have hb := X.2.1
  have hown := X.2.2.2.2.2.1
  have hts := X.2.2.2.2.2.2.1
  have hl : lv_has ls 3 [(0, .ref r0), (1, .ref (z (100 + k9)))] := hl
  unfold T_isWord at hf
  refine lv_aload_n hx hb dX3_isWord_0 rfl (lv_at hl 0 rfl) ?_
  refine gT_at X hP dX3_isWord_1 ?_
  refine lv_aload_n hx hb dX3_isWord_4 rfl (lv_at hl 0 rfl) ?_
  refine gT_token X hP dX3_isWord_5 ?_
  refine lv_isub hx hb dX3_isWord_8 ?_
  refine lv_aload_n hx hb dX3_isWord_9 rfl (lv_at hl 1 rfl) ?_
  refine zWi (rest := [.int (sAt - sTok)]) hk9 X hG (met_length (g := g) hk9) gw_X3_J3_length dy_J3_length ⟨⟨rfl, rfl⟩, Nat.le_of_ble_eq_true rfl, Nat.le_of_ble_eq_true rfl⟩ hP hD hS hl.1 rfl rfl ⟨Nat.zero_le _, Nat.zero_le _⟩ (Nat.le_of_ble_eq_true rfl) dX3_isWord_10 (fun H locs hP hD hS => ?_)
  obtain ⟨v1, ev1, hf⟩ := lts hf
  refine tpi ev1 ?_
  refine bc_eq (tgt := 18) hx hb hf dX3_isWord_13 (by decide) (fun hf => ?_) (fun hf => ?_)
  · refine lv_iconst (v := 0) hx hb dX3_isWord_18 (by decide) ?_
    refine lv_istore_n (lv' := [(2, .int 0), (0, .ref r0), (1, .ref (z (100 + k9)))]) hx hb dX3_isWord_19 rfl hl (by decide) rfl (fun ls hl => ?_)
    have hL5 : ∀ (n3 : Nat) (v2 : Int32), T_isWord_L20 φ k9 cT sTok n3 v2 = some r → ∀ (H : Heap) (locs : List Loc) (ls : Array Slot), va_P g.1 vwCl (tkW g r0 ta cT sSz sAt sTok sSort sNum sOpen sKind) H → va_D A (tkW g r0 ta cT sSz sAt sTok sSort sNum sOpen sKind) → va_S A s.heap H locs → lv_has ls 3 [(0, .ref r0), (1, .ref (z (100 + k9))), (2, .int v2)] → W p l e ({ frames := 4, cells := 0, slots := 0, locals := 112 } : Room) s m ([.ref r0, .ref (z (100 + k9))] : List Value).toArray below meth c H locs 0 0 (MQ below (QQ g (some (.int r)) (tkW g r0 ta cT sSz sAt sTok sSort sNum sOpen sKind) A) ([.ref r0, .ref (z (100 + k9))] : List Value).toArray s 0 0 A) (F0 m 20 ls []) := by
      intro n3
      induction n3 with
      | zero =>
        intro v2 hf
        exact nn hf
      | succ n3 ih6 =>
        intro v2 hf H locs ls hP hD hS hl
        rw [T_isWord_L20] at hf
        refine lv_iload_n hx hb dX3_isWord_20 rfl (lv_at hl 2 rfl) ?_
        refine lv_aload_n hx hb dX3_isWord_21 rfl (lv_at hl 1 rfl) ?_
        refine zWi (rest := [.int v2]) hk9 X hG (met_length (g := g) hk9) gw_X3_J3_length dy_J3_length ⟨⟨rfl, rfl⟩, Nat.le_of_ble_eq_true rfl, Nat.le_of_ble_eq_true rfl⟩ hP hD hS hl.1 rfl rfl ⟨Nat.zero_le _, Nat.zero_le _⟩ (Nat.le_of_ble_eq_true rfl) dX3_isWord_22 (fun H locs hP hD hS => ?_)
        obtain ⟨v8, ev8, hf⟩ := lts hf
        refine tpi ev8 ?_
        refine bc_ge (tgt := 55) hx hb hf dX3_isWord_25 (by decide) (fun hf => ?_) (fun hf => ?_)
        · refine lv_iconst (v := 1) hx hb dX3_isWord_55 (by decide) ?_
          cases hf
          exact rZ X rfl hP hD hS dX3_isWord_56
        · refine lv_aload_n hx hb dX3_isWord_28 rfl (lv_at hl 0 rfl) ?_
          refine gT_text X hP dX3_isWord_29 ?_
          refine lv_aload_n hx hb dX3_isWord_32 rfl (lv_at hl 0 rfl) ?_
          refine gT_token X hP dX3_isWord_33 ?_
          refine lv_iload_n hx hb dX3_isWord_36 rfl (lv_at hl 2 rfl) ?_
          refine lv_iadd hx hb dX3_isWord_37 ?_
          obtain ⟨v9, ev9, bv9, hf⟩ := rds hf
          refine lT_cT X hP ev9 bv9 dX3_isWord_38 ?_
          refine lv_aload_n hx hb dX3_isWord_39 rfl (lv_at hl 1 rfl) ?_
          refine lv_iload_n hx hb dX3_isWord_40 rfl (lv_at hl 2 rfl) ?_
          obtain ⟨b10, hf⟩ := inbs hf
          refine zWi (rest := [.int v9]) hk9 X hG (met_charAt (g := g) hk9 b10) gw_X3_J3_charAt dy_J3_charAt ⟨⟨rfl, rfl⟩, Nat.le_of_ble_eq_true rfl, Nat.le_of_ble_eq_true rfl⟩ hP hD hS hl.1 rfl rfl ⟨Nat.zero_le _, Nat.zero_le _⟩ (Nat.le_of_ble_eq_true rfl) dX3_isWord_41 (fun H locs hP hD hS => ?_)
          obtain ⟨v11, ev11, hf⟩ := lts hf
          refine tpi ev11 ?_
          refine bc_eq (tgt := 49) hx hb hf dX3_isWord_44 (by decide) (fun hf => ?_) (fun hf => ?_)
          · obtain ⟨v12, ev12, hf⟩ := lts hf
            refine lv_iinc (v := v12) (lv' := [(2, .int v12), (0, .ref r0), (1, .ref (z (100 + k9)))]) hx hb dX3_isWord_49 hl (k := 2) rfl (by rw [ev12]; rfl) (by decide) rfl (fun ls hl => ?_)
            refine lv_goto (tgt := 20) hx hb dX3_isWord_52 (by decide) ?_
            exact ih6 _ hf _ _ _ hP hD hS (lv_sub hl [1, 2, 0] rfl)
          · refine lv_iconst (v := 0) hx hb dX3_isWord_47 (by decide) ?_
            cases hf
            exact rZ X rfl hP hD hS dX3_isWord_48
    exact hL5 _ _ hf _ _ _ hP hD hS (lv_sub hl [1, 2, 0] rfl)
  · refine lv_iconst (v := 0) hx hb dX3_isWord_16 (by decide) ?_
    cases hf
    exact rZ X rfl hP hD hS dX3_isWord_17
theorem gs_X3_X3_isLetter : GoodIn lw_all (va_wsS RX3 28 yX3_isLetter (ws_ yX3_isLetter cX3_isLetter 1 (some .boolean))) := lw_S q433 q434 q149 q435
theorem dy_X3_isLetter : Dy yX3_isLetter RX3 1 := by decide +kernel
theorem gs_X3_X3_isDigit : GoodIn lw_all (va_wsS RX3 40 yX3_isDigit (ws_ yX3_isDigit cX3_isDigit 1 (some .boolean))) := lw_S q490 q491 q149 q492
theorem dy_X3_isDigit : Dy yX3_isDigit RX3 1 := by decide +kernel
theorem gw_X3_X3_isWord : GoodIn lw_all (wsV RX3 36 RX3 yX3_isWord (ws_ yX3_isWord cX3_isWord 3 (some .boolean))) := lw_V q438 q440 qs4 q149 q441
theorem dy_X3_isWord : Dy yX3_isWord RX3 1 := by decide +kernel
set_option maxHeartbeats 4000000 in
theorem met_T_next {l : Launch} {g : gG} {r0 ta : Nat} {z : Nat → Nat} {cT : Nat → Int32} {sSz : Int32} {sAt : Int32} {sTok : Int32} {sSort : Int32} {sNum : Int32} {sOpen : Int32} {sKind : Int32} {nsAt : Int32} {nsTok : Int32} {nsSort : Int32} {nsNum : Int32} {φ : Nat} (hf : T_next φ cT sSz sAt sTok sSort sNum = some (nsAt, nsTok, nsSort, nsNum)) : CZ l yX3_next (ws_ yX3_next cX3_next 3 none) ({ frames := 5, cells := 0, slots := 0, locals := 134 } : Room) g z [.ref r0] (tkW g r0 ta cT sSz sAt sTok sSort sNum sOpen sKind) none (tkW g r0 ta cT sSz nsAt nsTok nsSort nsNum sOpen sKind) 0 0 := by
  refine CZ.ofI RX3 rfl plain_X3 (Nat.le_of_ble_eq_true rfl) (fun p e s m below meth c A ls hnm X hG hP hD hS hl => ?_)
  have hx := X.1
  have hb := X.2.1
  have hown := X.2.2.2.2.2.1
  have hts := X.2.2.2.2.2.2.1
  have hl : lv_has ls 3 [(0, .ref r0)] := hl
  unfold T_next at hf
  obtain ⟨c2, k7, hf⟩ := bd1s hf
  have hE4 : ∀ (H : Heap) (locs : List Loc) (ls : Array Slot), va_P g.1 vwCl (tkW g r0 ta cT sSz c2 sTok sSort sNum sOpen sKind) H → va_D A (tkW g r0 ta cT sSz c2 sTok sSort sNum sOpen sKind) → va_S A s.heap H locs → lv_has ls 3 [(0, .ref r0)] → W p l e ({ frames := 5, cells := 0, slots := 0, locals := 134 } : Room) s m ([.ref r0] : List Value).toArray below meth c H locs 0 0 (MQ below (QQ g none (tkW g r0 ta cT sSz nsAt nsTok nsSort nsNum sOpen sKind) A) ([.ref r0] : List Value).toArray s 0 0 A) (F0 m 52 ls []) := by
    intro H locs ls hP hD hS hl
    refine lv_aload_n hx hb dX3_next_52 rfl (lv_at hl 0 rfl) ?_
    refine lv_aload_n hx hb dX3_next_53 rfl (lv_at hl 0 rfl) ?_
    refine gT_at X hP dX3_next_54 ?_
    refine pT_token X hP hD hS dX3_next_57 (fun H locs hP hD hS => ?_)
    refine lv_aload_n hx hb dX3_next_60 rfl (lv_at hl 0 rfl) ?_
    refine gT_at X hP dX3_next_61 ?_
    refine lv_aload_n hx hb dX3_next_64 rfl (lv_at hl 0 rfl) ?_
    refine gT_size X hP dX3_next_65 ?_
    refine bc_ne (tgt := 81) hx hb hf dX3_next_68 (by decide) (fun hf => ?_) (fun hf => ?_)
    · refine lv_aload_n hx hb dX3_next_81 rfl (lv_at hl 0 rfl) ?_
      refine gT_text X hP dX3_next_82 ?_
      refine lv_aload_n hx hb dX3_next_85 rfl (lv_at hl 0 rfl) ?_
      refine gT_at X hP dX3_next_86 ?_
      obtain ⟨v8, ev8, bv8, hf⟩ := rds hf
      refine lT_cT X hP ev8 bv8 dX3_next_89 ?_
      obtain ⟨r9, k10, hf⟩ := bd1s hf
      refine cSi (rest := []) X (met_T_isLetter (g := g) k10) gs_X3_X3_isLetter dy_X3_isLetter ⟨⟨rfl, rfl⟩, Nat.le_of_ble_eq_true rfl, Nat.le_of_ble_eq_true rfl⟩ hP hD hS hl.1 rfl rfl ⟨Nat.zero_le _, Nat.zero_le _⟩ (Nat.le_of_ble_eq_true rfl) dX3_next_90 (fun H locs hP hD hS => ?_)
      refine bq_eq (tgt := 182) hx hb hf dX3_next_93 (by decide) (fun hf => ?_) (fun hf => ?_)
      · refine lv_aload_n hx hb dX3_next_182 rfl (lv_at hl 0 rfl) ?_
        refine gT_text X hP dX3_next_183 ?_
        refine lv_aload_n hx hb dX3_next_186 rfl (lv_at hl 0 rfl) ?_
        refine gT_at X hP dX3_next_187 ?_
        obtain ⟨v11, ev11, bv11, hf⟩ := rds hf
        refine lT_cT X hP ev11 bv11 dX3_next_190 ?_
        obtain ⟨r12, k13, hf⟩ := bd1s hf
        refine cSi (rest := []) X (met_T_isDigit (g := g) k13) gs_X3_X3_isDigit dy_X3_isDigit ⟨⟨rfl, rfl⟩, Nat.le_of_ble_eq_true rfl, Nat.le_of_ble_eq_true rfl⟩ hP hD hS hl.1 rfl rfl ⟨Nat.zero_le _, Nat.zero_le _⟩ (Nat.le_of_ble_eq_true rfl) dX3_next_191 (fun H locs hP hD hS => ?_)
        refine bq_eq (tgt := 277) hx hb hf dX3_next_194 (by decide) (fun hf => ?_) (fun hf => ?_)
        · refine lv_aload_n hx hb dX3_next_277 rfl (lv_at hl 0 rfl) ?_
          refine gT_text X hP dX3_next_278 ?_
          refine lv_aload_n hx hb dX3_next_281 rfl (lv_at hl 0 rfl) ?_
          refine gT_at X hP dX3_next_282 ?_
          obtain ⟨v14, ev14, bv14, hf⟩ := rds hf
          refine lT_cT X hP ev14 bv14 dX3_next_285 ?_
          refine lv_istore_n (lv' := [(1, .int v14), (0, .ref r0)]) hx hb dX3_next_286 rfl hl (by decide) rfl (fun ls hl => ?_)
          refine lv_aload_n hx hb dX3_next_287 rfl (lv_at hl 1 rfl) ?_
          refine lv_dup hx hb dX3_next_288 rfl ?_
          refine gT_at X hP dX3_next_289 ?_
          refine lv_iconst (v := 1) hx hb dX3_next_292 (by decide) ?_
          refine lv_iadd hx hb dX3_next_293 ?_
          obtain ⟨v15, ev15, hf⟩ := lts hf
          refine tpi ev15 ?_
          refine pT_at X hP hD hS dX3_next_294 (fun H locs hP hD hS => ?_)
          refine lv_aload_n hx hb dX3_next_297 rfl (lv_at hl 1 rfl) ?_
          refine lv_sipush (v := 302) hx hb dX3_next_298 (by decide) ?_
          refine pT_sort X hP hD hS dX3_next_301 (fun H locs hP hD hS => ?_)
          refine lv_iconst (v := 0) hx hb dX3_next_304 (by decide) ?_
          refine lv_istore_n (lv' := [(2, .int 0), (1, .int v14), (0, .ref r0)]) hx hb dX3_next_305 rfl hl (by decide) rfl (fun ls hl => ?_)
          obtain ⟨c18, k23, hf⟩ := bd1s hf
          have hE20 : ∀ (H : Heap) (locs : List Loc) (ls : Array Slot), va_P g.1 vwCl (tkW g r0 ta cT sSz v15 c2 c18 sNum sOpen sKind) H → va_D A (tkW g r0 ta cT sSz v15 c2 c18 sNum sOpen sKind) → va_S A s.heap H locs → lv_has ls 3 [(0, .ref r0), (1, .int v14)] → W p l e ({ frames := 5, cells := 0, slots := 0, locals := 134 } : Room) s m ([.ref r0] : List Value).toArray below meth c H locs 0 0 (MQ below (QQ g none (tkW g r0 ta cT sSz nsAt nsTok nsSort nsNum sOpen sKind) A) ([.ref r0] : List Value).toArray s 0 0 A) (F0 m 336 ls []) := by
            intro H locs ls hP hD hS hl
            refine lv_iload_n hx hb dX3_next_336 rfl (lv_at hl 1 rfl) ?_
            refine lv_bipush (v := 60) hx hb dX3_next_337 (by decide) ?_
            obtain ⟨k24, ek24, hf⟩ := jns hf
            have hj25 : k24 = some (nsAt, nsTok, nsSort, nsNum) → ∀ (H : Heap) (locs : List Loc) (ls : Array Slot), va_P g.1 vwCl (tkW g r0 ta cT sSz v15 c2 c18 sNum sOpen sKind) H → va_D A (tkW g r0 ta cT sSz v15 c2 c18 sNum sOpen sKind) → va_S A s.heap H locs → lv_has ls 3 [(0, .ref r0), (1, .int v14)] → W p l e ({ frames := 5, cells := 0, slots := 0, locals := 134 } : Room) s m ([.ref r0] : List Value).toArray below meth c H locs 0 0 (MQ below (QQ g none (tkW g r0 ta cT sSz nsAt nsTok nsSort nsNum sOpen sKind) A) ([.ref r0] : List Value).toArray s 0 0 A) (F0 m 348 ls []) := by
              intro hf H locs ls hP hD hS hl
              rw [ek24] at hf
              refine lv_aload_n hx hb dX3_next_348 rfl (lv_at hl 0 rfl) ?_
              refine gT_at X hP dX3_next_349 ?_
              refine lv_aload_n hx hb dX3_next_352 rfl (lv_at hl 0 rfl) ?_
              refine gT_size X hP dX3_next_353 ?_
              refine bc_ge (tgt := 402) hx hb hf dX3_next_356 (by decide) (fun hf => ?_) (fun hf => ?_)
              · cases hf
                exact rV X hP hD hS dX3_next_402
              · refine lv_aload_n hx hb dX3_next_359 rfl (lv_at hl 0 rfl) ?_
                refine gT_text X hP dX3_next_360 ?_
                refine lv_aload_n hx hb dX3_next_363 rfl (lv_at hl 0 rfl) ?_
                refine gT_at X hP dX3_next_364 ?_
                obtain ⟨v26, ev26, bv26, hf⟩ := rds hf
                refine lT_cT X hP ev26 bv26 dX3_next_367 ?_
                refine lv_bipush (v := 61) hx hb dX3_next_368 (by decide) ?_
                refine bc_ne (tgt := 402) hx hb hf dX3_next_370 (by decide) (fun hf => ?_) (fun hf => ?_)
                · cases hf
                  exact rV X hP hD hS dX3_next_402
                · refine lv_aload_n hx hb dX3_next_373 rfl (lv_at hl 0 rfl) ?_
                  refine lv_iload_n hx hb dX3_next_374 rfl (lv_at hl 1 rfl) ?_
                  refine lv_bipush (v := 60) hx hb dX3_next_375 (by decide) ?_
                  obtain ⟨v27, k28, hf⟩ := bd1s hf
                  have hj29 : ∀ (H : Heap) (locs : List Loc) (ls : Array Slot), va_P g.1 vwCl (tkW g r0 ta cT sSz v15 c2 c18 sNum sOpen sKind) H → va_D A (tkW g r0 ta cT sSz v15 c2 c18 sNum sOpen sKind) → va_S A s.heap H locs → lv_has ls 3 [(0, .ref r0)] → W p l e ({ frames := 5, cells := 0, slots := 0, locals := 134 } : Room) s m ([.ref r0] : List Value).toArray below meth c H locs 0 0 (MQ below (QQ g none (tkW g r0 ta cT sSz nsAt nsTok nsSort nsNum sOpen sKind) A) ([.ref r0] : List Value).toArray s 0 0 A) (F0 m 389 ls [.int v27, .ref r0]) := by
                    intro H locs ls hP hD hS hl
                    refine pT_sort X hP hD hS dX3_next_389 (fun H locs hP hD hS => ?_)
                    refine lv_aload_n hx hb dX3_next_392 rfl (lv_at hl 0 rfl) ?_
                    refine lv_dup hx hb dX3_next_393 rfl ?_
                    refine gT_at X hP dX3_next_394 ?_
                    refine lv_iconst (v := 1) hx hb dX3_next_397 (by decide) ?_
                    refine lv_iadd hx hb dX3_next_398 ?_
                    obtain ⟨v30, ev30, hf⟩ := lts hf
                    refine tpi ev30 ?_
                    refine pT_at X hP hD hS dX3_next_399 (fun H locs hP hD hS => ?_)
                    cases hf
                    exact rV X hP hD hS dX3_next_402
                  replace hf := k28
                  clear k28
                  refine bc_ne (tgt := 386) hx hb hf dX3_next_377 (by decide) (fun hf => ?_) (fun hf => ?_)
                  · refine lv_sipush (v := 304) hx hb dX3_next_386 (by decide) ?_
                    cases hf
                    exact hj29 _ _ _ hP hD hS (lv_sub hl [0] rfl)
                  · refine lv_sipush (v := 303) hx hb dX3_next_380 (by decide) ?_
                    refine lv_goto (tgt := 389) hx hb dX3_next_383 (by decide) ?_
                    cases hf
                    exact hj29 _ _ _ hP hD hS (lv_sub hl [0] rfl)
            clear ek24
            refine bc_eq (tgt := 348) hx hb hf dX3_next_339 (by decide) (fun hf => ?_) (fun hf => ?_)
            · exact hj25 hf _ _ _ hP hD hS (lv_sub hl [0, 1] rfl)
            · refine lv_iload_n hx hb dX3_next_342 rfl (lv_at hl 1 rfl) ?_
              refine lv_bipush (v := 62) hx hb dX3_next_343 (by decide) ?_
              refine bc_ne (tgt := 402) hx hb hf dX3_next_345 (by decide) (fun hf => ?_) (fun hf => ?_)
              · cases hf
                exact rV X hP hD hS dX3_next_402
              · exact hj25 hf _ _ _ hP hD hS (lv_sub hl [0, 1] rfl)
          have hL21 : ∀ (n19 : Nat) (v16 : Int32) (c17 : Int32), T_next_L306 φ v14 n19 v16 c17 = some c18 → ∀ (H : Heap) (locs : List Loc) (ls : Array Slot), va_P g.1 vwCl (tkW g r0 ta cT sSz v15 c2 c17 sNum sOpen sKind) H → va_D A (tkW g r0 ta cT sSz v15 c2 c17 sNum sOpen sKind) → va_S A s.heap H locs → lv_has ls 3 [(0, .ref r0), (1, .int v14), (2, .int v16)] → W p l e ({ frames := 5, cells := 0, slots := 0, locals := 134 } : Room) s m ([.ref r0] : List Value).toArray below meth c H locs 0 0 (MQ below (QQ g none (tkW g r0 ta cT sSz nsAt nsTok nsSort nsNum sOpen sKind) A) ([.ref r0] : List Value).toArray s 0 0 A) (F0 m 306 ls []) := by
            intro n19
            induction n19 with
            | zero =>
              intro v16 c17 hf
              exact nn hf
            | succ n19 ih22 =>
              intro v16 c17 hf H locs ls hP hD hS hl
              rw [T_next_L306] at hf
              refine lv_iload_n hx hb dX3_next_306 rfl (lv_at hl 2 rfl) ?_
              refine va_ldcS hx hb hown hG.2.2.2.2.2.1 dX3_next_307 ?_
              have hk33 : 33 < 34 := by decide
              refine zWi (rest := [.int v16]) hk33 X hG (met_length (g := g) hk33) gw_X3_J3_length dy_J3_length ⟨⟨rfl, rfl⟩, Nat.le_of_ble_eq_true rfl, Nat.le_of_ble_eq_true rfl⟩ hP hD hS hl.1 rfl rfl ⟨Nat.zero_le _, Nat.zero_le _⟩ (Nat.le_of_ble_eq_true rfl) dX3_next_309 (fun H locs hP hD hS => ?_)
              obtain ⟨v31, ev31, hf⟩ := lts hf
              refine tpi ev31 ?_
              refine bc_ge (tgt := 336) hx hb hf dX3_next_312 (by decide) (fun hf => ?_) (fun hf => ?_)
              · cases hf
                exact hE20 _ _ _ hP hD hS (lv_sub hl [0, 1] rfl)
              · refine va_ldcS hx hb hown hG.2.2.2.2.2.1 dX3_next_315 ?_
                have hk33 : 33 < 34 := by decide
                refine lv_iload_n hx hb dX3_next_317 rfl (lv_at hl 2 rfl) ?_
                obtain ⟨b32, hf⟩ := inbs hf
                refine zWi (rest := []) hk33 X hG (met_charAt (g := g) hk33 b32) gw_X3_J3_charAt dy_J3_charAt ⟨⟨rfl, rfl⟩, Nat.le_of_ble_eq_true rfl, Nat.le_of_ble_eq_true rfl⟩ hP hD hS hl.1 rfl rfl ⟨Nat.zero_le _, Nat.zero_le _⟩ (Nat.le_of_ble_eq_true rfl) dX3_next_318 (fun H locs hP hD hS => ?_)
                obtain ⟨v33, ev33, hf⟩ := lts hf
                refine tpi ev33 ?_
                refine lv_iload_n hx hb dX3_next_321 rfl (lv_at hl 1 rfl) ?_
                refine bc_ne (tgt := 330) hx hb hf dX3_next_322 (by decide) (fun hf => ?_) (fun hf => ?_)
                · obtain ⟨v34, ev34, hf⟩ := lts hf
                  refine lv_iinc (v := v34) (lv' := [(2, .int v34), (0, .ref r0), (1, .int v14)]) hx hb dX3_next_330 hl (k := 2) rfl (by rw [ev34]; rfl) (by decide) rfl (fun ls hl => ?_)
                  refine lv_goto (tgt := 306) hx hb dX3_next_333 (by decide) ?_
                  exact ih22 _ _ hf _ _ _ hP hD hS (lv_sub hl [1, 2, 0] rfl)
                · refine lv_aload_n hx hb dX3_next_325 rfl (lv_at hl 0 rfl) ?_
                  refine lv_iload_n hx hb dX3_next_326 rfl (lv_at hl 1 rfl) ?_
                  refine pT_sort X hP hD hS dX3_next_327 (fun H locs hP hD hS => ?_)
                  obtain ⟨v35, ev35, hf⟩ := lts hf
                  refine lv_iinc (v := v35) (lv' := [(2, .int v35), (0, .ref r0), (1, .int v14)]) hx hb dX3_next_330 hl (k := 2) rfl (by rw [ev35]; rfl) (by decide) rfl (fun ls hl => ?_)
                  refine lv_goto (tgt := 306) hx hb dX3_next_333 (by decide) ?_
                  exact ih22 _ _ hf _ _ _ hP hD hS (lv_sub hl [1, 2, 0] rfl)
          exact hL21 _ _ _ k23 _ _ _ hP hD hS (lv_sub hl [2, 1, 0] rfl)
        · refine lv_aload_n hx hb dX3_next_197 rfl (lv_at hl 0 rfl) ?_
          refine lv_sipush (v := 300) hx hb dX3_next_198 (by decide) ?_
          refine pT_sort X hP hD hS dX3_next_201 (fun H locs hP hD hS => ?_)
          refine lv_aload_n hx hb dX3_next_204 rfl (lv_at hl 0 rfl) ?_
          refine lv_iconst (v := 0) hx hb dX3_next_205 (by decide) ?_
          refine pT_number X hP hD hS dX3_next_206 (fun H locs hP hD hS => ?_)
          obtain ⟨c38, c39, k44, hf⟩ := bd2s hf
          have hE41 : ∀ (H : Heap) (locs : List Loc) (ls : Array Slot), va_P g.1 vwCl (tkW g r0 ta cT sSz c38 c2 300 c39 sOpen sKind) H → va_D A (tkW g r0 ta cT sSz c38 c2 300 c39 sOpen sKind) → va_S A s.heap H locs → lv_has ls 3 [] → W p l e ({ frames := 5, cells := 0, slots := 0, locals := 134 } : Room) s m ([.ref r0] : List Value).toArray below meth c H locs 0 0 (MQ below (QQ g none (tkW g r0 ta cT sSz nsAt nsTok nsSort nsNum sOpen sKind) A) ([.ref r0] : List Value).toArray s 0 0 A) (F0 m 402 ls []) := by
            intro H locs ls hP hD hS hl
            cases hf
            exact rV X hP hD hS dX3_next_402
          have hL42 : ∀ (n40 : Nat) (c36 : Int32) (c37 : Int32), T_next_L209 φ cT sSz n40 c36 c37 = some (c38, c39) → ∀ (H : Heap) (locs : List Loc) (ls : Array Slot), va_P g.1 vwCl (tkW g r0 ta cT sSz c36 c2 300 c37 sOpen sKind) H → va_D A (tkW g r0 ta cT sSz c36 c2 300 c37 sOpen sKind) → va_S A s.heap H locs → lv_has ls 3 [(0, .ref r0)] → W p l e ({ frames := 5, cells := 0, slots := 0, locals := 134 } : Room) s m ([.ref r0] : List Value).toArray below meth c H locs 0 0 (MQ below (QQ g none (tkW g r0 ta cT sSz nsAt nsTok nsSort nsNum sOpen sKind) A) ([.ref r0] : List Value).toArray s 0 0 A) (F0 m 209 ls []) := by
            intro n40
            induction n40 with
            | zero =>
              intro c36 c37 hf
              exact nn hf
            | succ n40 ih43 =>
              intro c36 c37 hf H locs ls hP hD hS hl
              rw [T_next_L209] at hf
              refine lv_aload_n hx hb dX3_next_209 rfl (lv_at hl 0 rfl) ?_
              refine gT_at X hP dX3_next_210 ?_
              refine lv_aload_n hx hb dX3_next_213 rfl (lv_at hl 0 rfl) ?_
              refine gT_size X hP dX3_next_214 ?_
              refine bc_ge (tgt := 402) hx hb hf dX3_next_217 (by decide) (fun hf => ?_) (fun hf => ?_)
              · cases hf
                exact hE41 _ _ _ hP hD hS (lv_sub hl [] rfl)
              · refine lv_aload_n hx hb dX3_next_220 rfl (lv_at hl 0 rfl) ?_
                refine gT_text X hP dX3_next_221 ?_
                refine lv_aload_n hx hb dX3_next_224 rfl (lv_at hl 0 rfl) ?_
                refine gT_at X hP dX3_next_225 ?_
                obtain ⟨v45, ev45, bv45, hf⟩ := rds hf
                refine lT_cT X hP ev45 bv45 dX3_next_228 ?_
                obtain ⟨r46, k47, hf⟩ := bd1s hf
                refine cSi (rest := []) X (met_T_isDigit (g := g) k47) gs_X3_X3_isDigit dy_X3_isDigit ⟨⟨rfl, rfl⟩, Nat.le_of_ble_eq_true rfl, Nat.le_of_ble_eq_true rfl⟩ hP hD hS hl.1 rfl rfl ⟨Nat.zero_le _, Nat.zero_le _⟩ (Nat.le_of_ble_eq_true rfl) dX3_next_229 (fun H locs hP hD hS => ?_)
                refine bq_eq (tgt := 402) hx hb hf dX3_next_232 (by decide) (fun hf => ?_) (fun hf => ?_)
                · cases hf
                  exact hE41 _ _ _ hP hD hS (lv_sub hl [] rfl)
                · refine lv_aload_n hx hb dX3_next_235 rfl (lv_at hl 0 rfl) ?_
                  refine lv_ldc (v := 99999) hx hb hown (hts _ q493) dX3_next_236 ?_
                  refine lv_bipush (v := 10) hx hb dX3_next_238 (by decide) ?_
                  refine lv_aload_n hx hb dX3_next_240 rfl (lv_at hl 0 rfl) ?_
                  refine gT_number X hP dX3_next_241 ?_
                  refine lv_imul hx hb dX3_next_244 ?_
                  refine lv_aload_n hx hb dX3_next_245 rfl (lv_at hl 0 rfl) ?_
                  refine gT_text X hP dX3_next_246 ?_
                  refine lv_aload_n hx hb dX3_next_249 rfl (lv_at hl 0 rfl) ?_
                  refine gT_at X hP dX3_next_250 ?_
                  obtain ⟨v48, ev48, bv48, hf⟩ := rds hf
                  refine lT_cT X hP ev48 bv48 dX3_next_253 ?_
                  refine lv_iadd hx hb dX3_next_254 ?_
                  refine lv_bipush (v := 48) hx hb dX3_next_255 (by decide) ?_
                  refine lv_isub hx hb dX3_next_257 ?_
                  refine rMin X q494 hl.1 ⟨Nat.le_of_ble_eq_true rfl, Nat.le_of_ble_eq_true rfl⟩ ⟨Nat.zero_le _, Nat.zero_le _⟩ dX3_next_258 ?_
                  obtain ⟨v49, ev49, hf⟩ := lts hf
                  refine tpi ev49 ?_
                  refine pT_number X hP hD hS dX3_next_261 (fun H locs hP hD hS => ?_)
                  refine lv_aload_n hx hb dX3_next_264 rfl (lv_at hl 0 rfl) ?_
                  refine lv_dup hx hb dX3_next_265 rfl ?_
                  refine gT_at X hP dX3_next_266 ?_
                  refine lv_iconst (v := 1) hx hb dX3_next_269 (by decide) ?_
                  refine lv_iadd hx hb dX3_next_270 ?_
                  obtain ⟨v50, ev50, hf⟩ := lts hf
                  refine tpi ev50 ?_
                  refine pT_at X hP hD hS dX3_next_271 (fun H locs hP hD hS => ?_)
                  refine lv_goto (tgt := 209) hx hb dX3_next_274 (by decide) ?_
                  exact ih43 _ _ hf _ _ _ hP hD hS (lv_sub hl [0] rfl)
          exact hL42 _ _ _ k44 _ _ _ hP hD hS (lv_sub hl [0] rfl)
      · obtain ⟨c52, k57, hf⟩ := bd1s hf
        have hE54 : ∀ (H : Heap) (locs : List Loc) (ls : Array Slot), va_P g.1 vwCl (tkW g r0 ta cT sSz c52 c2 sSort sNum sOpen sKind) H → va_D A (tkW g r0 ta cT sSz c52 c2 sSort sNum sOpen sKind) → va_S A s.heap H locs → lv_has ls 3 [(0, .ref r0)] → W p l e ({ frames := 5, cells := 0, slots := 0, locals := 134 } : Room) s m ([.ref r0] : List Value).toArray below meth c H locs 0 0 (MQ below (QQ g none (tkW g r0 ta cT sSz nsAt nsTok nsSort nsNum sOpen sKind) A) ([.ref r0] : List Value).toArray s 0 0 A) (F0 m 135 ls []) := by
          intro H locs ls hP hD hS hl
          refine lv_aload_n hx hb dX3_next_135 rfl (lv_at hl 0 rfl) ?_
          refine lv_sipush (v := 302) hx hb dX3_next_136 (by decide) ?_
          refine pT_sort X hP hD hS dX3_next_139 (fun H locs hP hD hS => ?_)
          refine lv_iconst (v := 0) hx hb dX3_next_142 (by decide) ?_
          refine lv_istore_n (lv' := [(1, .int 0), (0, .ref r0)]) hx hb dX3_next_143 rfl hl (by decide) rfl (fun ls hl => ?_)
          obtain ⟨c60, k65, hf⟩ := bd1s hf
          have hE62 : ∀ (H : Heap) (locs : List Loc) (ls : Array Slot), va_P g.1 vwCl (tkW g r0 ta cT sSz c52 c2 c60 sNum sOpen sKind) H → va_D A (tkW g r0 ta cT sSz c52 c2 c60 sNum sOpen sKind) → va_S A s.heap H locs → lv_has ls 3 [] → W p l e ({ frames := 5, cells := 0, slots := 0, locals := 134 } : Room) s m ([.ref r0] : List Value).toArray below meth c H locs 0 0 (MQ below (QQ g none (tkW g r0 ta cT sSz nsAt nsTok nsSort nsNum sOpen sKind) A) ([.ref r0] : List Value).toArray s 0 0 A) (F0 m 179 ls []) := by
            intro H locs ls hP hD hS hl
            refine lv_goto (tgt := 402) hx hb dX3_next_179 (by decide) ?_
            cases hf
            exact rV X hP hD hS dX3_next_402
          have hL63 : ∀ (n61 : Nat) (v58 : Int32) (c59 : Int32), T_next_L144 φ cT c52 c2 n61 v58 c59 = some c60 → ∀ (H : Heap) (locs : List Loc) (ls : Array Slot), va_P g.1 vwCl (tkW g r0 ta cT sSz c52 c2 c59 sNum sOpen sKind) H → va_D A (tkW g r0 ta cT sSz c52 c2 c59 sNum sOpen sKind) → va_S A s.heap H locs → lv_has ls 3 [(0, .ref r0), (1, .int v58)] → W p l e ({ frames := 5, cells := 0, slots := 0, locals := 134 } : Room) s m ([.ref r0] : List Value).toArray below meth c H locs 0 0 (MQ below (QQ g none (tkW g r0 ta cT sSz nsAt nsTok nsSort nsNum sOpen sKind) A) ([.ref r0] : List Value).toArray s 0 0 A) (F0 m 144 ls []) := by
            intro n61
            induction n61 with
            | zero =>
              intro v58 c59 hf
              exact nn hf
            | succ n61 ih64 =>
              intro v58 c59 hf H locs ls hP hD hS hl
              rw [T_next_L144] at hf
              refine lv_iload_n hx hb dX3_next_144 rfl (lv_at hl 1 rfl) ?_
              refine va_gets (v := .ref (z 2)) hx hb hG.2.2.1.1 hS hown (hts _ q436) (fun _ h9 => h9) dX3_next_145 ?_
              refine va_tlen hx hb hG.2.2.1.2.1 hS (v := 33) rfl dX3_next_148 ?_
              refine bc_ge (tgt := 179) hx hb hf dX3_next_149 (by decide) (fun hf => ?_) (fun hf => ?_)
              · cases hf
                exact hE62 _ _ _ hP hD hS (lv_sub hl [] rfl)
              · refine lv_aload_n hx hb dX3_next_152 rfl (lv_at hl 0 rfl) ?_
                refine va_gets (v := .ref (z 2)) hx hb hG.2.2.1.1 hS hown (hts _ q436) (fun _ h9 => h9) dX3_next_153 ?_
                refine lv_iload_n hx hb dX3_next_156 rfl (lv_at hl 1 rfl) ?_
                obtain ⟨b66, hf⟩ := inbs hf
                refine vb_tq hx hb hG.2.2.1.2.1 hS b66 (v := .ref (z (100 + (v58 : Int32).toNatClampNeg))) rfl dX3_next_157 ?_
                have hkb66 : (v58 : Int32).toNatClampNeg < 34 := Nat.lt_trans (vp_lt b66) (by decide)
                have hk9 := hkb66
                obtain ⟨r67, k68, hf⟩ := bd1s hf
                refine zVi (rest := []) X hG (met_T_isWord hk9 k68) gw_X3_X3_isWord dy_X3_isWord ⟨⟨rfl, rfl⟩, Nat.le_of_ble_eq_true rfl, Nat.le_of_ble_eq_true rfl⟩ hP hD hS hl.1 ⟨0, 3, _, _, _, rfl, rfl⟩ rfl rfl ⟨Nat.zero_le _, Nat.zero_le _⟩ (Nat.le_of_ble_eq_true rfl) dX3_next_158 (fun H locs hP hD hS => ?_)
                refine bq_eq (tgt := 173) hx hb hf dX3_next_161 (by decide) (fun hf => ?_) (fun hf => ?_)
                · obtain ⟨v69, ev69, hf⟩ := lts hf
                  refine lv_iinc (v := v69) (lv' := [(1, .int v69), (0, .ref r0)]) hx hb dX3_next_173 hl (k := 1) rfl (by rw [ev69]; rfl) (by decide) rfl (fun ls hl => ?_)
                  refine lv_goto (tgt := 144) hx hb dX3_next_176 (by decide) ?_
                  exact ih64 _ _ hf _ _ _ hP hD hS (lv_sub hl [1, 0] rfl)
                · refine lv_aload_n hx hb dX3_next_164 rfl (lv_at hl 0 rfl) ?_
                  refine lv_sipush (v := 200) hx hb dX3_next_165 (by decide) ?_
                  refine lv_iload_n hx hb dX3_next_168 rfl (lv_at hl 1 rfl) ?_
                  refine lv_iadd hx hb dX3_next_169 ?_
                  obtain ⟨v70, ev70, hf⟩ := lts hf
                  refine tpi ev70 ?_
                  refine pT_sort X hP hD hS dX3_next_170 (fun H locs hP hD hS => ?_)
                  obtain ⟨v71, ev71, hf⟩ := lts hf
                  refine lv_iinc (v := v71) (lv' := [(1, .int v71), (0, .ref r0)]) hx hb dX3_next_173 hl (k := 1) rfl (by rw [ev71]; rfl) (by decide) rfl (fun ls hl => ?_)
                  refine lv_goto (tgt := 144) hx hb dX3_next_176 (by decide) ?_
                  exact ih64 _ _ hf _ _ _ hP hD hS (lv_sub hl [1, 0] rfl)
          exact hL63 _ _ _ k65 _ _ _ hP hD hS (lv_sub hl [1, 0] rfl)
        have hL55 : ∀ (n53 : Nat) (c51 : Int32), T_next_L96 φ cT sSz n53 c51 = some c52 → ∀ (H : Heap) (locs : List Loc) (ls : Array Slot), va_P g.1 vwCl (tkW g r0 ta cT sSz c51 c2 sSort sNum sOpen sKind) H → va_D A (tkW g r0 ta cT sSz c51 c2 sSort sNum sOpen sKind) → va_S A s.heap H locs → lv_has ls 3 [(0, .ref r0)] → W p l e ({ frames := 5, cells := 0, slots := 0, locals := 134 } : Room) s m ([.ref r0] : List Value).toArray below meth c H locs 0 0 (MQ below (QQ g none (tkW g r0 ta cT sSz nsAt nsTok nsSort nsNum sOpen sKind) A) ([.ref r0] : List Value).toArray s 0 0 A) (F0 m 96 ls []) := by
          intro n53
          induction n53 with
          | zero =>
            intro c51 hf
            exact nn hf
          | succ n53 ih56 =>
            intro c51 hf H locs ls hP hD hS hl
            rw [T_next_L96] at hf
            refine lv_aload_n hx hb dX3_next_96 rfl (lv_at hl 0 rfl) ?_
            refine gT_at X hP dX3_next_97 ?_
            refine lv_aload_n hx hb dX3_next_100 rfl (lv_at hl 0 rfl) ?_
            refine gT_size X hP dX3_next_101 ?_
            refine bc_ge (tgt := 135) hx hb hf dX3_next_104 (by decide) (fun hf => ?_) (fun hf => ?_)
            · cases hf
              exact hE54 _ _ _ hP hD hS (lv_sub hl [0] rfl)
            · refine lv_aload_n hx hb dX3_next_107 rfl (lv_at hl 0 rfl) ?_
              refine gT_text X hP dX3_next_108 ?_
              refine lv_aload_n hx hb dX3_next_111 rfl (lv_at hl 0 rfl) ?_
              refine gT_at X hP dX3_next_112 ?_
              obtain ⟨v72, ev72, bv72, hf⟩ := rds hf
              refine lT_cT X hP ev72 bv72 dX3_next_115 ?_
              obtain ⟨r73, k74, hf⟩ := bd1s hf
              refine cSi (rest := []) X (met_T_isLetter (g := g) k74) gs_X3_X3_isLetter dy_X3_isLetter ⟨⟨rfl, rfl⟩, Nat.le_of_ble_eq_true rfl, Nat.le_of_ble_eq_true rfl⟩ hP hD hS hl.1 rfl rfl ⟨Nat.zero_le _, Nat.zero_le _⟩ (Nat.le_of_ble_eq_true rfl) dX3_next_116 (fun H locs hP hD hS => ?_)
              refine bq_eq (tgt := 135) hx hb hf dX3_next_119 (by decide) (fun hf => ?_) (fun hf => ?_)
              · cases hf
                exact hE54 _ _ _ hP hD hS (lv_sub hl [0] rfl)
              · refine lv_aload_n hx hb dX3_next_122 rfl (lv_at hl 0 rfl) ?_
                refine lv_dup hx hb dX3_next_123 rfl ?_
                refine gT_at X hP dX3_next_124 ?_
                refine lv_iconst (v := 1) hx hb dX3_next_127 (by decide) ?_
                refine lv_iadd hx hb dX3_next_128 ?_
                obtain ⟨v75, ev75, hf⟩ := lts hf
                refine tpi ev75 ?_
                refine pT_at X hP hD hS dX3_next_129 (fun H locs hP hD hS => ?_)
                refine lv_goto (tgt := 96) hx hb dX3_next_132 (by decide) ?_
                exact ih56 _ hf _ _ _ hP hD hS (lv_sub hl [0] rfl)
        exact hL55 _ _ k57 _ _ _ hP hD hS (lv_sub hl [0] rfl)
    · refine lv_aload_n hx hb dX3_next_71 rfl (lv_at hl 0 rfl) ?_
      refine lv_sipush (v := 301) hx hb dX3_next_72 (by decide) ?_
      refine pT_sort X hP hD hS dX3_next_75 (fun H locs hP hD hS => ?_)
      refine lv_goto (tgt := 402) hx hb dX3_next_78 (by decide) ?_
      cases hf
      exact rV X hP hD hS dX3_next_402
  have hL5 : ∀ (n3 : Nat) (c1 : Int32), T_next_L0 φ cT sSz n3 c1 = some c2 → ∀ (H : Heap) (locs : List Loc) (ls : Array Slot), va_P g.1 vwCl (tkW g r0 ta cT sSz c1 sTok sSort sNum sOpen sKind) H → va_D A (tkW g r0 ta cT sSz c1 sTok sSort sNum sOpen sKind) → va_S A s.heap H locs → lv_has ls 3 [(0, .ref r0)] → W p l e ({ frames := 5, cells := 0, slots := 0, locals := 134 } : Room) s m ([.ref r0] : List Value).toArray below meth c H locs 0 0 (MQ below (QQ g none (tkW g r0 ta cT sSz nsAt nsTok nsSort nsNum sOpen sKind) A) ([.ref r0] : List Value).toArray s 0 0 A) (F0 m 0 ls []) := by
    intro n3
    induction n3 with
    | zero =>
      intro c1 hf
      exact nn hf
    | succ n3 ih6 =>
      intro c1 hf H locs ls hP hD hS hl
      rw [T_next_L0] at hf
      refine lv_aload_n hx hb dX3_next_0 rfl (lv_at hl 0 rfl) ?_
      refine gT_at X hP dX3_next_1 ?_
      refine lv_aload_n hx hb dX3_next_4 rfl (lv_at hl 0 rfl) ?_
      refine gT_size X hP dX3_next_5 ?_
      refine bc_ge (tgt := 52) hx hb hf dX3_next_8 (by decide) (fun hf => ?_) (fun hf => ?_)
      · cases hf
        exact hE4 _ _ _ hP hD hS (lv_sub hl [0] rfl)
      · refine lv_aload_n hx hb dX3_next_11 rfl (lv_at hl 0 rfl) ?_
        refine gT_text X hP dX3_next_12 ?_
        refine lv_aload_n hx hb dX3_next_15 rfl (lv_at hl 0 rfl) ?_
        refine gT_at X hP dX3_next_16 ?_
        obtain ⟨v76, ev76, bv76, hf⟩ := rds hf
        refine lT_cT X hP ev76 bv76 dX3_next_19 ?_
        refine lv_bipush (v := 32) hx hb dX3_next_20 (by decide) ?_
        refine bc_eq (tgt := 39) hx hb hf dX3_next_22 (by decide) (fun hf => ?_) (fun hf => ?_)
        · refine lv_aload_n hx hb dX3_next_39 rfl (lv_at hl 0 rfl) ?_
          refine lv_dup hx hb dX3_next_40 rfl ?_
          refine gT_at X hP dX3_next_41 ?_
          refine lv_iconst (v := 1) hx hb dX3_next_44 (by decide) ?_
          refine lv_iadd hx hb dX3_next_45 ?_
          obtain ⟨v77, ev77, hf⟩ := lts hf
          refine tpi ev77 ?_
          refine pT_at X hP hD hS dX3_next_46 (fun H locs hP hD hS => ?_)
          refine lv_goto (tgt := 0) hx hb dX3_next_49 (by decide) ?_
          exact ih6 _ hf _ _ _ hP hD hS (lv_sub hl [0] rfl)
        · refine lv_aload_n hx hb dX3_next_25 rfl (lv_at hl 0 rfl) ?_
          refine gT_text X hP dX3_next_26 ?_
          refine lv_aload_n hx hb dX3_next_29 rfl (lv_at hl 0 rfl) ?_
          refine gT_at X hP dX3_next_30 ?_
          obtain ⟨v78, ev78, bv78, hf⟩ := rds hf
          refine lT_cT X hP ev78 bv78 dX3_next_33 ?_
          refine lv_bipush (v := 10) hx hb dX3_next_34 (by decide) ?_
          refine bc_ne (tgt := 52) hx hb hf dX3_next_36 (by decide) (fun hf => ?_) (fun hf => ?_)
          · cases hf
            exact hE4 _ _ _ hP hD hS (lv_sub hl [0] rfl)
          · refine lv_aload_n hx hb dX3_next_39 rfl (lv_at hl 0 rfl) ?_
            refine lv_dup hx hb dX3_next_40 rfl ?_
            refine gT_at X hP dX3_next_41 ?_
            refine lv_iconst (v := 1) hx hb dX3_next_44 (by decide) ?_
            refine lv_iadd hx hb dX3_next_45 ?_
            obtain ⟨v79, ev79, hf⟩ := lts hf
            refine tpi ev79 ?_
            refine pT_at X hP hD hS dX3_next_46 (fun H locs hP hD hS => ?_)
            refine lv_goto (tgt := 0) hx hb dX3_next_49 (by decide) ?_
            exact ih6 _ hf _ _ _ hP hD hS (lv_sub hl [0] rfl)
  exact hL5 _ _ k7 _ _ _ hP hD hS (lv_sub hl [0] rfl)
set_option maxHeartbeats 4000000 in
theorem met_T_nameNow {l : Launch} {g : gG} {r0 ta : Nat} {z : Nat → Nat} {cT : Nat → Int32} {sSz : Int32} {sAt : Int32} {sTok : Int32} {sSort : Int32} {sNum : Int32} {sOpen : Int32} {sKind : Int32} {r : Int32} {φ : Nat} (hf : T_nameNow φ sSort = some r) : CZ l yX3_nameNow (ws_ yX3_nameNow cX3_nameNow 2 (some .int)) ({ frames := 0, cells := 0, slots := 0, locals := 0 } : Room) g z [.ref r0] (tkW g r0 ta cT sSz sAt sTok sSort sNum sOpen sKind) (some (.int r)) (tkW g r0 ta cT sSz sAt sTok sSort sNum sOpen sKind) 0 0 := by
  refine CZ.ofI RX3 rfl plain_X3 (Nat.le_of_ble_eq_true rfl) (fun p e s m below meth c A ls hnm X hG hP hD hS hl => ?_)
  have hx := X.1
  have hb := X.2.1
  have hown := X.2.2.2.2.2.1
  have hts := X.2.2.2.2.2.2.1
  have hl : lv_has ls 2 [(0, .ref r0)] := hl
  unfold T_nameNow at hf
  refine lv_iconst (v := 0) hx hb dX3_nameNow_0 (by decide) ?_
  refine lv_istore_n (lv' := [(1, .int 0), (0, .ref r0)]) hx hb dX3_nameNow_1 rfl hl (by decide) rfl (fun ls hl => ?_)
  have hL4 : ∀ (n2 : Nat) (v1 : Int32), T_nameNow_L2 φ sSort n2 v1 = some r → ∀ (H : Heap) (locs : List Loc) (ls : Array Slot), va_P g.1 vwCl (tkW g r0 ta cT sSz sAt sTok sSort sNum sOpen sKind) H → va_D A (tkW g r0 ta cT sSz sAt sTok sSort sNum sOpen sKind) → va_S A s.heap H locs → lv_has ls 2 [(0, .ref r0), (1, .int v1)] → W p l e ({ frames := 0, cells := 0, slots := 0, locals := 0 } : Room) s m ([.ref r0] : List Value).toArray below meth c H locs 0 0 (MQ below (QQ g (some (.int r)) (tkW g r0 ta cT sSz sAt sTok sSort sNum sOpen sKind) A) ([.ref r0] : List Value).toArray s 0 0 A) (F0 m 2 ls []) := by
    intro n2
    induction n2 with
    | zero =>
      intro v1 hf
      exact nn hf
    | succ n2 ih5 =>
      intro v1 hf H locs ls hP hD hS hl
      rw [T_nameNow_L2] at hf
      refine lv_iload_n hx hb dX3_nameNow_2 rfl (lv_at hl 1 rfl) ?_
      refine va_gets (v := .ref (z 3)) hx hb hG.2.2.1.2.2.1 hS hown (hts _ q761) (fun _ h9 => h9) dX3_nameNow_3 ?_
      refine va_tlen hx hb hG.2.2.1.2.2.2.1 hS (v := 10) rfl dX3_nameNow_6 ?_
      refine bc_ge (tgt := 30) hx hb hf dX3_nameNow_7 (by decide) (fun hf => ?_) (fun hf => ?_)
      · refine lv_iconst (v := (-1)) hx hb dX3_nameNow_30 (by decide) ?_
        cases hf
        exact rI X hP hD hS dX3_nameNow_31
      · refine va_gets (v := .ref (z 3)) hx hb hG.2.2.1.2.2.1 hS hown (hts _ q761) (fun _ h9 => h9) dX3_nameNow_10 ?_
        refine lv_iload_n hx hb dX3_nameNow_13 rfl (lv_at hl 1 rfl) ?_
        obtain ⟨b7, hf⟩ := inbs hf
        refine va_ti hx hb hG.2.2.1.2.2.2.1 hS b7 (v := .int (xNm (v1 : Int32).toNatClampNeg)) rfl dX3_nameNow_14 ?_
        obtain ⟨v8, ev8, hf⟩ := lts hf
        refine tpi ev8 ?_
        refine lv_aload_n hx hb dX3_nameNow_15 rfl (lv_at hl 0 rfl) ?_
        refine gT_sort X hP dX3_nameNow_16 ?_
        refine bc_ne (tgt := 24) hx hb hf dX3_nameNow_19 (by decide) (fun hf => ?_) (fun hf => ?_)
        · obtain ⟨v9, ev9, hf⟩ := lts hf
          refine lv_iinc (v := v9) (lv' := [(1, .int v9), (0, .ref r0)]) hx hb dX3_nameNow_24 hl (k := 1) rfl (by rw [ev9]; rfl) (by decide) rfl (fun ls hl => ?_)
          refine lv_goto (tgt := 2) hx hb dX3_nameNow_27 (by decide) ?_
          exact ih5 _ hf _ _ _ hP hD hS (lv_sub hl [1, 0] rfl)
        · refine lv_iload_n hx hb dX3_nameNow_22 rfl (lv_at hl 1 rfl) ?_
          cases hf
          exact rI X hP hD hS dX3_nameNow_23
  exact hL4 _ _ hf _ _ _ hP hD hS (lv_sub hl [1, 0] rfl)
set_option maxHeartbeats 4000000 in
theorem met_T_mayName {l : Launch} {g : gG} {r0 ta : Nat} {z : Nat → Nat} {cT : Nat → Int32} {sSz : Int32} {sAt : Int32} {sTok : Int32} {sSort : Int32} {sNum : Int32} {sOpen : Int32} {sKind : Int32} {x1 : Int32} {r : Int32} (hf : T_mayName sKind x1 = some r) : CZ l yX3_mayName (ws_ yX3_mayName cX3_mayName 2 (some .boolean)) ({ frames := 0, cells := 0, slots := 0, locals := 0 } : Room) g z [.ref r0, .int x1] (tkW g r0 ta cT sSz sAt sTok sSort sNum sOpen sKind) (some (.int r)) (tkW g r0 ta cT sSz sAt sTok sSort sNum sOpen sKind) 0 0 := by
  refine CZ.ofI RX3 rfl plain_X3 (Nat.le_of_ble_eq_true rfl) (fun p e s m below meth c A ls hnm X hG hP hD hS hl => ?_)
  have hx := X.1
  have hb := X.2.1
  have hown := X.2.2.2.2.2.1
  have hts := X.2.2.2.2.2.2.1
  have hl : lv_has ls 2 [(0, .ref r0), (1, .int x1)] := hl
  unfold T_mayName at hf
  refine lv_iload_n hx hb dX3_mayName_0 rfl (lv_at hl 1 rfl) ?_
  refine lv_iconst (v := 5) hx hb dX3_mayName_1 (by decide) ?_
  refine bc_ge (tgt := 7) hx hb hf dX3_mayName_2 (by decide) (fun hf => ?_) (fun hf => ?_)
  · refine lv_iload_n hx hb dX3_mayName_7 rfl (lv_at hl 1 rfl) ?_
    refine lv_bipush (v := 7) hx hb dX3_mayName_8 (by decide) ?_
    refine bc_ge (tgt := 29) hx hb hf dX3_mayName_10 (by decide) (fun hf => ?_) (fun hf => ?_)
    · refine lv_iload_n hx hb dX3_mayName_29 rfl (lv_at hl 1 rfl) ?_
      refine lv_bipush (v := 9) hx hb dX3_mayName_30 (by decide) ?_
      refine bc_ge (tgt := 53) hx hb hf dX3_mayName_32 (by decide) (fun hf => ?_) (fun hf => ?_)
      · refine lv_aload_n hx hb dX3_mayName_53 rfl (lv_at hl 0 rfl) ?_
        refine gT_kind X hP dX3_mayName_54 ?_
        refine lv_sipush (v := 201) hx hb dX3_mayName_57 (by decide) ?_
        refine bc_eq (tgt := 73) hx hb hf dX3_mayName_60 (by decide) (fun hf => ?_) (fun hf => ?_)
        · refine lv_iconst (v := 1) hx hb dX3_mayName_73 (by decide) ?_
          refine lv_goto (tgt := 78) hx hb dX3_mayName_74 (by decide) ?_
          cases hf
          exact rZ X rfl hP hD hS dX3_mayName_78
        · refine lv_aload_n hx hb dX3_mayName_63 rfl (lv_at hl 0 rfl) ?_
          refine gT_kind X hP dX3_mayName_64 ?_
          refine lv_sipush (v := 203) hx hb dX3_mayName_67 (by decide) ?_
          refine bc_ne (tgt := 77) hx hb hf dX3_mayName_70 (by decide) (fun hf => ?_) (fun hf => ?_)
          · refine lv_iconst (v := 0) hx hb dX3_mayName_77 (by decide) ?_
            cases hf
            exact rZ X rfl hP hD hS dX3_mayName_78
          · refine lv_iconst (v := 1) hx hb dX3_mayName_73 (by decide) ?_
            refine lv_goto (tgt := 78) hx hb dX3_mayName_74 (by decide) ?_
            cases hf
            exact rZ X rfl hP hD hS dX3_mayName_78
      · refine lv_aload_n hx hb dX3_mayName_35 rfl (lv_at hl 0 rfl) ?_
        refine gT_kind X hP dX3_mayName_36 ?_
        refine lv_sipush (v := 202) hx hb dX3_mayName_39 (by decide) ?_
        refine bc_lt (tgt := 49) hx hb hf dX3_mayName_42 (by decide) (fun hf => ?_) (fun hf => ?_)
        · refine lv_iconst (v := 0) hx hb dX3_mayName_49 (by decide) ?_
          refine lv_goto (tgt := 78) hx hb dX3_mayName_50 (by decide) ?_
          cases hf
          exact rZ X rfl hP hD hS dX3_mayName_78
        · refine lv_iconst (v := 1) hx hb dX3_mayName_45 (by decide) ?_
          refine lv_goto (tgt := 78) hx hb dX3_mayName_46 (by decide) ?_
          cases hf
          exact rZ X rfl hP hD hS dX3_mayName_78
    · refine lv_aload_n hx hb dX3_mayName_13 rfl (lv_at hl 0 rfl) ?_
      refine gT_kind X hP dX3_mayName_14 ?_
      refine lv_sipush (v := 203) hx hb dX3_mayName_17 (by decide) ?_
      refine bc_eq (tgt := 27) hx hb hf dX3_mayName_20 (by decide) (fun hf => ?_) (fun hf => ?_)
      · refine lv_iconst (v := 0) hx hb dX3_mayName_27 (by decide) ?_
        cases hf
        exact rZ X rfl hP hD hS dX3_mayName_28
      · refine lv_iconst (v := 1) hx hb dX3_mayName_23 (by decide) ?_
        refine lv_goto (tgt := 28) hx hb dX3_mayName_24 (by decide) ?_
        cases hf
        exact rZ X rfl hP hD hS dX3_mayName_28
  · refine lv_iconst (v := 1) hx hb dX3_mayName_5 (by decide) ?_
    cases hf
    exact rZ X rfl hP hD hS dX3_mayName_6
