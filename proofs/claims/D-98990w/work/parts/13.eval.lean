/-! trees of the texts: what they answer; lists that are read -/
abbrev EvS : Type := (Nat → Int32) → Int64
abbrev EvA : Type := (Nat → Int32) → Int32
def ySum : MethodName := ⟨"WolfsHead$Sum", "of", "([I)J"⟩
def yAsk : MethodName := ⟨"WolfsHead$Asked", "is", "([I)Z"⟩
theorem dy_ySum : ySum.cls ≠ "java/lang/invoke/MethodHandle" ∧ ySum.cls ≠ "java/lang/invoke/VarHandle" ∧ (parseMethodDescriptor ySum.desc).map (fun d => d.parameters.length) = some 1 := by decide +kernel
theorem dy_yAsk : yAsk.cls ≠ "java/lang/invoke/MethodHandle" ∧ yAsk.cls ≠ "java/lang/invoke/VarHandle" ∧ (parseMethodDescriptor yAsk.desc).map (fun d => d.parameters.length) = some 1 := by decide +kernel
/-- the object r, a Sum, answers ev of the names' row, the world as it is -/
def OfOK (l : Launch) (g : gG) (z : Nat → Nat) (w : va_W) (F L : Nat) (r : Nat) (ev : EvS) : Prop :=
  ∃ (C : String) (y : MethodName) (cy : ByteArray) (nLy k ci : Nat) (fs : List Value) (T : u_T) (N : Nat), w[k]? = some (r, .inr (ci, fs)) ∧ vwCl[ci]? = some (C, T, N) ∧ (C, ySum, y) ∈ xFace ∧ (C, "WolfsHead$Sum") ∈ xCast ∧ (∀ (own : String) (idx : Nat), Cond.methodLink own idx ySum ∈ lw_all → GoodIn lw_all (va_wsF own idx C ySum y (ws_ y cy nLy (some .long)))) ∧ nLy ≤ 10 ∧
    ∀ (i va : Nat) (v : Nat → Int32), w[i]? = some (va, .inl (g.2 0, 16, .inl v)) → CX l y (ws_ y cy nLy (some .long)) ({ frames := F, cells := 0, slots := 0, locals := L } : Room) g z [.ref r, .ref va] w (some (.long (ev v))) w 0 0
/-- the object r, an Asked -/
def IsOK (l : Launch) (g : gG) (z : Nat → Nat) (w : va_W) (F L : Nat) (r : Nat) (ev : EvA) : Prop :=
  ∃ (C : String) (y : MethodName) (cy : ByteArray) (nLy k ci : Nat) (fs : List Value) (T : u_T) (N : Nat), w[k]? = some (r, .inr (ci, fs)) ∧ vwCl[ci]? = some (C, T, N) ∧ (C, yAsk, y) ∈ xFace ∧ (C, "WolfsHead$Asked") ∈ xCast ∧ (∀ (own : String) (idx : Nat), Cond.methodLink own idx yAsk ∈ lw_all → GoodIn lw_all (va_wsF own idx C yAsk y (ws_ y cy nLy (some .boolean)))) ∧ nLy ≤ 10 ∧
    ∀ (i va : Nat) (v : Nat → Int32), w[i]? = some (va, .inl (g.2 0, 16, .inl v)) → CX l y (ws_ y cy nLy (some .boolean)) ({ frames := F, cells := 0, slots := 0, locals := L } : Room) g z [.ref r, .ref va] w (some (.int (ev v))) w 0 0
/-- an ArrayList at la of c elements f -/
def ListOK (g : gG) (w : va_W) (la c : Nat) (f : Nat → Option Nat) : Prop := ∃ (k j ea n : Nat) (mc : Int32), w[k]? = some (la, .inr (17, [.int mc, .ref ea, .int (nI c)])) ∧ w[j]? = some (ea, .inl (g.2 4, n, .inr (.inr (.inr (.inr f))))) ∧ c ≤ n ∧ n < 2 ^ 31
/-- the small Integer of value v -/
def BoxOK (z : Nat → Nat) (y : Nat) (v : Int32) : Prop := ∃ k : Nat, k < 256 ∧ y = z (300 + k) ∧ v = vb_c k
theorem plain_J2 : plainName RJ2 = true := by decide +kernel
theorem plain_J5 : plainName RJ5 = true := by decide +kernel
theorem plain_J13 : plainName RJ13 = true := by decide +kernel
section EVAL
variable {p : Program} {l : Launch} {e : Env} {R : Room} {s : State} {m : MethodId} {args : Array Value} {below : List Frame} {meth : Method} {c : Code} {H : Heap} {locs : List Loc} {cells slots : Nat} {Q : State → Prop}
variable {A : Nat → Prop} {own : String} {cc : ByteArray} {nL : Nat} {ret : Option FieldType} {g : gG} {z : Nat → Nat} {ls : Array Slot} {st0 rest : List Value} {pc : Nat} {w : va_W} {index count F L r : Nat}
theorem run5 {av : Array Value} {rv : Option Value} (X : Cx p s m meth c args own cc nL ret g A) (hr : va_Run5 p l e R s m args below meth c H locs cells slots 0 0 (F0 m pc ls st0) rest (QQ g rv w (va_A w H.size) av) (va_A w H.size)) (hP : va_P g.1 vwCl w H) (hD : va_D A w) (hS : va_S A s.heap H locs)
    (kk : ∀ (H1 : Heap) (locs1 : List Loc), va_P g.1 vwCl w H1 → va_D A w → va_S A s.heap H1 locs1 → W p l e R s m args below meth c H1 locs1 cells slots Q (F0 m (pc + 5) ls (rv.toList ++ rest))) : W p l e R s m args below meth c H locs cells slots Q (F0 m pc ls st0) := by
  have hF := va_freeW hD hS X.2.2.2.2.2.2.2.1
  intro T hT X0
  obtain ⟨v, st₀, t, T', L, h0, X', hL, e1, e2, ⟨⟨hv, qP, qK, qD⟩, hz, hk⟩, st⟩ := hr T hT X0
  cases hv
  rw [h0] at hz hk
  have hS1 : va_S A s.heap T'.heap (locs ++ L) := ⟨Nat.le_trans hS.1 (by rw [e1]; exact hz), fun q h1 h2 => by rw [e1, hk q (Nat.lt_of_lt_of_le h1 hS.1) (fun z => h2 (hF q z))]; exact hS.2.1 q h1 h2, fun q hq => by
      rcases List.mem_append.mp hq with h | h
      · exact hS.2.2 q h
      · exact hF _ (hL q h)⟩
  obtain ⟨t2, a1, b1⟩ := kk T'.heap (locs ++ L) (by rw [e1]; exact qP) hD hS1 T' rfl X'
  exact ⟨t2, st t2 a1, b1⟩
theorem xFl {ev : EvS} (X : Cx p s m meth c args own cc nL ret g A) (hF : XF z A s s.heap) (hO : OfOK l g z w F L r ev) {i va : Nat} {v : Nat → Int32} (hv : w[i]? = some (va, .inl (g.2 0, 16, .inl v))) (hlink : Cond.methodLink own index ySum ∈ lw_all) (hP : va_P g.1 vwCl w H) (hD : va_D A w) (hS : va_S A s.heap H locs) (hl : ls.size = nL) (hR : F + 1 ≤ R.frames ∧ 29 + L ≤ R.locals) (hf : cells ≤ R.cells ∧ slots ≤ R.slots) (hw : (rest.map fun v => v.category).sum ≤ 8) (hdg : decode cc pc = .ok (.invokeinterface index count, 5))
    (kk : ∀ (H1 : Heap) (locs1 : List Loc), va_P g.1 vwCl w H1 → va_D A w → va_S A s.heap H1 locs1 → W p l e R s m args below meth c H1 locs1 cells slots Q (F0 m (pc + 5) ls (.long (ev v) :: rest))) : W p l e R s m args below meth c H locs cells slots Q (F0 m pc ls (.ref va :: .ref r :: rest)) := by
  obtain ⟨C, y, cy, nLy, k, ci, fs, T, N, h1, h2, h3, h4, h5, h6, h7⟩ := hO
  have hK := X.2.2.2.2.2.2.2.2
  exact run5 (rv := some (.long (ev v))) X (va_runF (As := [.ref va]) (hK.1 ci _ h2).2 ⟨X.1, X.2.1, X.2.2.2.2.1, X.2.2.2.2.2.1, X.2.2.2.2.2.2.1⟩ (h7 i va v hv H.size) (va_cwF 1 X.2.2.2.2.2.2.1 (h5 _ _ hlink) rfl rfl rfl (hF.2.1 _ h3) dy_ySum ⟨hR.1, by show 8 + (nLy + 11) + L ≤ R.locals; omega⟩) ⟨PreX.blind, va_recv hK hP h2 h1, CX.hp X hF hP hD hS⟩ rfl rfl hl rfl (lv_room hw) hdg hf) hP hD hS kk
theorem xFz {ev : EvA} (X : Cx p s m meth c args own cc nL ret g A) (hF : XF z A s s.heap) (hO : IsOK l g z w F L r ev) {i va : Nat} {v : Nat → Int32} (hv : w[i]? = some (va, .inl (g.2 0, 16, .inl v))) (hlink : Cond.methodLink own index yAsk ∈ lw_all) (hP : va_P g.1 vwCl w H) (hD : va_D A w) (hS : va_S A s.heap H locs) (hl : ls.size = nL) (hR : F + 1 ≤ R.frames ∧ 29 + L ≤ R.locals) (hf : cells ≤ R.cells ∧ slots ≤ R.slots) (hw : (rest.map fun v => v.category).sum ≤ 8) (hdg : decode cc pc = .ok (.invokeinterface index count, 5))
    (kk : ∀ (H1 : Heap) (locs1 : List Loc), va_P g.1 vwCl w H1 → va_D A w → va_S A s.heap H1 locs1 → W p l e R s m args below meth c H1 locs1 cells slots Q (F0 m (pc + 5) ls (.int (ev v) :: rest))) : W p l e R s m args below meth c H locs cells slots Q (F0 m pc ls (.ref va :: .ref r :: rest)) := by
  obtain ⟨C, y, cy, nLy, k, ci, fs, T, N, h1, h2, h3, h4, h5, h6, h7⟩ := hO
  have hK := X.2.2.2.2.2.2.2.2
  exact run5 (rv := some (.int (ev v))) X (va_runF (As := [.ref va]) (hK.1 ci _ h2).2 ⟨X.1, X.2.1, X.2.2.2.2.1, X.2.2.2.2.2.1, X.2.2.2.2.2.2.1⟩ (h7 i va v hv H.size) (va_cwF 1 X.2.2.2.2.2.2.1 (h5 _ _ hlink) rfl rfl rfl (hF.2.1 _ h3) dy_yAsk ⟨hR.1, by show 8 + (nLy + 11) + L ≤ R.locals; omega⟩) ⟨PreX.blind, va_recv hK hP h2 h1, CX.hp X hF hP hD hS⟩ rfl rfl hl rfl (lv_room hw) hdg hf) hP hD hS kk
theorem xCastS {ev : EvS} (X : Cx p s m meth c args own cc nL ret g A) (hF : XF z A s s.heap) (hO : OfOK l g z w F L r ev) (hlink : Cond.classLink own index "WolfsHead$Sum" ∈ lw_all) (hP : va_P g.1 vwCl w H) (hdg : decode cc pc = .ok (.checkcast index, 3))
    (kk : W p l e R s m args below meth c H locs cells slots Q (F0 m (pc + 3) ls (.ref r :: rest))) : W p l e R s m args below meth c H locs cells slots Q (F0 m pc ls (.ref r :: rest)) := by
  obtain ⟨C, y, cy, nLy, k, ci, fs, T, N, h1, h2, h3, h4, h5, h6, h7⟩ := hO
  exact va_castY X.1 X.2.1 X.2.2.2.2.2.1 (X.2.2.2.2.2.2.1 _ hlink) (hF.2.2.1 _ h4) (va_recv X.2.2.2.2.2.2.2.2 hP h2 h1) hdg kk
theorem xCastA {ev : EvA} (X : Cx p s m meth c args own cc nL ret g A) (hF : XF z A s s.heap) (hO : IsOK l g z w F L r ev) (hlink : Cond.classLink own index "WolfsHead$Asked" ∈ lw_all) (hP : va_P g.1 vwCl w H) (hdg : decode cc pc = .ok (.checkcast index, 3))
    (kk : W p l e R s m args below meth c H locs cells slots Q (F0 m (pc + 3) ls (.ref r :: rest))) : W p l e R s m args below meth c H locs cells slots Q (F0 m pc ls (.ref r :: rest)) := by
  obtain ⟨C, y, cy, nLy, k, ci, fs, T, N, h1, h2, h3, h4, h5, h6, h7⟩ := hO
  exact va_castY X.1 X.2.1 X.2.2.2.2.2.1 (X.2.2.2.2.2.2.1 _ hlink) (hF.2.2.1 _ h4) (va_recv X.2.2.2.2.2.2.2.2 hP h2 h1) hdg kk
theorem rR {nm : String} {v : Nat} {w' : va_W} (X : Cx p s m meth c args own cc nL (some (.object nm)) g A) (hP : va_P g.1 vwCl w' H) (hD : va_D A w') (hS : va_S A s.heap H locs) (hdg : decode cc pc = .ok (.areturn, 1)) : W p l e R s m args below meth c H locs cells slots (MQ below (QQ g (some (.ref v)) w' A) args s cells slots A) (F0 m pc ls [.ref v]) :=
  W.aret X.1 X.2.1 X.2.2.1 (Or.inl ⟨_, rfl⟩) (Or.inr ⟨_, rfl⟩) (fun t ht hW => ⟨⟨rfl, by rw [ht]; exact hP, va_K.moved hW.alike X.2.2.2.2.2.2.2.2, hD⟩, hS.F ht⟩) hS.2.2 hdg X.2.2.2.1
theorem cVr {y : MethodName} {cy : ByteArray} {nLy n b : Nat} {rety : Option FieldType} {rmy : Room} {As : List Value} {w' : va_W} {C : String} (X : Cx p s m meth c args own cc nL ret g A) (hM : CC l y (ws_ y cy nLy rety) rmy g (.ref b :: As) w (some (.ref r)) w' 0 0) (hG : GoodIn lw_all (wsV own index C y (ws_ y cy nLy rety))) (hd : Dy y C n) (hR : Ry rmy R nLy 0 0) (hP : va_P g.1 vwCl w H) (hD : va_D A w) (hS : va_S A s.heap H locs) (hl : ls.size = nL) (hc : Rc w b C) (hn : As.length = n) (hst : st0 = As.reverse ++ .ref b :: rest) (hf : cells ≤ R.cells ∧ slots ≤ R.slots) (hw : (rest.map fun v => v.category).sum ≤ 8) (hdg : decode cc pc = .ok (.invokevirtual index, 3))
    (kk : ∀ (H1 : Heap) (locs1 : List Loc), va_P g.1 vwCl w' H1 → va_D A w' → va_S A s.heap H1 locs1 → W p l e R s m args below meth c H1 locs1 cells slots Q (F0 m (pc + 3) ls (.ref r :: rest))) : W p l e R s m args below meth c H locs cells slots Q (F0 m pc ls st0) :=
  cV0 (wf := []) X hM hG hd hR hf (by rw [List.append_nil]; exact hP) (by rw [List.append_nil]; exact hD) hS hc hn hl hst hw hdg (fun H1 locs1 h1 h2 h3 => kk H1 locs1 (by rw [List.append_nil] at h1; exact h1) (by rw [List.append_nil] at h2; exact h2) h3)
end EVAL
theorem dy_J15_intValue : Dy yJ15_intValue "java/lang/Integer" 0 := by decide +kernel
theorem met_size {l : Launch} {g : gG} {w : va_W} {la k ea : Nat} {mc sz : Int32} (hk : w[k]? = some (la, .inr (17, [.int mc, .ref ea, .int sz]))) : CC l yJ2_size (ws_ yJ2_size cJ2_size 1 (some .int)) ({ frames := 0, cells := 0, slots := 0, locals := 0 } : Room) g [.ref la] w (some (.int sz)) w 0 0 := by
  refine CC.of RJ2 rfl plain_J2 (Nat.le_of_ble_eq_true rfl) (fun p e s m below meth c A ls X hP hD hS hl => ?_)
  have hx := X.1
  have hb := X.2.1
  have hl : lv_has ls 1 [(0, .ref la)] := hl
  refine lv_aload_n hx hb dJ2_size_0 rfl (lv_at hl 0 rfl) ?_
  refine gF X in_J2 hP k hk rfl 2 (by decide) q404 rfl dJ2_size_1 ?_
  exact rI X hP hD hS dJ2_size_4
theorem met_isEmpty {l : Launch} {g : gG} {w : va_W} {la k ea : Nat} {mc sz : Int32} (hk : w[k]? = some (la, .inr (17, [.int mc, .ref ea, .int sz]))) : CC l yJ2_isEmpty (ws_ yJ2_isEmpty cJ2_isEmpty 1 (some .boolean)) ({ frames := 0, cells := 0, slots := 0, locals := 0 } : Room) g [.ref la] w (some (.int (if sz = 0 then 1 else 0))) w 0 0 := by
  refine CC.of RJ2 rfl plain_J2 (Nat.le_of_ble_eq_true rfl) (fun p e s m below meth c A ls X hP hD hS hl => ?_)
  have hx := X.1
  have hb := X.2.1
  have hl : lv_has ls 1 [(0, .ref la)] := hl
  refine lv_aload_n hx hb dJ2_isEmpty_0 rfl (lv_at hl 0 rfl) ?_
  refine gF X in_J2 hP k hk rfl 2 (by decide) q404 rfl dJ2_isEmpty_1 ?_
  refine lv_if_ne (tgt := 11) hx hb dJ2_isEmpty_4 (by decide) (fun q => ?_) (fun q => ?_)
  · refine lv_iconst (v := 0) hx hb dJ2_isEmpty_11 (by decide) ?_
    rw [if_neg q]
    exact rZ X rfl hP hD hS dJ2_isEmpty_12
  · refine lv_iconst (v := 1) hx hb dJ2_isEmpty_7 (by decide) ?_
    refine lv_goto (tgt := 12) hx hb dJ2_isEmpty_8 (by decide) ?_
    rw [if_pos q]
    exact rZ X rfl hP hD hS dJ2_isEmpty_12
theorem met_elementData {l : Launch} {g : gG} {w : va_W} {la k ea j n y : Nat} {mc sz i : Int32} {f : Nat → Option Nat} (hk : w[k]? = some (la, .inr (17, [.int mc, .ref ea, .int sz]))) (hj : w[j]? = some (ea, .inl (g.2 4, n, .inr (.inr (.inr (.inr f)))))) (hi : vp_in i n) (hy : f i.toNatClampNeg = some y) : CC l yJ2_elementData (ws_ yJ2_elementData cJ2_elementData 2 (some (.object "java/lang/Object"))) ({ frames := 0, cells := 0, slots := 0, locals := 0 } : Room) g [.ref la, .int i] w (some (.ref y)) w 0 0 := by
  refine CC.of RJ2 rfl plain_J2 (Nat.le_of_ble_eq_true rfl) (fun p e s m below meth c A ls X hP hD hS hl => ?_)
  have hx := X.1
  have hb := X.2.1
  have hl : lv_has ls 2 [(0, .ref la), (1, .int i)] := hl
  refine lv_aload_n hx hb dJ2_elementData_0 rfl (lv_at hl 0 rfl) ?_
  refine gF X in_J2 hP k hk rfl 1 (by decide) q403 rfl dJ2_elementData_1 ?_
  refine lv_iload_n hx hb dJ2_elementData_4 rfl (lv_at hl 1 rfl) ?_
  refine va_aldq hx hb X.2.2.2.2.2.2.2.2 hP j 4 hj rfl hi dJ2_elementData_5 ?_
  rw [hy]
  exact rR X hP hD hS dJ2_elementData_6
theorem met_checkIndexP {l : Launch} {g : gG} {i n : Int32} (h0 : ¬ i < 0) (h1 : i < n) : CC l yJ5_checkIndex (ws_ yJ5_checkIndex cJ5_checkIndex 3 (some .int)) ({ frames := 0, cells := 0, slots := 0, locals := 0 } : Room) g [.int i, .int n, .null] [] (some (.int i)) [] 0 0 := by
  refine CC.of RJ5 rfl plain_J5 (Nat.le_of_ble_eq_true rfl) (fun p e s m below meth c A ls X hP hD hS hl => ?_)
  have hx := X.1
  have hb := X.2.1
  have hl : lv_has ls 3 [(0, .int i), (1, .int n), (2, .null)] := hl
  refine lv_iload_n hx hb dJ5_checkIndex_0 rfl (lv_at hl 0 rfl) ?_
  refine lv_if_lt (tgt := 9) hx hb dJ5_checkIndex_1 (by decide) (fun q => absurd q h0) (fun _ => ?_)
  refine lv_iload_n hx hb dJ5_checkIndex_4 rfl (lv_at hl 0 rfl) ?_
  refine lv_iload_n hx hb dJ5_checkIndex_5 rfl (lv_at hl 1 rfl) ?_
  refine lv_icmp_lt (tgt := 16) hx hb dJ5_checkIndex_6 (by decide) (fun _ => ?_) (fun q => absurd h1 q)
  refine lv_iload_n hx hb dJ5_checkIndex_16 rfl (lv_at hl 0 rfl) ?_
  exact rI X hP hD hS dJ5_checkIndex_17
theorem gs_J13_J5_checkIndex : GoodIn lw_all (va_wsS RJ13 105 yJ5_checkIndex (ws_ yJ5_checkIndex cJ5_checkIndex 3 (some .int))) := lw_S q718 q469 q156 q470
theorem dy_J5_checkIndex : Dy yJ5_checkIndex RJ5 3 := by decide +kernel
theorem met_checkIndexO {l : Launch} {g : gG} {i n : Int32} (h0 : ¬ i < 0) (h1 : i < n) : CC l yJ13_checkIndex (ws_ yJ13_checkIndex cJ13_checkIndex 2 (some .int)) ({ frames := 1, cells := 0, slots := 0, locals := 22 } : Room) g [.int i, .int n] [] (some (.int i)) [] 0 0 := by
  refine CC.of RJ13 rfl plain_J13 (Nat.le_of_ble_eq_true rfl) (fun p e s m below meth c A ls X hP hD hS hl => ?_)
  have hx := X.1
  have hb := X.2.1
  have hl : lv_has ls 2 [(0, .int i), (1, .int n)] := hl
  refine lv_iload_n hx hb dJ13_checkIndex_0 rfl (lv_at hl 0 rfl) ?_
  refine lv_iload_n hx hb dJ13_checkIndex_1 rfl (lv_at hl 1 rfl) ?_
  refine lv_null hx hb dJ13_checkIndex_2 ?_
  refine cSi (rest := []) X (met_checkIndexP (g := g) h0 h1) gs_J13_J5_checkIndex dy_J5_checkIndex ⟨⟨rfl, rfl⟩, Nat.le_of_ble_eq_true rfl, Nat.le_of_ble_eq_true rfl⟩ hP hD hS hl.1 rfl rfl ⟨Nat.zero_le _, Nat.zero_le _⟩ (Nat.le_of_ble_eq_true rfl) dJ13_checkIndex_3 (fun H locs hP hD hS => ?_)
  exact rI X hP hD hS dJ13_checkIndex_6
theorem gs_J2_J13_checkIndex : GoodIn lw_all (va_wsS RJ2 118 yJ13_checkIndex (ws_ yJ13_checkIndex cJ13_checkIndex 2 (some .int))) := lw_S q715 q716 q169 q717
theorem dy_J13_checkIndex : Dy yJ13_checkIndex RJ13 2 := by decide +kernel
theorem gw_J2_J2_elementData : GoodIn lw_all (wsV RJ2 123 RJ2 yJ2_elementData (ws_ yJ2_elementData cJ2_elementData 2 (some (.object "java/lang/Object")))) := lw_V q719 q720 q721 q153 q722
theorem dy_J2_elementData : Dy yJ2_elementData RJ2 1 := by decide +kernel
theorem met_get {l : Launch} {g : gG} {w : va_W} {la k ea j n y : Nat} {mc sz i : Int32} {f : Nat → Option Nat} (hk : w[k]? = some (la, .inr (17, [.int mc, .ref ea, .int sz]))) (hj : w[j]? = some (ea, .inl (g.2 4, n, .inr (.inr (.inr (.inr f)))))) (h0 : ¬ i < 0) (h1 : i < sz) (hi : vp_in i n) (hy : f i.toNatClampNeg = some y) : CC l yJ2_get (ws_ yJ2_get cJ2_get 2 (some (.object "java/lang/Object"))) ({ frames := 2, cells := 0, slots := 0, locals := 43 } : Room) g [.ref la, .int i] w (some (.ref y)) w 0 0 := by
  refine CC.of RJ2 rfl plain_J2 (Nat.le_of_ble_eq_true rfl) (fun p e s m below meth c A ls X hP hD hS hl => ?_)
  have hx := X.1
  have hb := X.2.1
  have hl : lv_has ls 2 [(0, .ref la), (1, .int i)] := hl
  refine lv_iload_n hx hb dJ2_get_0 rfl (lv_at hl 1 rfl) ?_
  refine lv_aload_n hx hb dJ2_get_1 rfl (lv_at hl 0 rfl) ?_
  refine gF X in_J2 hP k hk rfl 2 (by decide) q404 rfl dJ2_get_2 ?_
  refine cSi (rest := []) X (met_checkIndexO (g := g) h0 h1) gs_J2_J13_checkIndex dy_J13_checkIndex ⟨⟨rfl, rfl⟩, Nat.le_of_ble_eq_true rfl, Nat.le_of_ble_eq_true rfl⟩ hP hD hS hl.1 rfl rfl ⟨Nat.zero_le _, Nat.zero_le _⟩ (Nat.le_of_ble_eq_true rfl) dJ2_get_5 (fun H locs hP hD hS => ?_)
  refine lv_pop hx hb dJ2_get_8 rfl ?_
  refine lv_aload_n hx hb dJ2_get_9 rfl (lv_at hl 0 rfl) ?_
  refine lv_iload_n hx hb dJ2_get_10 rfl (lv_at hl 1 rfl) ?_
  refine cVr (rest := []) X (met_elementData (g := g) hk hj hi hy) gw_J2_J2_elementData dy_J2_elementData ⟨⟨rfl, rfl⟩, Nat.le_of_ble_eq_true rfl, Nat.le_of_ble_eq_true rfl⟩ hP hD hS hl.1 ⟨k, 17, _, _, _, hk, rfl⟩ rfl rfl ⟨Nat.zero_le _, Nat.zero_le _⟩ (Nat.le_of_ble_eq_true rfl) dJ2_get_11 (fun H locs hP hD hS => ?_)
  exact rR X hP hD hS dJ2_get_14
theorem met_intValue {l : Launch} {g : gG} {z : Nat → Nat} {y : Nat} {v : Int32} (hb9 : BoxOK z y v) : CX l yJ15_intValue (ws_ yJ15_intValue cJ15_intValue 1 (some .int)) ({ frames := 0, cells := 0, slots := 0, locals := 0 } : Room) g z [.ref y] [] (some (.int v)) [] 0 0 := by
  refine CX.of RJ15 rfl plain_J15 (Nat.le_of_ble_eq_true rfl) (fun p e s m below meth c A ls X hF hP hD hS hl => ?_)
  have hx := X.1
  have hb := X.2.1
  have hl : lv_has ls 1 [(0, .ref y)] := hl
  obtain ⟨k, hk, rfl, rfl⟩ := hb9
  refine lv_aload_n hx hb dJ15_intValue_0 rfl (lv_at hl 0 rfl) ?_
  refine va_getX (i := k) (v := fun k => .int (vb_c k)) hx hb hF.2.2.2.2.2 hk hS X.2.2.2.2.2.1 (X.2.2.2.2.2.2.1 _ q843) (fun _ h9 => h9) dJ15_intValue_1 ?_
  exact rI X hP hD hS dJ15_intValue_4
theorem xInt {p : Program} {l : Launch} {e : Env} {R : Room} {s : State} {m : MethodId} {args : Array Value} {below : List Frame} {meth : Method} {c : Code} {H : Heap} {locs : List Loc} {cells slots : Nat} {Q : State → Prop} {A : Nat → Prop} {own : String} {cc : ByteArray} {nL : Nat} {ret : Option FieldType} {g : gG} {z : Nat → Nat} {ls : Array Slot} {rest : List Value} {pc : Nat} {w : va_W} {index y : Nat} {v : Int32} (X : Cx p s m meth c args own cc nL ret g A) (hF : XF z A s s.heap) (hB : BoxOK z y v) (hG : GoodIn lw_all (wsV own index "java/lang/Integer" yJ15_intValue (ws_ yJ15_intValue cJ15_intValue 1 (some .int)))) (hP : va_P g.1 vwCl w H) (hD : va_D A w) (hS : va_S A s.heap H locs) (hl : ls.size = nL) (hR : 1 ≤ R.frames ∧ 20 ≤ R.locals) (hf : cells ≤ R.cells ∧ slots ≤ R.slots) (hw : (rest.map fun v => v.category).sum ≤ 8) (hdg : decode cc pc = .ok (.invokevirtual index, 3))
    (kk : ∀ (H1 : Heap) (locs1 : List Loc), va_P g.1 vwCl w H1 → va_D A w → va_S A s.heap H1 locs1 → W p l e R s m args below meth c H1 locs1 cells slots Q (F0 m (pc + 3) ls (.int v :: rest))) : W p l e R s m args below meth c H locs cells slots Q (F0 m pc ls (.ref y :: rest)) := by
  have hB' := hB
  obtain ⟨k, hk, rfl, rfl⟩ := hB'
  obtain ⟨cell, q1, q2, q3, q4⟩ := (hF.2.2.2.2.kept hS.2.1).1 k hk
  have hD0 : va_D A ([] : va_W) := ⟨fun i j x y h => by simp at h, fun i x h => by simp at h⟩
  have hP0 : va_P g.1 vwCl ([] : va_W) H := fun i x h => by simp at h
  exact run_on (w := []) (wf := w) (w' := []) (rv := some (.int (vb_c k))) X (va_runV (As := []) (C := "java/lang/Integer") ⟨X.1, X.2.1, X.2.2.2.2.1, X.2.2.2.2.2.1, X.2.2.2.2.2.2.1⟩ (met_intValue (g := g) hB H.size) (cwV 0 X.2.2.2.2.2.2.1 hG rfl rfl rfl dy_J15_intValue ⟨hR.1, hR.2⟩) ⟨PreX.blind, ⟨cell, q1, q2, q3⟩, CX.hp X hF hP0 hD0 hS⟩ rfl rfl hl rfl (lv_room hw) hdg hf) hP hD hS kk
theorem xCastI {p : Program} {l : Launch} {e : Env} {R : Room} {s : State} {m : MethodId} {args : Array Value} {below : List Frame} {meth : Method} {c : Code} {H : Heap} {locs : List Loc} {cells slots : Nat} {Q : State → Prop} {A : Nat → Prop} {own : String} {cc : ByteArray} {nL : Nat} {ret : Option FieldType} {g : gG} {z : Nat → Nat} {ls : Array Slot} {rest : List Value} {pc : Nat} {index y : Nat} {v : Int32} (X : Cx p s m meth c args own cc nL ret g A) (hF : XF z A s s.heap) (hB : BoxOK z y v) (hS : va_S A s.heap H locs) (hlink : Cond.classLink own index "java/lang/Integer" ∈ lw_all) (hdg : decode cc pc = .ok (.checkcast index, 3))
    (kk : W p l e R s m args below meth c H locs cells slots Q (F0 m (pc + 3) ls (.ref y :: rest))) : W p l e R s m args below meth c H locs cells slots Q (F0 m pc ls (.ref y :: rest)) := by
  obtain ⟨k, hk, rfl, rfl⟩ := hB
  obtain ⟨cell, q1, q2, q3, q4⟩ := (hF.2.2.2.2.kept hS.2.1).1 k hk
  exact va_castE X.1 X.2.1 X.2.2.2.2.2.1 (X.2.2.2.2.2.2.1 _ hlink) ⟨cell, q1, q2, q3⟩ hdg kk
