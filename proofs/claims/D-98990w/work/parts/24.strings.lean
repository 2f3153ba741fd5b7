/-! the words' length, letters -/
theorem plain_J3 : plainName RJ3 = true := by decide +kernel
theorem plain_J4 : plainName RJ4 = true := by decide +kernel
section STR
variable {p : Program} {l : Launch} {e : Env} {R : Room} {s : State} {m : MethodId} {args : Array Value} {below : List Frame} {meth : Method} {c : Code} {H : Heap} {locs : List Loc} {cells slots : Nat} {Q : State → Prop}
variable {A : Nat → Prop} {own : String} {cc : ByteArray} {nL : Nat} {ret : Option FieldType} {g : gG} {z : Nat → Nat} {ls : Array Slot} {st0 rest : List Value} {pc : Nat}
variable {y : MethodName} {cy : ByteArray} {nLy : Nat} {rety : Option FieldType} {rmy : Room} {b : Nat} {As : List Value} {w w' wf : va_W} {rv : Option Value} {C : String} {index n : Nat} {mc ms : Nat}
theorem zSi {r : Int32} (X : Cx p s m meth c args own cc nL ret g A) (hG9 : XG z A s s.heap) (hM : CZ l y (ws_ y cy nLy rety) rmy g z As [] (some (.int r)) [] 0 0) (hG : GoodIn lw_all (va_wsS own index y (ws_ y cy nLy rety))) (hd : Dy y C n) (hR : Ry rmy R nLy 0 0) (hP : va_P g.1 vwCl w H) (hD : va_D A w) (hS : va_S A s.heap H locs) (hl : ls.size = nL) (hn : As.length = n) (hst : st0 = As.reverse ++ rest) (hf : cells ≤ R.cells ∧ slots ≤ R.slots) (hw : (rest.map fun v => v.category).sum ≤ 8) (hdg : decode cc pc = .ok (.invokestatic index, 3))
    (kk : ∀ (H1 : Heap) (locs1 : List Loc), va_P g.1 vwCl w H1 → va_D A w → va_S A s.heap H1 locs1 → W p l e R s m args below meth c H1 locs1 cells slots Q (F0 m (pc + 3) ls (.int r :: rest))) : W p l e R s m args below meth c H locs cells slots Q (F0 m pc ls st0) :=
  zS0 (w := []) (wf := w) X hG9 hM hG hd hR hf hP hD hS hn hl hst hw hdg kk
theorem zSv (X : Cx p s m meth c args own cc nL ret g A) (hG9 : XG z A s s.heap) (hM : CZ l y (ws_ y cy nLy rety) rmy g z As [] none [] 0 0) (hG : GoodIn lw_all (va_wsS own index y (ws_ y cy nLy rety))) (hd : Dy y C n) (hR : Ry rmy R nLy 0 0) (hP : va_P g.1 vwCl w H) (hD : va_D A w) (hS : va_S A s.heap H locs) (hl : ls.size = nL) (hn : As.length = n) (hst : st0 = As.reverse ++ rest) (hf : cells ≤ R.cells ∧ slots ≤ R.slots) (hw : (rest.map fun v => v.category).sum ≤ 8) (hdg : decode cc pc = .ok (.invokestatic index, 3))
    (kk : ∀ (H1 : Heap) (locs1 : List Loc), va_P g.1 vwCl w H1 → va_D A w → va_S A s.heap H1 locs1 → W p l e R s m args below meth c H1 locs1 cells slots Q (F0 m (pc + 3) ls rest)) : W p l e R s m args below meth c H locs cells slots Q (F0 m pc ls st0) :=
  zS0 (w := []) (wf := w) X hG9 hM hG hd hR hf hP hD hS hn hl hst hw hdg kk
/-- a word's own method that answers a number -/
theorem zWi {r : Int32} {k : Nat} (hk : k < 34) (X : Cx p s m meth c args own cc nL ret g A) (hG9 : XG z A s s.heap) (hM : CZ l y (ws_ y cy nLy rety) rmy g z (.ref (z (100 + k)) :: As) [] (some (.int r)) [] 0 0) (hG : GoodIn lw_all (wsV own index "java/lang/String" y (ws_ y cy nLy rety))) (hd : Dy y "java/lang/String" n) (hR : Ry rmy R nLy 0 0) (hP : va_P g.1 vwCl w H) (hD : va_D A w) (hS : va_S A s.heap H locs) (hl : ls.size = nL) (hn : As.length = n) (hst : st0 = As.reverse ++ .ref (z (100 + k)) :: rest) (hf : cells ≤ R.cells ∧ slots ≤ R.slots) (hw : (rest.map fun v => v.category).sum ≤ 8) (hdg : decode cc pc = .ok (.invokevirtual index, 3))
    (kk : ∀ (H1 : Heap) (locs1 : List Loc), va_P g.1 vwCl w H1 → va_D A w → va_S A s.heap H1 locs1 → W p l e R s m args below meth c H1 locs1 cells slots Q (F0 m (pc + 3) ls (.int r :: rest))) : W p l e R s m args below meth c H locs cells slots Q (F0 m pc ls st0) :=
  zV0 (w := []) (wf := w) X hG9 hM hG hd hR hf hP hD hS (vk_recv (adK := fun k => z (100 + k)) hG9.2.2.1.2.2.2.2 hk hS) hn hl hst hw hdg kk
end STR
theorem xWl_lt : ∀ k : Nat, k < 34 → xWl.getD k 0 < 20 := by decide
def xCh (k i : Nat) : Int32 := (xWb.getD k []).getD i 0
theorem xCh_ok : ∀ k : Nat, k < 34 → ∀ i : Nat, i < 20 → ((xCh k i &&& 255).toUInt32 % 65536).toInt32 = xCh k i := by unfold xCh; decide +kernel
theorem met_coder {l : Launch} {g : gG} {z : Nat → Nat} {k : Nat} (hk : k < 34) : CZ l yJ3_coder (ws_ yJ3_coder cJ3_coder 1 (some .byte)) ({ frames := 0, cells := 0, slots := 0, locals := 0 } : Room) g z [.ref (z (100 + k))] ([] : va_W) (some (.int 0)) ([] : va_W) 0 0 := by
  refine CZ.ofI RJ3 rfl plain_J3 (Nat.le_of_ble_eq_true rfl) (fun p e s m below meth cd A ls hnm X hG hP hD hS hl => ?_)
  have hx := X.1
  have hb := X.2.1
  have hown := X.2.2.2.2.2.1
  have hts := X.2.2.2.2.2.2.1
  have hl : lv_has ls 1 [(0, .ref (z (100 + k)))] := hl
  have hS5 := hG.2.2.1.2.2.2.2
  refine va_gets (v := .int 1) hx hb hG.2.2.2.2.1.1 hS hown (hts _ q450) (fun _ h9 => h9) dJ3_coder_0 ?_
  refine lv_if_eq (tgt := 13) hx hb dJ3_coder_3 (by decide) (fun q => absurd q (by decide)) (fun _ => ?_)
  refine lv_aload_n hx hb dJ3_coder_6 rfl (lv_at hl 0 rfl) ?_
  refine vk_getf hx hb (hS5.1 k hk).2.1 hS hown (hts _ q2106) (fun _ h9 => h9) dJ3_coder_7 ?_
  refine lv_goto (tgt := 14) hx hb dJ3_coder_10 (by decide) ?_
  exact W.widen (Nat.le_refl _) (Nat.le_refl _) (W.zret X.1 X.2.1 X.2.2.1 (ty := .byte) rfl (fun t ht hW => ⟨⟨rfl, by rw [ht]; exact hP, va_K.moved hW.alike X.2.2.2.2.2.2.2.2, hD⟩, hS.F ht⟩) hS.2.2 dJ3_coder_14 X.2.2.2.1)
theorem met_isLatin1 {l : Launch} {g : gG} {z : Nat → Nat} {k : Nat} (hk : k < 34) : CZ l yJ3_isLatin1 (ws_ yJ3_isLatin1 cJ3_isLatin1 1 (some .boolean)) ({ frames := 0, cells := 0, slots := 0, locals := 0 } : Room) g z [.ref (z (100 + k))] ([] : va_W) (some (.int 1)) ([] : va_W) 0 0 := by
  refine CZ.ofI RJ3 rfl plain_J3 (Nat.le_of_ble_eq_true rfl) (fun p e s m below meth cd A ls hnm X hG hP hD hS hl => ?_)
  have hx := X.1
  have hb := X.2.1
  have hown := X.2.2.2.2.2.1
  have hts := X.2.2.2.2.2.2.1
  have hl : lv_has ls 1 [(0, .ref (z (100 + k)))] := hl
  have hS5 := hG.2.2.1.2.2.2.2
  refine va_gets (v := .int 1) hx hb hG.2.2.2.2.1.1 hS hown (hts _ q450) (fun _ h9 => h9) dJ3_isLatin1_0 ?_
  refine lv_if_eq (tgt := 17) hx hb dJ3_isLatin1_3 (by decide) (fun q => absurd q (by decide)) (fun _ => ?_)
  refine lv_aload_n hx hb dJ3_isLatin1_6 rfl (lv_at hl 0 rfl) ?_
  refine vk_getf hx hb (hS5.1 k hk).2.1 hS hown (hts _ q2106) (fun _ h9 => h9) dJ3_isLatin1_7 ?_
  refine lv_if_ne (tgt := 17) hx hb dJ3_isLatin1_10 (by decide) (fun q => absurd rfl q) (fun _ => ?_)
  refine lv_iconst (v := 1) hx hb dJ3_isLatin1_13 (by decide) ?_
  refine lv_goto (tgt := 18) hx hb dJ3_isLatin1_14 (by decide) ?_
  exact rZ X rfl hP hD hS dJ3_isLatin1_18
theorem gw_J3_J3_coder : GoodIn lw_all (wsV RJ3 335 RJ3 yJ3_coder (ws_ yJ3_coder cJ3_coder 1 (some .byte))) := lw_V q446 q447 q448 q154 q449
theorem dy_J3_coder : Dy yJ3_coder RJ3 0 := by decide +kernel
theorem xWl_shr : ∀ k : Nat, k < 34 → nI (xWl.getD k 0) >>> (0 &&& 31) = nI (xWl.getD k 0) := by decide +kernel
theorem met_length {l : Launch} {g : gG} {z : Nat → Nat} {k : Nat} (hk : k < 34) : CZ l yJ3_length (ws_ yJ3_length cJ3_length 1 (some .int)) ({ frames := 1, cells := 0, slots := 0, locals := 20 } : Room) g z [.ref (z (100 + k))] ([] : va_W) (some (.int (nI (xWl.getD k 0)))) ([] : va_W) 0 0 := by
  refine CZ.ofI RJ3 rfl plain_J3 (Nat.le_of_ble_eq_true rfl) (fun p e s m below meth cd A ls hnm X hG hP hD hS hl => ?_)
  have hx := X.1
  have hb := X.2.1
  have hown := X.2.2.2.2.2.1
  have hts := X.2.2.2.2.2.2.1
  have hl : lv_has ls 1 [(0, .ref (z (100 + k)))] := hl
  have hS5 := hG.2.2.1.2.2.2.2
  refine lv_aload_n hx hb dJ3_length_0 rfl (lv_at hl 0 rfl) ?_
  refine vk_getf hx hb (hS5.1 k hk).2.2.1 hS hown (hts _ q2105) (fun _ h9 => h9) dJ3_length_1 ?_
  refine va_tlen hx hb (hS5.1 k hk).2.2.2 hS (v := nI (xWl.getD k 0)) rfl dJ3_length_4 ?_
  refine lv_aload_n hx hb dJ3_length_5 rfl (lv_at hl 0 rfl) ?_
  refine zWi (rest := [.int (nI (xWl.getD k 0))]) hk X hG (met_coder (g := g) hk) gw_J3_J3_coder dy_J3_coder ⟨⟨rfl, rfl⟩, Nat.le_of_ble_eq_true rfl, Nat.le_of_ble_eq_true rfl⟩ hP hD hS hl.1 rfl rfl ⟨Nat.zero_le _, Nat.zero_le _⟩ (Nat.le_of_ble_eq_true rfl) dJ3_length_6 (fun H locs hP hD hS => ?_)
  refine lv_ishr hx hb dJ3_length_9 ?_
  refine tpi (y := nI (xWl.getD k 0)) (xWl_shr k hk).symm ?_
  exact rI X hP hD hS dJ3_length_10
theorem gs_J3_J5_checkIndex : GoodIn lw_all (va_wsS RJ3 1059 yJ5_checkIndex (ws_ yJ5_checkIndex cJ5_checkIndex 3 (some .int))) := lw_S q468 q469 q156 q470
theorem met_checkIndexR {l : Launch} {g : gG} {i n : Int32} {t9 : Nat} (h0 : ¬ i < 0) (h1 : i < n) : CC l yJ5_checkIndex (ws_ yJ5_checkIndex cJ5_checkIndex 3 (some .int)) ({ frames := 0, cells := 0, slots := 0, locals := 0 } : Room) g [.int i, .int n, .ref t9] [] (some (.int i)) [] 0 0 := by
  refine CC.of RJ5 rfl plain_J5 (Nat.le_of_ble_eq_true rfl) (fun p e s m below meth c A ls X hP hD hS hl => ?_)
  have hx := X.1
  have hb := X.2.1
  have hl : lv_has ls 3 [(0, .int i), (1, .int n), (2, .ref t9)] := hl
  refine lv_iload_n hx hb dJ5_checkIndex_0 rfl (lv_at hl 0 rfl) ?_
  refine lv_if_lt (tgt := 9) hx hb dJ5_checkIndex_1 (by decide) (fun q => absurd q h0) (fun _ => ?_)
  refine lv_iload_n hx hb dJ5_checkIndex_4 rfl (lv_at hl 0 rfl) ?_
  refine lv_iload_n hx hb dJ5_checkIndex_5 rfl (lv_at hl 1 rfl) ?_
  refine lv_icmp_lt (tgt := 16) hx hb dJ5_checkIndex_6 (by decide) (fun _ => ?_) (fun q => absurd h1 q)
  refine lv_iload_n hx hb dJ5_checkIndex_16 rfl (lv_at hl 0 rfl) ?_
  exact rI X hP hD hS dJ5_checkIndex_17
theorem met_checkIndexS {l : Launch} {g : gG} {z : Nat → Nat} {i n : Int32} (h0 : ¬ i < 0) (h1 : i < n) : CZ l yJ3_checkIndex (ws_ yJ3_checkIndex cJ3_checkIndex 2 none) ({ frames := 1, cells := 0, slots := 0, locals := 30 } : Room) g z [.int i, .int n] ([] : va_W) none ([] : va_W) 0 0 := by
  refine CZ.ofI RJ3 rfl plain_J3 (Nat.le_of_ble_eq_true rfl) (fun p e s m below meth cd A ls hnm X hG hP hD hS hl => ?_)
  have hx := X.1
  have hb := X.2.1
  have hown := X.2.2.2.2.2.1
  have hts := X.2.2.2.2.2.2.1
  have hl : lv_has ls 2 [(0, .int i), (1, .int n)] := hl
  have hS5 := hG.2.2.1.2.2.2.2
  refine lv_iload_n hx hb dJ3_checkIndex_0 rfl (lv_at hl 0 rfl) ?_
  refine lv_iload_n hx hb dJ3_checkIndex_1 rfl (lv_at hl 1 rfl) ?_
  rcases hG.2.2.2.2.1.2.1 with hz | ⟨t9, hz⟩
  · refine va_gets (v := .null) hx hb hz hS hown (hts _ q466) (fun _ h9 => h9) dJ3_checkIndex_2 ?_
    refine cSi (rest := []) X (met_checkIndexP (g := g) h0 h1) gs_J3_J5_checkIndex dy_J5_checkIndex ⟨⟨rfl, rfl⟩, Nat.le_of_ble_eq_true rfl, Nat.le_of_ble_eq_true rfl⟩ hP hD hS hl.1 rfl rfl ⟨Nat.zero_le _, Nat.zero_le _⟩ (Nat.le_of_ble_eq_true rfl) dJ3_checkIndex_5 (fun H locs hP hD hS => ?_)
    refine lv_pop hx hb dJ3_checkIndex_8 rfl ?_
    exact rV X hP hD hS dJ3_checkIndex_9
  · refine va_gets (v := .ref t9) hx hb hz hS hown (hts _ q466) (fun _ h9 => h9) dJ3_checkIndex_2 ?_
    refine cSi (rest := []) X (met_checkIndexR (g := g) h0 h1) gs_J3_J5_checkIndex dy_J5_checkIndex ⟨⟨rfl, rfl⟩, Nat.le_of_ble_eq_true rfl, Nat.le_of_ble_eq_true rfl⟩ hP hD hS hl.1 rfl rfl ⟨Nat.zero_le _, Nat.zero_le _⟩ (Nat.le_of_ble_eq_true rfl) dJ3_checkIndex_5 (fun H locs hP hD hS => ?_)
    refine lv_pop hx hb dJ3_checkIndex_8 rfl ?_
    exact rV X hP hD hS dJ3_checkIndex_9
theorem gs_J4_J3_checkIndex : GoodIn lw_all (va_wsS RJ4 9 yJ3_checkIndex (ws_ yJ3_checkIndex cJ3_checkIndex 2 none)) := lw_S q463 q464 q154 q465
theorem dy_J3_checkIndex : Dy yJ3_checkIndex RJ3 2 := by decide +kernel
theorem xCh_nar : ∀ k : Nat, k < 34 → ∀ i : Nat, i < 20 → narrow .char (.int (xCh k i)) = .int (xCh k i) := by unfold xCh; decide +kernel
theorem met_charAt1 {l : Launch} {g : gG} {z : Nat → Nat} {k : Nat} {i : Int32} (hk : k < 34) (hi : vp_in i (xWl.getD k 0)) : CZ l yJ4_charAt (ws_ yJ4_charAt cJ4_charAt 2 (some .char)) ({ frames := 2, cells := 0, slots := 0, locals := 60 } : Room) g z [.ref (z (200 + k)), .int i] ([] : va_W) (some (.int (xCh k i.toNatClampNeg))) ([] : va_W) 0 0 := by
  refine CZ.ofI RJ4 rfl plain_J4 (Nat.le_of_ble_eq_true rfl) (fun p e s m below meth cd A ls hnm X hG hP hD hS hl => ?_)
  have hx := X.1
  have hb := X.2.1
  have hown := X.2.2.2.2.2.1
  have hts := X.2.2.2.2.2.2.1
  have hl : lv_has ls 2 [(0, .ref (z (200 + k))), (1, .int i)] := hl
  have hS5 := hG.2.2.1.2.2.2.2
  have hlen := xWl_lt k hk
  obtain ⟨h0, h1, -⟩ := vpn hi (Nat.le_refl _) (by omega)
  refine lv_iload_n hx hb dJ4_charAt_0 rfl (lv_at hl 1 rfl) ?_
  refine lv_aload_n hx hb dJ4_charAt_1 rfl (lv_at hl 0 rfl) ?_
  refine va_tlen hx hb (hS5.1 k hk).2.2.2 hS (v := nI (xWl.getD k 0)) rfl dJ4_charAt_2 ?_
  refine zSv (rest := []) X hG (met_checkIndexS (g := g) h0 h1) gs_J4_J3_checkIndex dy_J3_checkIndex ⟨⟨rfl, rfl⟩, Nat.le_of_ble_eq_true rfl, Nat.le_of_ble_eq_true rfl⟩ hP hD hS hl.1 rfl rfl ⟨Nat.zero_le _, Nat.zero_le _⟩ (Nat.le_of_ble_eq_true rfl) dJ4_charAt_3 (fun H locs hP hD hS => ?_)
  refine lv_aload_n hx hb dJ4_charAt_6 rfl (lv_at hl 0 rfl) ?_
  refine lv_iload_n hx hb dJ4_charAt_7 rfl (lv_at hl 1 rfl) ?_
  refine va_tb hx hb (hS5.1 k hk).2.2.2 hS hi (v := .int (xCh k i.toNatClampNeg)) rfl dJ4_charAt_8 ?_
  refine lv_sipush (v := 255) hx hb dJ4_charAt_9 (by decide) ?_
  refine lv_iand hx hb dJ4_charAt_12 ?_
  refine lv_i2c (v := xCh k i.toNatClampNeg) hx hb dJ4_charAt_13 (xCh_ok k hk _ (by have := vp_lt hi; omega)) ?_
  exact W.widen (Nat.le_refl _) (Nat.le_refl _) (W.zret X.1 X.2.1 X.2.2.1 (ty := .char) (xCh_nar k hk _ (by have := vp_lt hi; omega)) (fun t ht hW => ⟨⟨rfl, by rw [ht]; exact hP, va_K.moved hW.alike X.2.2.2.2.2.2.2.2, hD⟩, hS.F ht⟩) hS.2.2 dJ4_charAt_14 X.2.2.2.1)
theorem gw_J3_J3_isLatin1 : GoodIn lw_all (wsV RJ3 492 RJ3 yJ3_isLatin1 (ws_ yJ3_isLatin1 cJ3_isLatin1 1 (some .boolean))) := lw_V q456 q457 q458 q154 q459
theorem dy_J3_isLatin1 : Dy yJ3_isLatin1 RJ3 0 := by decide +kernel
theorem gs_J3_J4_charAt : GoodIn lw_all (va_wsS RJ3 495 yJ4_charAt (ws_ yJ4_charAt cJ4_charAt 2 (some .char))) := lw_S q460 q461 q155 q462
theorem dy_J4_charAt : Dy yJ4_charAt RJ4 2 := by decide +kernel
theorem met_charAt {l : Launch} {g : gG} {z : Nat → Nat} {k : Nat} {i : Int32} (hk : k < 34) (hi : vp_in i (xWl.getD k 0)) : CZ l yJ3_charAt (ws_ yJ3_charAt cJ3_charAt 2 (some .char)) ({ frames := 3, cells := 0, slots := 0, locals := 90 } : Room) g z [.ref (z (100 + k)), .int i] ([] : va_W) (some (.int (xCh k i.toNatClampNeg))) ([] : va_W) 0 0 := by
  refine CZ.ofI RJ3 rfl plain_J3 (Nat.le_of_ble_eq_true rfl) (fun p e s m below meth cd A ls hnm X hG hP hD hS hl => ?_)
  have hx := X.1
  have hb := X.2.1
  have hown := X.2.2.2.2.2.1
  have hts := X.2.2.2.2.2.2.1
  have hl : lv_has ls 2 [(0, .ref (z (100 + k))), (1, .int i)] := hl
  have hS5 := hG.2.2.1.2.2.2.2
  refine lv_aload_n hx hb dJ3_charAt_0 rfl (lv_at hl 0 rfl) ?_
  refine zWi (rest := []) hk X hG (met_isLatin1 (g := g) hk) gw_J3_J3_isLatin1 dy_J3_isLatin1 ⟨⟨rfl, rfl⟩, Nat.le_of_ble_eq_true rfl, Nat.le_of_ble_eq_true rfl⟩ hP hD hS hl.1 rfl rfl ⟨Nat.zero_le _, Nat.zero_le _⟩ (Nat.le_of_ble_eq_true rfl) dJ3_charAt_1 (fun H locs hP hD hS => ?_)
  refine lv_if_eq (tgt := 16) hx hb dJ3_charAt_4 (by decide) (fun q => absurd q (by decide)) (fun _ => ?_)
  refine lv_aload_n hx hb dJ3_charAt_7 rfl (lv_at hl 0 rfl) ?_
  refine vk_getf hx hb (hS5.1 k hk).2.2.1 hS hown (hts _ q2105) (fun _ h9 => h9) dJ3_charAt_8 ?_
  refine lv_iload_n hx hb dJ3_charAt_11 rfl (lv_at hl 1 rfl) ?_
  refine zSi (rest := []) X hG (met_charAt1 (g := g) hk hi) gs_J3_J4_charAt dy_J4_charAt ⟨⟨rfl, rfl⟩, Nat.le_of_ble_eq_true rfl, Nat.le_of_ble_eq_true rfl⟩ hP hD hS hl.1 rfl rfl ⟨Nat.zero_le _, Nat.zero_le _⟩ (Nat.le_of_ble_eq_true rfl) dJ3_charAt_12 (fun H locs hP hD hS => ?_)
  exact W.widen (Nat.le_refl _) (Nat.le_refl _) (W.zret X.1 X.2.1 X.2.2.1 (ty := .char) (xCh_nar k hk _ (by have := vp_lt hi; have := xWl_lt k hk; omega)) (fun t ht hW => ⟨⟨rfl, by rw [ht]; exact hP, va_K.moved hW.alike X.2.2.2.2.2.2.2.2, hD⟩, hS.F ht⟩) hS.2.2 dJ3_charAt_15 X.2.2.2.1)
