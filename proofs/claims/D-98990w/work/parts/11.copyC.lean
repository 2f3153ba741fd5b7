/-! State.copy of two rows, Arrays.fill: contracts and calls -/
theorem plain_X1 : plainName RX1 = true := by decide +kernel
theorem plain_X0 : plainName RX0 = true := by decide +kernel
theorem plain_J12 : plainName RJ12 = true := by decide +kernel
theorem plain_J15 : plainName RJ15 = true := by decide +kernel
theorem P_cell2 {g : gG} {H : Heap} {q : Nat × va_E} {b : Nat} {c : ClassId} {n : Nat} {f f2 : Nat → Int32} (hP : va_P g.1 vwCl [q, (b, .inl (c, n, .inl f))] H) (h : ∀ j, j < n → f j = f2 j) : va_P g.1 vwCl [q, (b, .inl (c, n, .inl f2))] H := by
  intro k r hk
  match k, hk with
  | 0, hk => exact hP 0 r hk
  | 1, hk =>
    cases hk
    have h1 : H[b]? = some (vp_cell c (n, .inl f)) := hP 1 _ rfl
    show H[b]? = some (vp_cell c (n, .inl f2))
    rw [h1, cell_eq h]
  | k + 2, hk => simp at hk
theorem P_cell1 {g : gG} {H : Heap} {b : Nat} {c : ClassId} {n : Nat} {f f2 : Nat → Int32} (hP : va_P g.1 vwCl [(b, .inl (c, n, .inl f))] H) (h : ∀ j, j < n → f j = f2 j) : va_P g.1 vwCl [(b, .inl (c, n, .inl f2))] H := by
  intro k r hk
  match k, hk with
  | 0, hk =>
    cases hk
    have h1 : H[b]? = some (vp_cell c (n, .inl f)) := hP 0 _ rfl
    show H[b]? = some (vp_cell c (n, .inl f2))
    rw [h1, cell_eq h]
  | k + 1, hk => simp at hk
theorem D_cell2 {A : Nat → Prop} {q : Nat × va_E} {b : Nat} {e e2 : va_E} (hD : va_D A [q, (b, e)]) : va_D A [q, (b, e2)] := hD.set (p := 1) (a := b) (e0 := e) (e := e2) rfl
theorem D_cell1 {A : Nat → Prop} {b : Nat} {e e2 : va_E} (hD : va_D A [(b, e)]) : va_D A [(b, e2)] := hD.set (p := 0) (a := b) (e0 := e) (e := e2) rfl
set_option maxHeartbeats 4000000 in
theorem met_copy {l : Launch} {g : gG} {ra rb n : Nat} {f f2 : Nat → Int32} (hn : n < 2 ^ 31) : CC l yX1_copy (ws_ yX1_copy cX1_copy 2 none) ({ frames := 1, cells := 0, slots := 0, locals := 18 } : Room) g [.ref ra, .ref rb] [(ra, .inl (g.2 0, n, .inl f)), (rb, .inl (g.2 0, n, .inl f2))] none [(ra, .inl (g.2 0, n, .inl f)), (rb, .inl (g.2 0, n, .inl f))] 0 0 := by
  refine CC.of RX1 rfl plain_X1 (Nat.le_of_ble_eq_true rfl) (fun p e s m below meth c A ls X hP hD hS hl => ?_)
  have hx := X.1
  have hb := X.2.1
  have hl : lv_has ls 2 [(0, .ref ra), (1, .ref rb)] := hl
  have hc : (Int32.ofNat n).toNatClampNeg = n := nI_clamp hn
  refine lv_aload_n hx hb dX1_copy_0 rfl (lv_at hl 0 rfl) ?_
  refine lv_iconst (v := 0) hx hb dX1_copy_1 (by decide) ?_
  refine lv_aload_n hx hb dX1_copy_2 rfl (lv_at hl 1 rfl) ?_
  refine lv_iconst (v := 0) hx hb dX1_copy_3 (by decide) ?_
  refine lv_aload_n hx hb dX1_copy_4 rfl (lv_at hl 0 rfl) ?_
  refine va_alen (v := Int32.ofNat n) hx hb X.2.2.2.2.2.2.2.2 hP 0 0 rfl rfl rfl dX1_copy_5 ?_
  refine rCpy X q252 hl.1 hP hD hS 0 1 rfl rfl rfl ⟨⟨by decide, by decide, nI_pos hn⟩, by rw [hc, show (0 : Int32).toNatClampNeg = 0 by decide]; omega, by rw [hc, show (0 : Int32).toNatClampNeg = 0 by decide]; omega⟩ rfl ⟨Nat.le_of_ble_eq_true rfl, Nat.le_of_ble_eq_true rfl⟩ dX1_copy_6 (fun H locs hP hD hS => ?_)
  refine rV X (P_cell2 hP (fun j hj => ?_)) (D_cell2 hD) hS dX1_copy_9
  rw [hc, show (0 : Int32).toNatClampNeg = 0 by decide]
  simp [va_cpy, hj]
set_option maxHeartbeats 4000000 in
theorem met_fill {l : Launch} {g : gG} {ra n : Nat} {v : Int32} {f : Nat → Int32} (hn : n < 2 ^ 31) : CC l yJ12_fill (ws_ yJ12_fill cJ12_fill 4 none) ({ frames := 0, cells := 0, slots := 0, locals := 0 } : Room) g [.ref ra, .int v] [(ra, .inl (g.2 0, n, .inl f))] none [(ra, .inl (g.2 0, n, .inl (fun _ => v)))] 0 0 := by
  refine CC.of RJ12 rfl plain_J12 (Nat.le_of_ble_eq_true rfl) (fun p e s m below meth c A ls X hP hD hS hl => ?_)
  have hx := X.1
  have hb := X.2.1
  have hl : lv_has ls 4 [(0, .ref ra), (1, .int v)] := hl
  refine lv_iconst (v := 0) hx hb dJ12_fill_0 (by decide) ?_
  refine lv_istore_n (lv' := [(2, .int 0), (0, .ref ra), (1, .int v)]) hx hb dJ12_fill_1 rfl hl (by decide) rfl (fun ls hl => ?_)
  refine lv_aload_n hx hb dJ12_fill_2 rfl (lv_at hl 1 rfl) ?_
  refine va_alen (v := Int32.ofNat n) hx hb X.2.2.2.2.2.2.2.2 hP 0 0 rfl rfl rfl dJ12_fill_3 ?_
  refine lv_istore_n (lv' := [(3, .int (Int32.ofNat n)), (2, .int 0), (0, .ref ra), (1, .int v)]) hx hb dJ12_fill_4 rfl hl (by decide) rfl (fun ls hl => ?_)
  have key : ∀ (d i : Nat) (f : Nat → Int32), i ≤ n → n - i = d → (∀ j, j < i → f j = v) → ∀ (H : Heap) (locs : List Loc) (ls : Array Slot), va_P g.1 vwCl [(ra, .inl (g.2 0, n, .inl f))] H → va_D A [(ra, .inl (g.2 0, n, .inl f))] → va_S A s.heap H locs → lv_has ls 4 [(3, .int (Int32.ofNat n)), (2, .int (nI i)), (0, .ref ra), (1, .int v)] →
      W p l e ({ frames := 0, cells := 0, slots := 0, locals := 0 } : Room) s m ([.ref ra, .int v] : List Value).toArray below meth c H locs 0 0 (MQ below (QQ g none [(ra, .inl (g.2 0, n, .inl (fun _ => v)))] A) ([.ref ra, .int v] : List Value).toArray s 0 0 A) (F0 m 5 ls []) := by
    intro d
    induction d with
    | zero =>
      intro i f hi hd hf H locs ls hP hD hS hl
      refine lv_iload_n hx hb dJ12_fill_5 rfl (lv_at hl 1 rfl) ?_
      refine lv_iload_n hx hb dJ12_fill_6 rfl (lv_at hl 0 rfl) ?_
      refine lv_icmp_ge (tgt := 20) hx hb dJ12_fill_7 (by decide) (fun _ => ?_) (fun q => ?_)
      · exact rV X (P_cell1 hP (fun j hj => hf j (by omega))) (D_cell1 hD) hS dJ12_fill_20
      · exact absurd (show nI n ≤ nI i from nI_le (by omega) (by omega)) q
    | succ d ih =>
      intro i f hi hd hf H locs ls hP hD hS hl
      refine lv_iload_n hx hb dJ12_fill_5 rfl (lv_at hl 1 rfl) ?_
      refine lv_iload_n hx hb dJ12_fill_6 rfl (lv_at hl 0 rfl) ?_
      refine lv_icmp_ge (tgt := 20) hx hb dJ12_fill_7 (by decide) (fun q => ?_) (fun _ => ?_)
      · exact absurd q (nI_ge (by omega) hn)
      · refine lv_aload_n hx hb dJ12_fill_10 rfl (lv_at hl 2 rfl) ?_
        refine lv_iload_n hx hb dJ12_fill_11 rfl (lv_at hl 1 rfl) ?_
        refine lv_iload_n hx hb dJ12_fill_12 rfl (lv_at hl 3 rfl) ?_
        refine va_iast hx hb X.2.2.2.2.2.2.2.2 hP hD hS 0 0 rfl rfl (vp_in_nI (by omega) hn) dJ12_fill_13 (fun H locs hP hD hS => ?_)
        refine lv_iinc (v := nI (i + 1)) (lv' := [(2, .int (nI (i + 1))), (3, .int (Int32.ofNat n)), (0, .ref ra), (1, .int v)]) hx hb dJ12_fill_14 hl (k := 1) rfl (nI_1 i) (by decide) rfl (fun ls hl => ?_)
        refine lv_goto (tgt := 5) hx hb dJ12_fill_17 (by decide) ?_
        refine ih (i + 1) (upd f (nI i).toNatClampNeg v) (by omega) (by omega) (fun j hj => ?_) H locs ls hP hD hS (lv_sub hl [1, 0, 2, 3] rfl)
        rw [nI_clamp (by omega)]
        by_cases e : j = i
        · subst e; simp [upd]
        · simp only [upd, if_neg e]; exact hf j (by omega)
  exact key n 0 f (Nat.zero_le _) (by omega) (fun j hj => by omega) _ _ _ hP hD hS hl
theorem dy_X1_copy : Dy yX1_copy RX1 2 := by decide +kernel
theorem dy_J12_fill : Dy yJ12_fill RJ12 2 := by decide +kernel
section COPYC
variable {p : Program} {l : Launch} {e : Env} {R : Room} {s : State} {m : MethodId} {args : Array Value} {below : List Frame} {meth : Method} {c : Code} {H : Heap} {locs : List Loc} {cells slots : Nat} {Q : State → Prop}
variable {A : Nat → Prop} {own : String} {cc : ByteArray} {nL : Nat} {ret : Option FieldType} {g : gG} {z : Nat → Nat} {ls : Array Slot} {st0 rest : List Value} {pc : Nat} {w w2 : va_W} {index : Nat}
theorem cCopy (X : Cx p s m meth c args own cc nL ret g A) (hlink : (Cond.methodLink own index yX1_copy) ∈ lw_all) (hl : ls.size = nL) (hP : va_P g.1 vwCl w H) (hD : va_D A w) (hS : va_S A s.heap H locs) {i j ra rb n : Nat} {f f2 : Nat → Int32} (hi : w[i]? = some (ra, .inl (g.2 0, n, .inl f))) (hj : w[j]? = some (rb, .inl (g.2 0, n, .inl f2))) (hij : i ≠ j) (hn : n < 2 ^ 31) (hset : w.set j (rb, .inl (g.2 0, n, .inl f)) = w2)
    (hR : 2 ≤ R.frames ∧ 39 ≤ R.locals) (hf : cells ≤ R.cells ∧ slots ≤ R.slots) (hw : (rest.map fun v => v.category).sum ≤ 8) (hdg : decode cc pc = .ok (.invokestatic index, 3))
    (kk : ∀ (H1 : Heap) (locs1 : List Loc), va_P g.1 vwCl w2 H1 → va_D A w2 → va_S A s.heap H1 locs1 → W p l e R s m args below meth c H1 locs1 cells slots Q (F0 m (pc + 3) ls rest)) : W p l e R s m args below meth c H locs cells slots Q (F0 m pc ls (.ref rb :: .ref ra :: rest)) := by
  subst hset
  exact run_sub X (va_runS (As := [.ref ra, .ref rb]) ⟨X.1, X.2.1, X.2.2.2.2.1, X.2.2.2.2.2.1, X.2.2.2.2.2.2.1⟩ (met_copy (g := g) hn H.size) (va_cwS 2 X.2.2.2.2.2.2.1 (lw_S hlink q250 q146 q251) rfl rfl rfl dy_X1_copy.2 ⟨hR.1, hR.2⟩) ⟨PreU.blind, CC.hp X (P_two hP hi hj) (D_two hD hi hj hij)⟩ rfl rfl hl rfl (lv_room hw) hdg hf) hP hD hS (in_two hi hj) (two_new hD hi hj hij) (set_adr hj rfl) kk
theorem cCopyN (X : Cx p s m meth c args RX0 cc nL ret g A) (hF : XF z A s s.heap) (k0 : Nat) {host : String} (hlink : xNest[k0]? = some (Cond.methodLinkNest RX0 index yX1_copy host)) (hl : ls.size = nL) (hP : va_P g.1 vwCl w H) (hD : va_D A w) (hS : va_S A s.heap H locs) {i j ra rb n : Nat} {f f2 : Nat → Int32} (hi : w[i]? = some (ra, .inl (g.2 0, n, .inl f))) (hj : w[j]? = some (rb, .inl (g.2 0, n, .inl f2))) (hij : i ≠ j) (hn : n < 2 ^ 31) (hset : w.set j (rb, .inl (g.2 0, n, .inl f)) = w2)
    (hR : 2 ≤ R.frames ∧ 39 ≤ R.locals) (hf : cells ≤ R.cells ∧ slots ≤ R.slots) (hw : (rest.map fun v => v.category).sum ≤ 8) (hdg : decode cc pc = .ok (.invokestatic index, 3))
    (kk : ∀ (H1 : Heap) (locs1 : List Loc), va_P g.1 vwCl w2 H1 → va_D A w2 → va_S A s.heap H1 locs1 → W p l e R s m args below meth c H1 locs1 cells slots Q (F0 m (pc + 3) ls rest)) : W p l e R s m args below meth c H locs cells slots Q (F0 m pc ls (.ref rb :: .ref ra :: rest)) := by
  subst hset
  exact run_sub X (va_runSN (As := [.ref ra, .ref rb]) ⟨X.1, X.2.1, X.2.2.2.2.1, X.2.2.2.2.2.1, X.2.2.2.2.2.2.1⟩ (met_copy (g := g) hn H.size) ⟨va_cnB 2 X.2.2.2.2.2.2.1 (lw_meth q251) rfl rfl rfl (hF.1 _ (List.mem_of_getElem? hlink)) (X.2.2.2.2.2.2.1 _ q146) dy_X1_copy.2 ⟨hR.1, hR.2⟩, X.2.2.2.2.2.2.1 _ q250, trivial⟩ ⟨PreU.blind, CC.hp X (P_two hP hi hj) (D_two hD hi hj hij)⟩ rfl rfl hl rfl (lv_room hw) hdg hf) hP hD hS (in_two hi hj) (two_new hD hi hj hij) (set_adr hj rfl) kk
theorem cFill (X : Cx p s m meth c args own cc nL ret g A) (hlink : (Cond.methodLink own index yJ12_fill) ∈ lw_all) (hl : ls.size = nL) (hP : va_P g.1 vwCl w H) (hD : va_D A w) (hS : va_S A s.heap H locs) {j rb n : Nat} {v : Int32} {f2 : Nat → Int32} (hj : w[j]? = some (rb, .inl (g.2 0, n, .inl f2))) (hn : n < 2 ^ 31) (hset : w.set j (rb, .inl (g.2 0, n, .inl (fun _ => v))) = w2)
    (hR : 1 ≤ R.frames ∧ 23 ≤ R.locals) (hf : cells ≤ R.cells ∧ slots ≤ R.slots) (hw : (rest.map fun v => v.category).sum ≤ 8) (hdg : decode cc pc = .ok (.invokestatic index, 3))
    (kk : ∀ (H1 : Heap) (locs1 : List Loc), va_P g.1 vwCl w2 H1 → va_D A w2 → va_S A s.heap H1 locs1 → W p l e R s m args below meth c H1 locs1 cells slots Q (F0 m (pc + 3) ls rest)) : W p l e R s m args below meth c H locs cells slots Q (F0 m pc ls (.int v :: .ref rb :: rest)) := by
  subst hset
  exact run_sub X (va_runS (As := [.ref rb, .int v]) ⟨X.1, X.2.1, X.2.2.2.2.1, X.2.2.2.2.2.1, X.2.2.2.2.2.2.1⟩ (met_fill (g := g) hn H.size) (va_cwS 2 X.2.2.2.2.2.2.1 (lw_S hlink q1236 q168 q1237) rfl rfl rfl dy_J12_fill.2 ⟨hR.1, hR.2⟩) ⟨PreU.blind, CC.hp X (P_one hP hj) (D_one hD hj)⟩ rfl rfl hl rfl (lv_room hw) hdg hf) hP hD hS (in_one hj) (one_new hD hj) (set_adr hj rfl) kk
end COPYC
