section CTORS
variable {p : Program} {l : Launch} {e : Env} {R : Room} {s : State} {m : MethodId} {args : Array Value} {below : List Frame} {meth : Method} {c : Code} {H : Heap} {locs : List Loc} {cells slots : Nat} {Q : State → Prop}
variable {A : Nat → Prop} {own : String} {cc : ByteArray} {nL : Nat} {ret : Option FieldType} {g : gG} {z : Nat → Nat} {ls : Array Slot} {st0 rest : List Value} {pc : Nat}
variable {y : MethodName} {cy : ByteArray} {nLy : Nat} {rmy : Room} {b : Nat} {As : List Value} {w w' wf : va_W} {C : String} {index n : Nat} {mc ms : Nat}
/-- a constructor's call that makes nothing -/
theorem cI (X : Cx p s m meth c args own cc nL ret g A) (hM : CC l y (ws_ y cy nLy none) rmy g (.ref b :: As) w none w' 0 0) (hG : GoodIn lw_all (ws_ y cy nLy none)) (hi : Cond.initialized y.cls ∈ lw_all) (hlk : Cond.methodLink own index y ∈ lw_all) (hin : Cond.instanceMethod y ∈ lw_all) (hd : Dy y C n ∧ y.name = "<init>") (hR : Ry rmy R nLy 0 0) (hf : cells ≤ R.cells ∧ slots ≤ R.slots) (hP : va_P g.1 vwCl (w ++ wf) H) (hD : va_D A (w ++ wf)) (hS : va_S A s.heap H locs) (hn : As.length = n) (hsz : ls.size = nL) (hst : st0 = As.reverse ++ .ref b :: rest) (hw : (rest.map fun v => v.category).sum ≤ 8) (hdg : decode cc pc = .ok (.invokespecial index, 3))
    (kk : ∀ (H1 : Heap) (locs1 : List Loc), va_P g.1 vwCl (w' ++ wf) H1 → va_D A (w' ++ wf) → va_S A s.heap H1 locs1 → W p l e R s m args below meth c H1 locs1 cells slots Q (F0 m (pc + 3) ls rest)) : W p l e R s m args below meth c H locs cells slots Q (F0 m pc ls st0) :=
  run_on X (va_runI ⟨X.1, X.2.1, X.2.2.2.2.1, X.2.2.2.2.2.1, X.2.2.2.2.2.2.1⟩ (hM H.size) (cwI n X.2.2.2.2.2.2.1 hG rfl hR.1.1 hR.1.2 (X.2.2.2.2.2.2.1 _ hi) (X.2.2.2.2.2.2.1 _ hlk) (X.2.2.2.2.2.2.1 _ hin) hd.2 hd.1.2 hR.2) ⟨PreU.blind, CC.hp X (P_left hP) (D_left hD)⟩ rfl hn hsz hst (lv_room hw) hdg hf) hP hD hS kk
/-- of a nest mate -/
theorem cIN (X : Cx p s m meth c args own cc nL ret g A) (hF : XF z A s s.heap) (j : Nat) (hM : CC l y (ws_ y cy nLy none) rmy g (.ref b :: As) w none w' 0 0) (hG : GoodIn lw_all (ws_ y cy nLy none)) (hi : Cond.initialized y.cls ∈ lw_all) {host : String} (hlk : xNest[j]? = some (Cond.methodLinkNest own index y host)) (hin : Cond.instanceMethod y ∈ lw_all) (hd : Dy y C n ∧ y.name = "<init>") (hR : Ry rmy R nLy 0 0) (hf : cells ≤ R.cells ∧ slots ≤ R.slots) (hP : va_P g.1 vwCl (w ++ wf) H) (hD : va_D A (w ++ wf)) (hS : va_S A s.heap H locs) (hn : As.length = n) (hsz : ls.size = nL) (hst : st0 = As.reverse ++ .ref b :: rest) (hw : (rest.map fun v => v.category).sum ≤ 8) (hdg : decode cc pc = .ok (.invokespecial index, 3))
    (kk : ∀ (H1 : Heap) (locs1 : List Loc), va_P g.1 vwCl (w' ++ wf) H1 → va_D A (w' ++ wf) → va_S A s.heap H1 locs1 → W p l e R s m args below meth c H1 locs1 cells slots Q (F0 m (pc + 3) ls rest)) : W p l e R s m args below meth c H locs cells slots Q (F0 m pc ls st0) :=
  run_on X (va_runIN ⟨X.1, X.2.1, X.2.2.2.2.1, X.2.2.2.2.2.1, X.2.2.2.2.2.2.1⟩ (hM H.size) ⟨va_cnB n X.2.2.2.2.2.2.1 hG rfl hR.1.1 hR.1.2 (hF.1 _ (List.mem_of_getElem? hlk)) (X.2.2.2.2.2.2.1 _ hi) hd.1.2 hR.2, hd.2, X.2.2.2.2.2.2.1 _ hin⟩ ⟨PreU.blind, CC.hp X (P_left hP) (D_left hD)⟩ rfl hn hsz hst (lv_room hw) hdg hf) hP hD hS kk
/-- a final field, in a constructor -/
theorem pFF {T : u_T} {N ci : Nat} (X : Cx p s m meth c args own cc nL ret g A) (hnm0 : meth.name = "<init>") (hin : ∀ w ∈ u_ws C T N, w ∈ lw_all) (ty0 : Nat → FieldType) (hty : ∀ k, k < N → parseFieldDescriptor (T k).2.2.1 = some (ty0 k)) (hnm : ∀ a, a < N → ∀ b, b < N → a ≠ b → (T a).2.1 ≠ (T b).2.1) (hP : va_P g.1 vwCl w H) (hD : va_D A w) (hS : va_S A s.heap H locs) (q0 : Nat) {fs : List Value} (he : w[q0]? = some (b, .inr (ci, fs))) (hc : vwCl[ci]? = some (C, T, N)) (k : Nat) (hk : k < N) (hlink : (Cond.fieldLink own index (T k).1 (T k).2.1 (T k).2.2.1) ∈ lw_all) (hfin : (T k).2.2.2 = true) (hdecl : (T k).1 = own) {v : Value} (hn : narrow (ty0 k) v = v) (hfit : fits (ty0 k) v = true) (hl : k < fs.length) (hw' : w.set q0 (b, .inr (ci, fs.set k v)) = w') (hdg : decode cc pc = .ok (.putfield index, 3))
    (kk : ∀ (H1 : Heap) (locs1 : List Loc), va_P g.1 vwCl w' H1 → va_D A w' → va_S A s.heap H1 locs1 → W p l e R s m args below meth c H1 locs1 cells slots Q (F0 m (pc + 3) ls rest)) : W p l e R s m args below meth c H locs cells slots Q (F0 m pc ls (v :: .ref b :: rest)) := by
  subst hw'
  exact va_putF X.1 X.2.1 X.2.2.2.2.2.2.1 hin ty0 hty hnm X.2.2.2.2.2.1 X.2.2.2.2.2.2.2.2 hP hD hS q0 he hc k hk (X.2.2.2.2.2.2.1 _ hlink) (fun _ h9 => h9) hfin hnm0 hdecl (hty k hk) hn hfit hl hdg kk
theorem rObj (X : Cx p s m meth c args own cc nL ret g A) (hl : ls.size = nL) (hlk : (Cond.methodLink own index Lib.objectInit) ∈ lw_all) (hR : 1 ≤ R.frames ∧ (rest.map fun v => v.category).sum + 13 ≤ R.locals) (hdg : decode cc pc = .ok (.invokespecial index, 3))
    (kk : W p l e R s m args below meth c H locs cells slots Q (F0 m (pc + 3) ls rest)) : W p l e R s m args below meth c H locs cells slots Q (F0 m pc ls (.ref b :: rest)) :=
  W.objInit X.1 X.2.1 X.2.2.2.2.2.1 (X.2.2.2.2.2.2.1 _ hlk) (X.2.2.2.2.2.2.1 _ q186) (X.2.2.2.2.2.2.1 _ q187) rfl (by rw [X.2.2.2.2.1]; exact hl) rfl hdg hR.1 (by show 2 * 0 + _ + 12 ≤ _; have := hR.2; omega) kk
end CTORS
theorem CC.ofI {l : Launch} {y : MethodName} {cc : ByteArray} {nL : Nat} {ret : Option FieldType} {rm : Room} {g : gG} {av : List Value} {w : va_W} {rv : Option Value} {w' : va_W} {mc ms : Nat} (own : String) (hyo : y.cls = own) (hy : plainName own = true) (hn : (lg_sl av).length ≤ nL)
    (body : ∀ (p : Program) (e : Env) (s : State) (m : MethodId) (below : List Frame) (meth : Method) (c : Code) (A : Nat → Prop) (ls : Array Slot), meth.name = y.name → Cx p s m meth c av.toArray own cc nL ret g A → va_P g.1 vwCl w s.heap → va_D A w → va_S A s.heap s.heap [] → lv_has ls nL (lv_args 0 av) → W p l e rm s m av.toArray below meth c s.heap [] 0 0 (MQ below (QQ g rv w' A) av.toArray s mc ms A) (F0 m 0 ls [])) : CC l y (ws_ y cc nL ret) rm g av w rv w' mc ms := by
  subst hyo
  intro sz
  refine Met.ofW (cc := cc) (maxL := nL) (ret := ret) hy rfl ?_
  intro p e s m args below meth c s₁ B hml hv
  obtain ⟨rfl, hsz, hP, hK, hD0⟩ := hv
  have hts := atoms_spec (ws := ws_ y cc nL ret) B.pre
  have hts : ∀ w ∈ lw_all, w.before _ s = true := fun w h => hts w (List.mem_cons_of_mem _ h)
  have hown : s.vm.findClass y.cls = some m.cls := findClass_of_methodNamed B.named
  subst hsz
  have hD := hD0.self (sz := s.heap.size)
  have hl := lv_entry av (n := nL) hn
  rw [lg_entry_eq]
  exact body p e s m below meth c _ _ (name_of_methodNamed B.named B.method).1 ⟨B.exec, B.bytes, B.returns, B.notSynchronized, hml, hown, hts, fun q h => Or.inr h, hK⟩ hP hD va_S.rf hl
theorem CY.ofI {l : Launch} {y : MethodName} {cc : ByteArray} {nL : Nat} {ret : Option FieldType} {rm : Room} {g : gG} {z : Nat → Nat} {av : List Value} {w : va_W} {po : Option Value → va_W → Prop} {px : Nat → va_W → Prop} {mc ms : Nat} (own : String) (hyo : y.cls = own) (hy : plainName own = true) (hn : (lg_sl av).length ≤ nL)
    (body : ∀ (p : Program) (e : Env) (s : State) (m : MethodId) (below : List Frame) (meth : Method) (c : Code) (A : Nat → Prop) (ls : Array Slot), meth.name = y.name → Cy p s m meth c av.toArray own cc nL ret g z A → va_P g.1 vwCl w s.heap → va_D A w → va_S A s.heap s.heap [] → lv_has ls nL (lv_args 0 av) → W p l e rm s m av.toArray below meth c s.heap [] 0 0 (vx_MQ below (QYr g po A) (XYr g px A) av.toArray s mc ms A) (F0 m 0 ls [])) : CY l y (ws_ y cc nL ret) rm g z av w po px mc ms := by
  subst hyo
  intro sz
  refine vx_ofW (cc := cc) (maxL := nL) (ret := ret) hy rfl ?_
  intro p e s m args below meth c s₁ B hml ht hv
  obtain ⟨rfl, ⟨hsz, hP, hK, hD0⟩, hF⟩ := hv
  have hts := atoms_spec (ws := ws_ y cc nL ret) B.pre
  have hts : ∀ w ∈ lw_all, w.before _ s = true := fun w h => hts w (List.mem_cons_of_mem _ h)
  have hown : s.vm.findClass y.cls = some m.cls := findClass_of_methodNamed B.named
  subst hsz
  have hD := hD0.self (sz := s.heap.size)
  have hl := lv_entry av (n := nL) hn
  rw [lg_entry_eq]
  exact body p e s m below meth c _ _ (name_of_methodNamed B.named B.method).1 ⟨⟨B.exec, B.bytes, B.returns, B.notSynchronized, hml, hown, hts, fun q h => Or.inr h, hK⟩, hF, ht⟩ hP hD va_S.rf hl
theorem plain_J10 : plainName RJ10 = true := by decide +kernel
theorem met_J10_init {l : Launch} {g : gG} {b : Nat} : CC l yJ10_init (ws_ yJ10_init cJ10_init 1 none) ({ frames := 1, cells := 0, slots := 0, locals := 20 } : Room) g [.ref b] ([] : va_W) none [] 0 0 := by
  refine CC.ofI RJ10 rfl plain_J10 (Nat.le_of_ble_eq_true rfl) (fun p e s m below meth c A ls hnm X hP hD hS hl => ?_)
  have hx := X.1
  have hb := X.2.1
  have hl : lv_has ls 1 [(0, .ref b)] := hl
  refine lv_aload_n hx hb dJ10_init_0 rfl (lv_at hl 0 rfl) ?_
  refine rObj (rest := []) X hl.1 q592 ⟨Nat.le_of_ble_eq_true rfl, Nat.le_of_ble_eq_true rfl⟩ dJ10_init_1 ?_
  exact rV X hP hD hS dJ10_init_4
theorem plain_J0 : plainName RJ0 = true := by decide +kernel
theorem met_J0_init {l : Launch} {g : gG} {b : Nat} : CC l yJ0_init (ws_ yJ0_init cJ0_init 1 none) ({ frames := 1, cells := 0, slots := 0, locals := 20 } : Room) g [.ref b] ([] : va_W) none [] 0 0 := by
  refine CC.ofI RJ0 rfl plain_J0 (Nat.le_of_ble_eq_true rfl) (fun p e s m below meth c A ls hnm X hP hD hS hl => ?_)
  have hx := X.1
  have hb := X.2.1
  have hl : lv_has ls 1 [(0, .ref b)] := hl
  refine lv_aload_n hx hb dJ0_init_0 rfl (lv_at hl 0 rfl) ?_
  refine rObj (rest := []) X hl.1 q400 ⟨Nat.le_of_ble_eq_true rfl, Nat.le_of_ble_eq_true rfl⟩ dJ0_init_1 ?_
  exact rV X hP hD hS dJ0_init_4
theorem plain_J14 : plainName RJ14 = true := by decide +kernel
theorem met_J14_init {l : Launch} {g : gG} {b : Nat} : CC l yJ14_init (ws_ yJ14_init cJ14_init 1 none) ({ frames := 1, cells := 0, slots := 0, locals := 20 } : Room) g [.ref b] ([] : va_W) none [] 0 0 := by
  refine CC.ofI RJ14 rfl plain_J14 (Nat.le_of_ble_eq_true rfl) (fun p e s m below meth c A ls hnm X hP hD hS hl => ?_)
  have hx := X.1
  have hb := X.2.1
  have hl : lv_has ls 1 [(0, .ref b)] := hl
  refine lv_aload_n hx hb dJ14_init_0 rfl (lv_at hl 0 rfl) ?_
  refine rObj (rest := []) X hl.1 q842 ⟨Nat.le_of_ble_eq_true rfl, Nat.le_of_ble_eq_true rfl⟩ dJ14_init_1 ?_
  exact rV X hP hD hS dJ14_init_4
theorem plain_J1 : plainName RJ1 = true := by decide +kernel
theorem dyi_J0_init : Dy yJ0_init RJ0 0 ∧ yJ0_init.name = "<init>" := ⟨by decide +kernel, rfl⟩
theorem met_J1_init {l : Launch} {g : gG} {b : Nat} {mc : Int32} {v1 v2 : Value} : CC l yJ1_init (ws_ yJ1_init cJ1_init 1 none) ({ frames := 2, cells := 0, slots := 0, locals := 60 } : Room) g [.ref b] [(b, .inr (17, [.int mc, v1, v2]))] none [(b, .inr (17, [.int 0, v1, v2]))] 0 0 := by
  refine CC.ofI RJ1 rfl plain_J1 (Nat.le_of_ble_eq_true rfl) (fun p e s m below meth c A ls hnm X hP hD hS hl => ?_)
  have hx := X.1
  have hb := X.2.1
  have hl : lv_has ls 1 [(0, .ref b)] := hl
  refine lv_aload_n hx hb dJ1_init_0 rfl (lv_at hl 0 rfl) ?_
  refine cI (rest := []) X (met_J0_init (g := g)) (lw_meth q399) q151 q397 q398 dyi_J0_init ⟨⟨rfl, rfl⟩, Nat.le_of_ble_eq_true rfl, Nat.le_of_ble_eq_true rfl⟩ ⟨Nat.zero_le _, Nat.zero_le _⟩ hP hD hS rfl hl.1 rfl (Nat.le_of_ble_eq_true rfl) dJ1_init_1 (fun H locs hP hD hS => ?_)
  refine lv_aload_n hx hb dJ1_init_4 rfl (lv_at hl 0 rfl) ?_
  refine lv_iconst (v := 0) hx hb dJ1_init_5 (by decide) ?_
  refine pF (w' := [(b, .inr (17, [.int 0, v1, v2]))]) X in_J2 tyJ2 tyJ2_ok nmJ2 hP hD hS 0 rfl rfl 0 (by decide) q405 rfl rfl rfl (Nat.le_of_ble_eq_true rfl) rfl dJ1_init_6 (fun H locs hP hD hS => ?_)
  exact rV X hP hD hS dJ1_init_9
theorem dyi_J10_init : Dy yJ10_init RJ10 0 ∧ yJ10_init.name = "<init>" := ⟨by decide +kernel, rfl⟩
theorem met_X7_init {l : Launch} {g : gG} {b : Nat} {a0 : Int32} {v0 : Value} : CC l yX7_init (ws_ yX7_init cX7_init 2 none) ({ frames := 2, cells := 0, slots := 0, locals := 60 } : Room) g [.ref b, .int a0] [(b, .inr (7, [v0]))] none [(b, .inr (7, [.int a0]))] 0 0 := by
  refine CC.ofI RX7 rfl plain_X7 (Nat.le_of_ble_eq_true rfl) (fun p e s m below meth c A ls hnm X hP hD hS hl => ?_)
  have hx := X.1
  have hb := X.2.1
  have hl : lv_has ls 2 [(0, .ref b), (1, .int a0)] := hl
  refine lv_aload_n hx hb dX7_init_0 rfl (lv_at hl 0 rfl) ?_
  refine cI (rest := []) X (met_J10_init (g := g)) (lw_meth q591) q163 q589 q590 dyi_J10_init ⟨⟨rfl, rfl⟩, Nat.le_of_ble_eq_true rfl, Nat.le_of_ble_eq_true rfl⟩ ⟨Nat.zero_le _, Nat.zero_le _⟩ hP hD hS rfl hl.1 rfl (Nat.le_of_ble_eq_true rfl) dX7_init_1 (fun H locs hP hD hS => ?_)
  refine lv_aload_n hx hb dX7_init_4 rfl (lv_at hl 0 rfl) ?_
  refine lv_iload_n hx hb dX7_init_5 rfl (lv_at hl 1 rfl) ?_
  refine pFF (w' := [(b, .inr (7, [.int a0]))]) X hnm in_X7 tyX7 tyX7_ok nmX7 hP hD hS 0 rfl rfl 0 (by decide) q593 rfl rfl rfl rfl (Nat.le_of_ble_eq_true rfl) rfl dX7_init_6 (fun H locs hP hD hS => ?_)
  exact rV X hP hD hS dX7_init_9
theorem met_X12_init {l : Launch} {g : gG} {b : Nat} {a0 : Int32} {v0 : Value} : CC l yX12_init (ws_ yX12_init cX12_init 2 none) ({ frames := 2, cells := 0, slots := 0, locals := 60 } : Room) g [.ref b, .int a0] [(b, .inr (12, [v0]))] none [(b, .inr (12, [.int a0]))] 0 0 := by
  refine CC.ofI RX12 rfl plain_X12 (Nat.le_of_ble_eq_true rfl) (fun p e s m below meth c A ls hnm X hP hD hS hl => ?_)
  have hx := X.1
  have hb := X.2.1
  have hl : lv_has ls 2 [(0, .ref b), (1, .int a0)] := hl
  refine lv_aload_n hx hb dX12_init_0 rfl (lv_at hl 0 rfl) ?_
  refine cI (rest := []) X (met_J10_init (g := g)) (lw_meth q591) q163 q772 q590 dyi_J10_init ⟨⟨rfl, rfl⟩, Nat.le_of_ble_eq_true rfl, Nat.le_of_ble_eq_true rfl⟩ ⟨Nat.zero_le _, Nat.zero_le _⟩ hP hD hS rfl hl.1 rfl (Nat.le_of_ble_eq_true rfl) dX12_init_1 (fun H locs hP hD hS => ?_)
  refine lv_aload_n hx hb dX12_init_4 rfl (lv_at hl 0 rfl) ?_
  refine lv_iload_n hx hb dX12_init_5 rfl (lv_at hl 1 rfl) ?_
  refine pFF (w' := [(b, .inr (12, [.int a0]))]) X hnm in_X12 tyX12 tyX12_ok nmX12 hP hD hS 0 rfl rfl 0 (by decide) q773 rfl rfl rfl rfl (Nat.le_of_ble_eq_true rfl) rfl dX12_init_6 (fun H locs hP hD hS => ?_)
  exact rV X hP hD hS dX12_init_9
theorem met_X15_init {l : Launch} {g : gG} {b : Nat} {a0 : Nat} {v0 : Value} : CC l yX15_init (ws_ yX15_init cX15_init 2 none) ({ frames := 2, cells := 0, slots := 0, locals := 60 } : Room) g [.ref b, .ref a0] [(b, .inr (15, [v0]))] none [(b, .inr (15, [.ref a0]))] 0 0 := by
  refine CC.ofI RX15 rfl plain_X15 (Nat.le_of_ble_eq_true rfl) (fun p e s m below meth c A ls hnm X hP hD hS hl => ?_)
  have hx := X.1
  have hb := X.2.1
  have hl : lv_has ls 2 [(0, .ref b), (1, .ref a0)] := hl
  refine lv_aload_n hx hb dX15_init_0 rfl (lv_at hl 0 rfl) ?_
  refine cI (rest := []) X (met_J10_init (g := g)) (lw_meth q591) q163 q802 q590 dyi_J10_init ⟨⟨rfl, rfl⟩, Nat.le_of_ble_eq_true rfl, Nat.le_of_ble_eq_true rfl⟩ ⟨Nat.zero_le _, Nat.zero_le _⟩ hP hD hS rfl hl.1 rfl (Nat.le_of_ble_eq_true rfl) dX15_init_1 (fun H locs hP hD hS => ?_)
  refine lv_aload_n hx hb dX15_init_4 rfl (lv_at hl 0 rfl) ?_
  refine lv_aload_n hx hb dX15_init_5 rfl (lv_at hl 1 rfl) ?_
  refine pFF (w' := [(b, .inr (15, [.ref a0]))]) X hnm in_X15 tyX15 tyX15_ok nmX15 hP hD hS 0 rfl rfl 0 (by decide) q803 rfl rfl rfl rfl (Nat.le_of_ble_eq_true rfl) rfl dX15_init_6 (fun H locs hP hD hS => ?_)
  exact rV X hP hD hS dX15_init_9
theorem met_X13_init {l : Launch} {g : gG} {b : Nat} {a0 : Nat} {v0 : Value} : CC l yX13_init (ws_ yX13_init cX13_init 2 none) ({ frames := 2, cells := 0, slots := 0, locals := 60 } : Room) g [.ref b, .ref a0] [(b, .inr (13, [v0]))] none [(b, .inr (13, [.ref a0]))] 0 0 := by
  refine CC.ofI RX13 rfl plain_X13 (Nat.le_of_ble_eq_true rfl) (fun p e s m below meth c A ls hnm X hP hD hS hl => ?_)
  have hx := X.1
  have hb := X.2.1
  have hl : lv_has ls 2 [(0, .ref b), (1, .ref a0)] := hl
  refine lv_aload_n hx hb dX13_init_0 rfl (lv_at hl 0 rfl) ?_
  refine cI (rest := []) X (met_J10_init (g := g)) (lw_meth q591) q163 q782 q590 dyi_J10_init ⟨⟨rfl, rfl⟩, Nat.le_of_ble_eq_true rfl, Nat.le_of_ble_eq_true rfl⟩ ⟨Nat.zero_le _, Nat.zero_le _⟩ hP hD hS rfl hl.1 rfl (Nat.le_of_ble_eq_true rfl) dX13_init_1 (fun H locs hP hD hS => ?_)
  refine lv_aload_n hx hb dX13_init_4 rfl (lv_at hl 0 rfl) ?_
  refine lv_aload_n hx hb dX13_init_5 rfl (lv_at hl 1 rfl) ?_
  refine pFF (w' := [(b, .inr (13, [.ref a0]))]) X hnm in_X13 tyX13 tyX13_ok nmX13 hP hD hS 0 rfl rfl 0 (by decide) q783 rfl rfl rfl rfl (Nat.le_of_ble_eq_true rfl) rfl dX13_init_6 (fun H locs hP hD hS => ?_)
  exact rV X hP hD hS dX13_init_9
theorem met_X14_init {l : Launch} {g : gG} {b : Nat} {a0 : Nat} {v0 : Value} : CC l yX14_init (ws_ yX14_init cX14_init 2 none) ({ frames := 2, cells := 0, slots := 0, locals := 60 } : Room) g [.ref b, .ref a0] [(b, .inr (14, [v0]))] none [(b, .inr (14, [.ref a0]))] 0 0 := by
  refine CC.ofI RX14 rfl plain_X14 (Nat.le_of_ble_eq_true rfl) (fun p e s m below meth c A ls hnm X hP hD hS hl => ?_)
  have hx := X.1
  have hb := X.2.1
  have hl : lv_has ls 2 [(0, .ref b), (1, .ref a0)] := hl
  refine lv_aload_n hx hb dX14_init_0 rfl (lv_at hl 0 rfl) ?_
  refine cI (rest := []) X (met_J10_init (g := g)) (lw_meth q591) q163 q792 q590 dyi_J10_init ⟨⟨rfl, rfl⟩, Nat.le_of_ble_eq_true rfl, Nat.le_of_ble_eq_true rfl⟩ ⟨Nat.zero_le _, Nat.zero_le _⟩ hP hD hS rfl hl.1 rfl (Nat.le_of_ble_eq_true rfl) dX14_init_1 (fun H locs hP hD hS => ?_)
  refine lv_aload_n hx hb dX14_init_4 rfl (lv_at hl 0 rfl) ?_
  refine lv_aload_n hx hb dX14_init_5 rfl (lv_at hl 1 rfl) ?_
  refine pFF (w' := [(b, .inr (14, [.ref a0]))]) X hnm in_X14 tyX14 tyX14_ok nmX14 hP hD hS 0 rfl rfl 0 (by decide) q793 rfl rfl rfl rfl (Nat.le_of_ble_eq_true rfl) rfl dX14_init_6 (fun H locs hP hD hS => ?_)
  exact rV X hP hD hS dX14_init_9
theorem met_X11_init {l : Launch} {g : gG} {b : Nat} {a0 : Nat} {a1 : Nat} {a2 : Nat} {v0 : Value} {v1 : Value} {v2 : Value} : CC l yX11_init (ws_ yX11_init cX11_init 4 none) ({ frames := 2, cells := 0, slots := 0, locals := 60 } : Room) g [.ref b, .ref a0, .ref a1, .ref a2] [(b, .inr (11, [v0, v1, v2]))] none [(b, .inr (11, [.ref a0, .ref a1, .ref a2]))] 0 0 := by
  refine CC.ofI RX11 rfl plain_X11 (Nat.le_of_ble_eq_true rfl) (fun p e s m below meth c A ls hnm X hP hD hS hl => ?_)
  have hx := X.1
  have hb := X.2.1
  have hl : lv_has ls 4 [(0, .ref b), (1, .ref a0), (2, .ref a1), (3, .ref a2)] := hl
  refine lv_aload_n hx hb dX11_init_0 rfl (lv_at hl 0 rfl) ?_
  refine cI (rest := []) X (met_J10_init (g := g)) (lw_meth q591) q163 q746 q590 dyi_J10_init ⟨⟨rfl, rfl⟩, Nat.le_of_ble_eq_true rfl, Nat.le_of_ble_eq_true rfl⟩ ⟨Nat.zero_le _, Nat.zero_le _⟩ hP hD hS rfl hl.1 rfl (Nat.le_of_ble_eq_true rfl) dX11_init_1 (fun H locs hP hD hS => ?_)
  refine lv_aload_n hx hb dX11_init_4 rfl (lv_at hl 0 rfl) ?_
  refine lv_aload_n hx hb dX11_init_5 rfl (lv_at hl 1 rfl) ?_
  refine pFF (w' := [(b, .inr (11, [.ref a0, v1, v2]))]) X hnm in_X11 tyX11 tyX11_ok nmX11 hP hD hS 0 rfl rfl 0 (by decide) q747 rfl rfl rfl rfl (Nat.le_of_ble_eq_true rfl) rfl dX11_init_6 (fun H locs hP hD hS => ?_)
  refine lv_aload_n hx hb dX11_init_9 rfl (lv_at hl 0 rfl) ?_
  refine lv_aload_n hx hb dX11_init_10 rfl (lv_at hl 2 rfl) ?_
  refine pFF (w' := [(b, .inr (11, [.ref a0, .ref a1, v2]))]) X hnm in_X11 tyX11 tyX11_ok nmX11 hP hD hS 0 rfl rfl 1 (by decide) q748 rfl rfl rfl rfl (Nat.le_of_ble_eq_true rfl) rfl dX11_init_11 (fun H locs hP hD hS => ?_)
  refine lv_aload_n hx hb dX11_init_14 rfl (lv_at hl 0 rfl) ?_
  refine lv_aload_n hx hb dX11_init_15 rfl (lv_at hl 3 rfl) ?_
  refine pFF (w' := [(b, .inr (11, [.ref a0, .ref a1, .ref a2]))]) X hnm in_X11 tyX11 tyX11_ok nmX11 hP hD hS 0 rfl rfl 2 (by decide) q749 rfl rfl rfl rfl (Nat.le_of_ble_eq_true rfl) rfl dX11_init_16 (fun H locs hP hD hS => ?_)
  exact rV X hP hD hS dX11_init_19
theorem met_X9_init {l : Launch} {g : gG} {b : Nat} {a0 : Int32} {a1 : Nat} {a2 : Nat} {v0 : Value} {v1 : Value} {v2 : Value} : CC l yX9_init (ws_ yX9_init cX9_init 4 none) ({ frames := 2, cells := 0, slots := 0, locals := 60 } : Room) g [.ref b, .int a0, .ref a1, .ref a2] [(b, .inr (9, [v0, v1, v2]))] none [(b, .inr (9, [.int a0, .ref a1, .ref a2]))] 0 0 := by
  refine CC.ofI RX9 rfl plain_X9 (Nat.le_of_ble_eq_true rfl) (fun p e s m below meth c A ls hnm X hP hD hS hl => ?_)
  have hx := X.1
  have hb := X.2.1
  have hl : lv_has ls 4 [(0, .ref b), (1, .int a0), (2, .ref a1), (3, .ref a2)] := hl
  refine lv_aload_n hx hb dX9_init_0 rfl (lv_at hl 0 rfl) ?_
  refine cI (rest := []) X (met_J10_init (g := g)) (lw_meth q591) q163 q634 q590 dyi_J10_init ⟨⟨rfl, rfl⟩, Nat.le_of_ble_eq_true rfl, Nat.le_of_ble_eq_true rfl⟩ ⟨Nat.zero_le _, Nat.zero_le _⟩ hP hD hS rfl hl.1 rfl (Nat.le_of_ble_eq_true rfl) dX9_init_1 (fun H locs hP hD hS => ?_)
  refine lv_aload_n hx hb dX9_init_4 rfl (lv_at hl 0 rfl) ?_
  refine lv_iload_n hx hb dX9_init_5 rfl (lv_at hl 1 rfl) ?_
  refine pFF (w' := [(b, .inr (9, [.int a0, v1, v2]))]) X hnm in_X9 tyX9 tyX9_ok nmX9 hP hD hS 0 rfl rfl 0 (by decide) q635 rfl rfl rfl rfl (Nat.le_of_ble_eq_true rfl) rfl dX9_init_6 (fun H locs hP hD hS => ?_)
  refine lv_aload_n hx hb dX9_init_9 rfl (lv_at hl 0 rfl) ?_
  refine lv_aload_n hx hb dX9_init_10 rfl (lv_at hl 2 rfl) ?_
  refine pFF (w' := [(b, .inr (9, [.int a0, .ref a1, v2]))]) X hnm in_X9 tyX9 tyX9_ok nmX9 hP hD hS 0 rfl rfl 1 (by decide) q636 rfl rfl rfl rfl (Nat.le_of_ble_eq_true rfl) rfl dX9_init_11 (fun H locs hP hD hS => ?_)
  refine lv_aload_n hx hb dX9_init_14 rfl (lv_at hl 0 rfl) ?_
  refine lv_aload_n hx hb dX9_init_15 rfl (lv_at hl 3 rfl) ?_
  refine pFF (w' := [(b, .inr (9, [.int a0, .ref a1, .ref a2]))]) X hnm in_X9 tyX9 tyX9_ok nmX9 hP hD hS 0 rfl rfl 2 (by decide) q637 rfl rfl rfl rfl (Nat.le_of_ble_eq_true rfl) rfl dX9_init_16 (fun H locs hP hD hS => ?_)
  exact rV X hP hD hS dX9_init_19
theorem met_X8_init {l : Launch} {g : gG} {b : Nat} {a0 : Nat} {v0 : Value} : CC l yX8_init (ws_ yX8_init cX8_init 2 none) ({ frames := 2, cells := 0, slots := 0, locals := 60 } : Room) g [.ref b, .ref a0] [(b, .inr (8, [v0]))] none [(b, .inr (8, [.ref a0]))] 0 0 := by
  refine CC.ofI RX8 rfl plain_X8 (Nat.le_of_ble_eq_true rfl) (fun p e s m below meth c A ls hnm X hP hD hS hl => ?_)
  have hx := X.1
  have hb := X.2.1
  have hl : lv_has ls 2 [(0, .ref b), (1, .ref a0)] := hl
  refine lv_aload_n hx hb dX8_init_0 rfl (lv_at hl 0 rfl) ?_
  refine cI (rest := []) X (met_J10_init (g := g)) (lw_meth q591) q163 q624 q590 dyi_J10_init ⟨⟨rfl, rfl⟩, Nat.le_of_ble_eq_true rfl, Nat.le_of_ble_eq_true rfl⟩ ⟨Nat.zero_le _, Nat.zero_le _⟩ hP hD hS rfl hl.1 rfl (Nat.le_of_ble_eq_true rfl) dX8_init_1 (fun H locs hP hD hS => ?_)
  refine lv_aload_n hx hb dX8_init_4 rfl (lv_at hl 0 rfl) ?_
  refine lv_aload_n hx hb dX8_init_5 rfl (lv_at hl 1 rfl) ?_
  refine pFF (w' := [(b, .inr (8, [.ref a0]))]) X hnm in_X8 tyX8 tyX8_ok nmX8 hP hD hS 0 rfl rfl 0 (by decide) q625 rfl rfl rfl rfl (Nat.le_of_ble_eq_true rfl) rfl dX8_init_6 (fun H locs hP hD hS => ?_)
  exact rV X hP hD hS dX8_init_9
theorem met_X10_init {l : Launch} {g : gG} {b : Nat} {a0 : Int32} {a1 : Nat} {v0 : Value} {v1 : Value} (hz : a0 = 0 ∨ a0 = 1) : CC l yX10_init (ws_ yX10_init cX10_init 3 none) ({ frames := 2, cells := 0, slots := 0, locals := 60 } : Room) g [.ref b, .int a0, .ref a1] [(b, .inr (10, [v0, v1]))] none [(b, .inr (10, [.int a0, .ref a1]))] 0 0 := by
  refine CC.ofI RX10 rfl plain_X10 (Nat.le_of_ble_eq_true rfl) (fun p e s m below meth c A ls hnm X hP hD hS hl => ?_)
  have hx := X.1
  have hb := X.2.1
  have hl : lv_has ls 3 [(0, .ref b), (1, .int a0), (2, .ref a1)] := hl
  refine lv_aload_n hx hb dX10_init_0 rfl (lv_at hl 0 rfl) ?_
  refine cI (rest := []) X (met_J10_init (g := g)) (lw_meth q591) q163 q729 q590 dyi_J10_init ⟨⟨rfl, rfl⟩, Nat.le_of_ble_eq_true rfl, Nat.le_of_ble_eq_true rfl⟩ ⟨Nat.zero_le _, Nat.zero_le _⟩ hP hD hS rfl hl.1 rfl (Nat.le_of_ble_eq_true rfl) dX10_init_1 (fun H locs hP hD hS => ?_)
  refine lv_aload_n hx hb dX10_init_4 rfl (lv_at hl 0 rfl) ?_
  refine lv_iload_n hx hb dX10_init_5 rfl (lv_at hl 1 rfl) ?_
  refine pFF (w' := [(b, .inr (10, [.int a0, v1]))]) X hnm in_X10 tyX10 tyX10_ok nmX10 hP hD hS 0 rfl rfl 0 (by decide) q730 rfl rfl (nar01 hz) (by rcases hz with rfl | rfl <;> rfl) (Nat.le_of_ble_eq_true rfl) rfl dX10_init_6 (fun H locs hP hD hS => ?_)
  refine lv_aload_n hx hb dX10_init_9 rfl (lv_at hl 0 rfl) ?_
  refine lv_aload_n hx hb dX10_init_10 rfl (lv_at hl 2 rfl) ?_
  refine pFF (w' := [(b, .inr (10, [.int a0, .ref a1]))]) X hnm in_X10 tyX10 tyX10_ok nmX10 hP hD hS 0 rfl rfl 1 (by decide) q731 rfl rfl rfl rfl (Nat.le_of_ble_eq_true rfl) rfl dX10_init_11 (fun H locs hP hD hS => ?_)
  exact rV X hP hD hS dX10_init_14
theorem met_X16_init {l : Launch} {g : gG} {b : Nat} {a0 : Int32} {a1 : Nat} {a2 : Int32} {v0 : Value} {v1 : Value} {v2 : Value} : CC l yX16_init (ws_ yX16_init cX16_init 4 none) ({ frames := 2, cells := 0, slots := 0, locals := 60 } : Room) g [.ref b, .int a0, .ref a1, .int a2] [(b, .inr (16, [v0, v1, v2]))] none [(b, .inr (16, [.int a0, .ref a1, .int a2]))] 0 0 := by
  refine CC.ofI RX16 rfl plain_X16 (Nat.le_of_ble_eq_true rfl) (fun p e s m below meth c A ls hnm X hP hD hS hl => ?_)
  have hx := X.1
  have hb := X.2.1
  have hl : lv_has ls 4 [(0, .ref b), (1, .int a0), (2, .ref a1), (3, .int a2)] := hl
  refine lv_aload_n hx hb dX16_init_0 rfl (lv_at hl 0 rfl) ?_
  refine cI (rest := []) X (met_J10_init (g := g)) (lw_meth q591) q163 q869 q590 dyi_J10_init ⟨⟨rfl, rfl⟩, Nat.le_of_ble_eq_true rfl, Nat.le_of_ble_eq_true rfl⟩ ⟨Nat.zero_le _, Nat.zero_le _⟩ hP hD hS rfl hl.1 rfl (Nat.le_of_ble_eq_true rfl) dX16_init_1 (fun H locs hP hD hS => ?_)
  refine lv_aload_n hx hb dX16_init_4 rfl (lv_at hl 0 rfl) ?_
  refine lv_iload_n hx hb dX16_init_5 rfl (lv_at hl 1 rfl) ?_
  refine pFF (w' := [(b, .inr (16, [.int a0, v1, v2]))]) X hnm in_X16 tyX16 tyX16_ok nmX16 hP hD hS 0 rfl rfl 0 (by decide) q870 rfl rfl rfl rfl (Nat.le_of_ble_eq_true rfl) rfl dX16_init_6 (fun H locs hP hD hS => ?_)
  refine lv_aload_n hx hb dX16_init_9 rfl (lv_at hl 0 rfl) ?_
  refine lv_aload_n hx hb dX16_init_10 rfl (lv_at hl 2 rfl) ?_
  refine pFF (w' := [(b, .inr (16, [.int a0, .ref a1, v2]))]) X hnm in_X16 tyX16 tyX16_ok nmX16 hP hD hS 0 rfl rfl 1 (by decide) q871 rfl rfl rfl rfl (Nat.le_of_ble_eq_true rfl) rfl dX16_init_11 (fun H locs hP hD hS => ?_)
  refine lv_aload_n hx hb dX16_init_14 rfl (lv_at hl 0 rfl) ?_
  refine lv_iload_n hx hb dX16_init_15 rfl (lv_at hl 3 rfl) ?_
  refine pFF (w' := [(b, .inr (16, [.int a0, .ref a1, .int a2]))]) X hnm in_X16 tyX16 tyX16_ok nmX16 hP hD hS 0 rfl rfl 2 (by decide) q872 rfl rfl rfl rfl (Nat.le_of_ble_eq_true rfl) rfl dX16_init_16 (fun H locs hP hD hS => ?_)
  exact rV X hP hD hS dX16_init_19
