/-! contracts over the statics of XG that make nothing and don't throw; rows for what is made; ArrayList -/
def CZ (l : Launch) (y : MethodName) (ws : List Cond) (rm : Room) (g : gG) (z : Nat → Nat) (av : List Value) (w : va_W) (rv : Option Value) (w' : va_W) (mc ms : Nat) : Prop :=
  ∀ sz : Nat, Met l y ws rm (va_Pc av (PreY g z w sz)) (QQ g rv w' (va_A w sz)) mc ms (va_A w sz)
theorem CZ.ofI {l : Launch} {y : MethodName} {cc : ByteArray} {nL : Nat} {ret : Option FieldType} {rm : Room} {g : gG} {z : Nat → Nat} {av : List Value} {w : va_W} {rv : Option Value} {w' : va_W} {mc ms : Nat} (own : String) (hyo : y.cls = own) (hy : plainName own = true) (hn : (lg_sl av).length ≤ nL)
    (body : ∀ (p : Program) (e : Env) (s : State) (m : MethodId) (below : List Frame) (meth : Method) (c : Code) (A : Nat → Prop) (ls : Array Slot), meth.name = y.name → Cx p s m meth c av.toArray own cc nL ret g A → XG z A s s.heap → va_P g.1 vwCl w s.heap → va_D A w → va_S A s.heap s.heap [] → lv_has ls nL (lv_args 0 av) → W p l e rm s m av.toArray below meth c s.heap [] 0 0 (MQ below (QQ g rv w' A) av.toArray s mc ms A) (F0 m 0 ls [])) : CZ l y (ws_ y cc nL ret) rm g z av w rv w' mc ms := by
  subst hyo
  intro sz
  refine Met.ofW (cc := cc) (maxL := nL) (ret := ret) hy rfl ?_
  intro p e s m args below meth c s₁ B hml hv
  obtain ⟨rfl, ⟨hsz, hP, hK, hD0⟩, hF⟩ := hv
  have hts := atoms_spec (ws := ws_ y cc nL ret) B.pre
  have hts : ∀ w ∈ lw_all, w.before _ s = true := fun w h => hts w (List.mem_cons_of_mem _ h)
  have hown : s.vm.findClass y.cls = some m.cls := findClass_of_methodNamed B.named
  subst hsz
  have hD := hD0.self (sz := s.heap.size)
  have hl := lv_entry av (n := nL) hn
  rw [lg_entry_eq]
  exact body p e s m below meth c _ _ (name_of_methodNamed B.named B.method).1 ⟨B.exec, B.bytes, B.returns, B.notSynchronized, hml, hown, hts, fun q h => Or.inr h, hK⟩ hF hP hD va_S.rf hl
section LISTS
variable {p : Program} {l : Launch} {e : Env} {R : Room} {s : State} {m : MethodId} {args : Array Value} {below : List Frame} {meth : Method} {c : Code} {H : Heap} {locs : List Loc} {cells slots : Nat} {Q : State → Prop}
variable {A : Nat → Prop} {own : String} {cc : ByteArray} {nL : Nat} {ret : Option FieldType} {g : gG} {z : Nat → Nat} {ls : Array Slot} {st0 rest : List Value} {pc : Nat}
variable {y : MethodName} {cy : ByteArray} {nLy : Nat} {rety : Option FieldType} {rmy : Room} {b : Nat} {As : List Value} {w w' wf : va_W} {rv : Option Value} {C : String} {index n : Nat} {mc ms : Nat}
theorem zV0 (X : Cx p s m meth c args own cc nL ret g A) (hG9 : XG z A s s.heap) (hM : CZ l y (ws_ y cy nLy rety) rmy g z (.ref b :: As) w rv w' mc ms) (hG : GoodIn lw_all (wsV own index C y (ws_ y cy nLy rety))) (hd : Dy y C n) (hR : Ry rmy R nLy mc ms) (hf : cells + mc ≤ R.cells ∧ slots + ms ≤ R.slots) (hP : va_P g.1 vwCl (w ++ wf) H) (hD : va_D A (w ++ wf)) (hS : va_S A s.heap H locs) (hc : ∃ cell : Cell, H[b]? = some cell ∧ cell.vm.isStatics = false ∧ s.vm.findClass C = some cell.cls) (hn : As.length = n) (hsz : ls.size = nL) (hst : st0 = As.reverse ++ .ref b :: rest) (hw : (rest.map fun v => v.category).sum ≤ 8) (hdg : decode cc pc = .ok (.invokevirtual index, 3))
    (kk : ∀ (H1 : Heap) (locs1 : List Loc), va_P g.1 vwCl (w' ++ wf) H1 → va_D A (w' ++ wf) → va_S A s.heap H1 locs1 → W p l e R s m args below meth c H1 locs1 (cells + mc) (slots + ms) Q (F0 m (pc + 3) ls (rv.toList ++ rest))) : W p l e R s m args below meth c H locs cells slots Q (F0 m pc ls st0) :=
  run_on X (va_runV ⟨X.1, X.2.1, X.2.2.2.2.1, X.2.2.2.2.2.1, X.2.2.2.2.2.2.1⟩ (hM H.size) (cwV n X.2.2.2.2.2.2.1 hG rfl hR.1.1 hR.1.2 hd hR.2) ⟨PreY.blind, hc, CY.hp X hG9 (P_left hP) (D_left hD) hS⟩ rfl hn hsz hst (lv_room hw) hdg hf) hP hD hS kk
theorem zS0 (X : Cx p s m meth c args own cc nL ret g A) (hG9 : XG z A s s.heap) (hM : CZ l y (ws_ y cy nLy rety) rmy g z As w rv w' mc ms) (hG : GoodIn lw_all (va_wsS own index y (ws_ y cy nLy rety))) (hd : Dy y C n) (hR : Ry rmy R nLy mc ms) (hf : cells + mc ≤ R.cells ∧ slots + ms ≤ R.slots) (hP : va_P g.1 vwCl (w ++ wf) H) (hD : va_D A (w ++ wf)) (hS : va_S A s.heap H locs) (hn : As.length = n) (hsz : ls.size = nL) (hst : st0 = As.reverse ++ rest) (hw : (rest.map fun v => v.category).sum ≤ 8) (hdg : decode cc pc = .ok (.invokestatic index, 3))
    (kk : ∀ (H1 : Heap) (locs1 : List Loc), va_P g.1 vwCl (w' ++ wf) H1 → va_D A (w' ++ wf) → va_S A s.heap H1 locs1 → W p l e R s m args below meth c H1 locs1 (cells + mc) (slots + ms) Q (F0 m (pc + 3) ls (rv.toList ++ rest))) : W p l e R s m args below meth c H locs cells slots Q (F0 m pc ls st0) :=
  run_on X (va_runS ⟨X.1, X.2.1, X.2.2.2.2.1, X.2.2.2.2.2.1, X.2.2.2.2.2.2.1⟩ (hM H.size) (va_cwS n X.2.2.2.2.2.2.1 hG rfl hR.1.1 hR.1.2 hd.2 hR.2) ⟨PreY.blind, CY.hp X hG9 (P_left hP) (D_left hD) hS⟩ rfl hn hsz hst (lv_room hw) hdg hf) hP hD hS kk
theorem zI (X : Cx p s m meth c args own cc nL ret g A) (hG9 : XG z A s s.heap) (hM : CZ l y (ws_ y cy nLy none) rmy g z (.ref b :: As) w none w' mc ms) (hG : GoodIn lw_all (ws_ y cy nLy none)) (hi : Cond.initialized y.cls ∈ lw_all) (hlk : Cond.methodLink own index y ∈ lw_all) (hin : Cond.instanceMethod y ∈ lw_all) (hd : Dy y C n ∧ y.name = "<init>") (hR : Ry rmy R nLy mc ms) (hf : cells + mc ≤ R.cells ∧ slots + ms ≤ R.slots) (hP : va_P g.1 vwCl (w ++ wf) H) (hD : va_D A (w ++ wf)) (hS : va_S A s.heap H locs) (hn : As.length = n) (hsz : ls.size = nL) (hst : st0 = As.reverse ++ .ref b :: rest) (hw : (rest.map fun v => v.category).sum ≤ 8) (hdg : decode cc pc = .ok (.invokespecial index, 3))
    (kk : ∀ (H1 : Heap) (locs1 : List Loc), va_P g.1 vwCl (w' ++ wf) H1 → va_D A (w' ++ wf) → va_S A s.heap H1 locs1 → W p l e R s m args below meth c H1 locs1 (cells + mc) (slots + ms) Q (F0 m (pc + 3) ls rest)) : W p l e R s m args below meth c H locs cells slots Q (F0 m pc ls st0) :=
  run_on X (va_runI ⟨X.1, X.2.1, X.2.2.2.2.1, X.2.2.2.2.2.1, X.2.2.2.2.2.2.1⟩ (hM H.size) (cwI n X.2.2.2.2.2.2.1 hG rfl hR.1.1 hR.1.2 (X.2.2.2.2.2.2.1 _ hi) (X.2.2.2.2.2.2.1 _ hlk) (X.2.2.2.2.2.2.1 _ hin) hd.2 hd.1.2 hR.2) ⟨PreY.blind, CY.hp X hG9 (P_left hP) (D_left hD) hS⟩ rfl hn hsz hst (lv_room hw) hdg hf) hP hD hS kk
theorem rcv {q0 ci : Nat} {fs : List Value} {T : u_T} {N : Nat} (X : Cx p s m meth c args own cc nL ret g A) (hP : va_P g.1 vwCl w H) (he : w[q0]? = some (b, .inr (ci, fs))) (hcl : vwCl[ci]? = some (C, T, N)) : ∃ cell : Cell, H[b]? = some cell ∧ cell.vm.isStatics = false ∧ s.vm.findClass C = some cell.cls := va_recv X.2.2.2.2.2.2.2.2 hP hcl he
/-- a new object -/
theorem rNew {T : u_T} {N ci : Nat} (X : Cx p s m meth c args own cc nL ret g A) (hin : ∀ w ∈ u_ws C T N, w ∈ lw_all) (ty : Nat → FieldType) (hty : ∀ k, k < N → parseFieldDescriptor (T k).2.2.1 = some (ty k)) (hcl : Cond.classLink own index C ∈ lw_all) (hinst : Cond.instantiable C N ∈ lw_all) (hini : Cond.initialized C ∈ lw_all) (hP : va_P g.1 vwCl w H) (hD : va_D A w) (hS : va_S A s.heap H locs) (hc : vwCl[ci]? = some (C, T, N)) (fs : List Value) (hfs : ∀ j, j < N → defaultValue (ty j) = vp_V fs j) (hcells : cells + 1 ≤ R.cells) (hslots : slots + N ≤ R.slots) (hdg : decode cc pc = .ok (.new index, 3))
    (kk : ∀ (q : Nat) (H1 : Heap), va_P g.1 vwCl (w ++ [(q, .inr (ci, fs))]) H1 → va_D A (w ++ [(q, .inr (ci, fs))]) → va_S A s.heap H1 locs → W p l e R s m args below meth c H1 locs (cells + 1) (slots + N) Q (F0 m (pc + 3) ls (.ref q :: rest))) : W p l e R s m args below meth c H locs cells slots Q (F0 m pc ls rest) :=
  va_new X.1 X.2.1 X.2.2.2.2.2.2.1 hin ty hty X.2.2.2.2.2.1 (X.2.2.2.2.2.2.1 _ hcl) (X.2.2.2.2.2.2.1 _ hinst) (X.2.2.2.2.2.2.1 _ hini) X.2.2.2.2.2.2.2.2 hP hD hS X.2.2.2.2.2.2.2.1 hc hfs hcells hslots hdg kk
theorem k_obj {cA : ClassId} {C : String} {t : Nat} {D : va_G} {cl : List vw_C} (h : va_K D cl (gT g ++ [(cA, .object C)]) s) (ht : (gT g)[t]? = some (g.2 t, .object C)) : cA = g.2 t := by
  have hl := (List.getElem?_eq_some_iff.mp ht).1
  obtain ⟨-, -, -, -, -, -, h1⟩ := h.2 t (g.2 t, .object C) (by rw [List.getElem?_append_left hl]; exact ht)
  obtain ⟨-, -, -, -, -, -, h2⟩ := h.2 8 (cA, .object C) rfl
  exact Option.some.inj (h2.symm.trans h1)
theorem k_int {cA : ClassId} {D : va_G} {cl : List vw_C} (h : va_K D cl (gT g ++ [(cA, .int)]) s) : cA = g.2 0 := Option.some.inj ((h.2 8 (cA, .int) rfl).2.symm.trans (h.2 0 (g.2 0, .int) rfl).2)
theorem k_byte {cA : ClassId} {D : va_G} {cl : List vw_C} (h : va_K D cl (gT g ++ [(cA, .byte)]) s) : cA = g.2 3 := Option.some.inj ((h.2 8 (cA, .byte) rfl).2.symm.trans (h.2 3 (g.2 3, .byte) rfl).2)
theorem rNewq (X : Cx p s m meth c args own cc nL ret g A) (hover : va_AO C s) (hcl : Cond.classLink own index C ∈ lw_all) (t : Nat) (ht : (gT g)[t]? = some (g.2 t, .object C)) (hP : va_P g.1 vwCl w H) (hD : va_D A w) (hS : va_S A s.heap H locs) {k : Int32} (N : Nat) (hn : ¬ k < 0) (hN : k.toNatClampNeg = N) (hbytes : N * 4 ≤ 536870912) (hcells : cells + 1 ≤ R.cells) (hslots : slots + N ≤ R.slots) (hdg : decode cc pc = .ok (.anewarray index, 3))
    (kk : ∀ (q : Nat) (H1 : Heap), va_P g.1 vwCl (w ++ [(q, .inl (g.2 t, N, .inr (.inr (.inr (.inr (fun _ => none))))))]) H1 → va_D A (w ++ [(q, .inl (g.2 t, N, .inr (.inr (.inr (.inr (fun _ => none))))))]) → va_S A s.heap H1 locs → W p l e R s m args below meth c H1 locs (cells + 1) (slots + N) Q (F0 m (pc + 3) ls (.ref q :: rest))) : W p l e R s m args below meth c H locs cells slots Q (F0 m pc ls (.int k :: rest)) := by
  refine va_newq X.1 X.2.1 X.2.2.2.2.2.1 (X.2.2.2.2.2.2.1 _ hcl) hover X.2.2.2.2.2.2.2.2 hP hD hS X.2.2.2.2.2.2.2.1 hn hN hbytes hcells hslots hdg (fun q cA H1 hK h1 h2 h3 => ?_)
  have e := k_obj hK ht
  subst e
  exact kk q H1 h1 h2 h3
/-- an element that a list of objects may hold -/
def ElOK (z : Nat → Nat) (w : va_W) (v : Nat) : Prop := (∃ (k ci : Nat) (fs : List Value) (C : String) (T : u_T) (N : Nat), w[k]? = some (v, .inr (ci, fs)) ∧ vwCl[ci]? = some (C, T, N) ∧ (C, "java/lang/Object") ∈ xCast) ∨ ∃ k : Nat, k < 256 ∧ v = z (300 + k)
theorem ElOK.mono {w2 : va_W} {v : Nat} (h : ElOK z w v) (hs : ∀ q ∈ w, q ∈ w2) : ElOK z w2 v := by
  rcases h with ⟨k, ci, fs, C, T, N, h1, h2, h3⟩ | h
  · obtain ⟨j, hj⟩ := List.mem_iff_getElem?.mp (hs _ (List.mem_of_getElem? h1))
    exact Or.inl ⟨j, ci, fs, C, T, N, hj, h2, h3⟩
  · exact Or.inr h
theorem cast_any {C E : String} (h : va_Nw (.castable C E) s) : ∀ comp c0 : ClassId, s.vm.findClass E = some comp → s.vm.findClass C = some c0 → s.vm.assignable c0 comp = true := by
  intro comp c0 h1 h2
  obtain ⟨c3, c4, hc3, hc4, hasg⟩ := Cond.castable_spec (va_Nw.use (A := #[]) rfl h)
  cases Option.some.inj (hc3.symm.trans h2)
  cases Option.some.inj (hc4.symm.trans h1)
  exact hasg
theorem ElOK.any {v : Nat} (X : Cx p s m meth c args own cc nL ret g A) (hF : XF z A s s.heap) (hP : va_P g.1 vwCl w H) (hS : va_S A s.heap H locs) (h : ElOK z w v) : va_Any "java/lang/Object" s H v := by
  rcases h with ⟨k, ci, fs, C, T, N, h1, h2, h3⟩ | ⟨k, hk, rfl⟩
  · exact va_rAny X.2.2.2.2.2.2.2.2 hP h1 h2 (cast_any (hF.2.2.1 _ h3))
  · obtain ⟨cell, q1, q2, q3, q4⟩ := (hF.2.2.2.2.kept hS.2.1).1 k hk
    obtain ⟨k9, h9, -⟩ := Vm.findClass_spec q3
    exact ⟨cell, q1, q2, ⟨k9, h9⟩, fun comp hc => cast_any (C := "java/lang/Integer") (E := "java/lang/Object") (hF.2.2.1 ("java/lang/Integer", "java/lang/Object") (by decide +kernel)) comp _ hc q3⟩
end LISTS
/-- a list of c elements f in its head of a world; n: the places of its array -/
def LsW (g : gG) (z : Nat → Nat) (la c n : Nat) (f : Nat → Option Nat) (w : va_W) : Prop := ∃ (mc : Int32) (ea : Nat) (tail : va_W), w = (la, .inr (17, [.int mc, .ref ea, .int (nI c)])) :: tail ∧ ((c = 0 ∧ n = 0 ∧ ea = z 4) ∨ (0 < c ∧ c ≤ n ∧ n ≤ 400 ∧ 10 ≤ n ∧ ∃ gar : va_W, tail = (ea, .inl (g.2 4, n, .inr (.inr (.inr (.inr f))))) :: gar))
def capN (c n : Nat) : Nat := if c = 0 then 10 else if c < n then n else n + n / 2
def addK (c n : Nat) : Nat := if c = 0 then 1 else if c < n then 0 else 1
def addS (c n : Nat) : Nat := if c = 0 then 10 else if c < n then 0 else n + n / 2
theorem dyi_J1_init : Dy yJ1_init RJ1 0 ∧ yJ1_init.name = "<init>" := ⟨by decide +kernel, rfl⟩
theorem met_J2_init {l : Launch} {g : gG} {z : Nat → Nat} {la : Nat} {mc : Int32} {v1 v2 : Value} : CZ l yJ2_init (ws_ yJ2_init cJ2_init 1 none) ({ frames := 3, cells := 0, slots := 0, locals := 120 } : Room) g z [.ref la] [(la, .inr (17, [.int mc, v1, v2]))] none [(la, .inr (17, [.int 0, .ref (z 4), v2]))] 0 0 := by
  refine CZ.ofI RJ2 rfl plain_J2 (Nat.le_of_ble_eq_true rfl) (fun p e s m below meth c A ls hnm X hG hP hD hS hl => ?_)
  have hx := X.1
  have hb := X.2.1
  have hown := X.2.2.2.2.2.1
  have hts := X.2.2.2.2.2.2.1
  have hl : lv_has ls 1 [(0, .ref la)] := hl
  refine lv_aload_n hx hb dJ2_init_0 rfl (lv_at hl 0 rfl) ?_
  refine cI (rest := []) X (met_J1_init (g := g)) (lw_meth q396) q152 q394 q395 dyi_J1_init ⟨⟨rfl, rfl⟩, Nat.le_of_ble_eq_true rfl, Nat.le_of_ble_eq_true rfl⟩ ⟨Nat.zero_le _, Nat.zero_le _⟩ hP hD hS rfl hl.1 rfl (Nat.le_of_ble_eq_true rfl) dJ2_init_1 (fun H locs hP hD hS => ?_)
  refine lv_aload_n hx hb dJ2_init_4 rfl (lv_at hl 0 rfl) ?_
  refine va_gets (v := .ref (z 4)) hx hb hG.2.2.2.1.1 hS hown (hts _ q401) (fun _ h9 => h9) dJ2_init_5 ?_
  refine pF (w' := [(la, .inr (17, [.int 0, .ref (z 4), v2]))]) X in_J2 tyJ2 tyJ2_ok nmJ2 hP hD hS 0 rfl rfl 1 (by decide) q403 rfl rfl rfl (Nat.le_of_ble_eq_true rfl) rfl dJ2_init_8 (fun H locs hP hD hS => ?_)
  exact rV X hP hD hS dJ2_init_11
theorem vb_dec : ∀ k : Nat, k < 256 → ¬ vb_c k < (-128) ∧ vb_c k ≤ 127 ∧ (vb_c k + 128).toNatClampNeg = k ∧ vp_in (vb_c k + 128) 256 := by unfold vp_in; decide +kernel
theorem met_valueOf {l : Launch} {g : gG} {z : Nat → Nat} {k : Nat} (hk : k < 256) : CZ l yJ15_valueOf (ws_ yJ15_valueOf cJ15_valueOf 1 (some (.object "java/lang/Integer"))) ({ frames := 0, cells := 0, slots := 0, locals := 0 } : Room) g z [.int (vb_c k)] ([] : va_W) (some (.ref (z (300 + k)))) [] 0 0 := by
  refine CZ.ofI RJ15 rfl plain_J15 (Nat.le_of_ble_eq_true rfl) (fun p e s m below meth c A ls hnm X hG hP hD hS hl => ?_)
  have hx := X.1
  have hb := X.2.1
  have hown := X.2.2.2.2.2.1
  have hts := X.2.2.2.2.2.2.1
  have hl : lv_has ls 1 [(0, .int (vb_c k))] := hl
  have h1 : ¬ vb_c k < (-128) := by have h := vb_dec k hk; exact h.1
  have h2 : vb_c k ≤ 127 := by have h := vb_dec k hk; exact h.2.1
  have h3 : (vb_c k + 128).toNatClampNeg = k := by have h := vb_dec k hk; exact h.2.2.1
  have h4 : vp_in (vb_c k + 128) 256 := by have h := vb_dec k hk; exact h.2.2.2
  refine lv_iload_n hx hb dJ15_valueOf_0 rfl (lv_at hl 0 rfl) ?_
  refine lv_bipush (v := (-128)) hx hb dJ15_valueOf_1 (by decide) ?_
  refine lv_icmp_lt (tgt := 23) hx hb dJ15_valueOf_3 (by decide) (fun q => absurd q h1) (fun _ => ?_)
  refine lv_iload_n hx hb dJ15_valueOf_6 rfl (lv_at hl 0 rfl) ?_
  refine va_gets (v := .int 127) hx hb hG.2.2.2.1.2.2.2.1 hS hown (hts _ q830) (fun _ h9 => h9) dJ15_valueOf_7 ?_
  refine lv_icmp_gt (tgt := 23) hx hb dJ15_valueOf_10 (by decide) (fun q => absurd (Int32.lt_of_lt_of_le q h2) (Int32.lt_irrefl)) (fun _ => ?_)
  refine va_gets (v := .ref (z 5)) hx hb hG.2.2.2.1.2.2.1 hS hown (hts _ q832) (fun _ h9 => h9) dJ15_valueOf_13 ?_
  refine lv_iload_n hx hb dJ15_valueOf_16 rfl (lv_at hl 0 rfl) ?_
  refine lv_sipush (v := 128) hx hb dJ15_valueOf_17 (by decide) ?_
  refine lv_iadd hx hb dJ15_valueOf_20 ?_
  refine vb_tq hx hb hG.2.2.2.1.2.2.2.2 hS h4 (v := .ref (z (300 + k))) (by show Value.ref (z (300 + _)) = _; rw [h3]) dJ15_valueOf_21 ?_
  exact rR X hP hD hS dJ15_valueOf_22
theorem nI_half {n : Nat} (hn : n ≤ 400) : nI n >>> (1 &&& 31) = nI (n / 2) := by
  have h : ∀ n : Nat, n < 401 → nI n >>> (1 &&& 31) = nI (n / 2) := by decide +kernel
  exact h n (by omega)
theorem plain_J11 : plainName RJ11 = true := by decide +kernel
theorem nl_max {n : Nat} (h2 : 2 ≤ n) (hn : n ≤ 400) : (if (nI (n + 1) - nI n) < (nI n >>> (1 &&& 31)) then (nI n >>> (1 &&& 31)) else (nI (n + 1) - nI n)) = nI (n / 2) := by
  have e1 : nI (n + 1) - nI n = nI 1 := by rw [← nI_add n 1]; rw [Int32.add_comm, Int32.add_sub_cancel]
  have e2 : nI n >>> (1 &&& 31) = nI (n / 2) := nI_half hn
  rw [e1, e2]
  split
  · rfl
  · next q => rw [nI_ltI (by omega) (by omega)] at q; rw [show n / 2 = 1 by omega]
theorem met_newLength {l : Launch} {g : gG} {n : Nat} (h2 : 2 ≤ n) (hn : n ≤ 400) : CC l yJ11_newLength (ws_ yJ11_newLength cJ11_newLength 4 (some .int)) ({ frames := 1, cells := 0, slots := 0, locals := 40 } : Room) g [.int (nI n), .int (nI (n + 1) - nI n), .int (nI n >>> (1 &&& 31))] ([] : va_W) (some (.int (nI (n + n / 2)))) [] 0 0 := by
  refine CC.of RJ11 rfl plain_J11 (Nat.le_of_ble_eq_true rfl) (fun p e s m below meth c A ls X hP hD hS hl => ?_)
  have hx := X.1
  have hb := X.2.1
  have hown := X.2.2.2.2.2.1
  have hts := X.2.2.2.2.2.2.1
  have hl : lv_has ls 4 [(0, .int (nI n)), (1, .int (nI (n + 1) - nI n)), (2, .int (nI n >>> (1 &&& 31)))] := hl
  refine lv_iload_n hx hb dJ11_newLength_0 rfl (lv_at hl 0 rfl) ?_
  refine lv_iload_n hx hb dJ11_newLength_1 rfl (lv_at hl 1 rfl) ?_
  refine lv_iload_n hx hb dJ11_newLength_2 rfl (lv_at hl 2 rfl) ?_
  refine rMax X q664 hl.1 ⟨Nat.le_of_ble_eq_true rfl, Nat.le_of_ble_eq_true rfl⟩ ⟨Nat.zero_le _, Nat.zero_le _⟩ dJ11_newLength_3 ?_
  refine tpi (nl_max h2 hn).symm ?_
  refine lv_iadd hx hb dJ11_newLength_6 ?_
  refine tpi (nI_add n (n / 2)).symm ?_
  refine lv_istore_n (lv' := [(3, .int (nI (n + n / 2))), (0, .int (nI n)), (1, .int (nI (n + 1) - nI n)), (2, .int (nI n >>> (1 &&& 31)))]) hx hb dJ11_newLength_7 rfl hl (by decide) rfl (fun ls hl => ?_)
  refine lv_iconst (v := 0) hx hb dJ11_newLength_8 (by decide) ?_
  refine lv_iload_n hx hb dJ11_newLength_9 rfl (lv_at hl 0 rfl) ?_
  refine lv_icmp_ge (tgt := 21) hx hb dJ11_newLength_10 (by decide) (fun q => absurd q (nI_nle (by omega) (by omega))) (fun _ => ?_)
  refine lv_iload_n hx hb dJ11_newLength_13 rfl (lv_at hl 0 rfl) ?_
  refine lv_ldc (v := 2147483639) hx hb hown (hts _ q667) dJ11_newLength_14 ?_
  refine lv_icmp_gt (tgt := 21) hx hb dJ11_newLength_16 (by decide) (fun q => absurd q (by rw [show (2147483639 : Int32) = nI 2147483639 from rfl]; exact nI_nlt (by omega) (by omega))) (fun _ => ?_)
  refine lv_iload_n hx hb dJ11_newLength_19 rfl (lv_at hl 0 rfl) ?_
  exact rI X hP hD hS dJ11_newLength_20
theorem at_end {w : va_W} {q : Nat × va_E} : (w ++ [q])[w.length]? = some q := by simp
theorem set_end {w : va_W} {q r : Nat × va_E} : (w ++ [q]).set w.length r = w ++ [r] := by simp
theorem met_copyOf2 {l : Launch} {g : gG} {z : Nat → Nat} {ea n n1 : Nat} {f : Nat → Option Nat} {we : va_W} {px : Nat → va_W → Prop} (hn : n ≤ n1) (hn1 : n1 ≤ 400) (hel : ∀ i y : Nat, i < n → f i = some y → ElOK z we y) : CY l yJ12_copyOf_2 (ws_ yJ12_copyOf_2 cJ12_copyOf_2 4 (some (.array (.object "java/lang/Object")))) ({ frames := 2, cells := 1, slots := n1, locals := 80 } : Room) g z [.ref ea, .int (nI n1), .ref (z 6)] ((ea, .inl (g.2 4, n, .inr (.inr (.inr (.inr f))))) :: we) (fun rv w' => ∃ (q : Nat) (f1 : Nat → Option Nat), rv = some (.ref q) ∧ w' = ((ea, .inl (g.2 4, n, .inr (.inr (.inr (.inr f))))) :: we) ++ [(q, .inl (g.2 4, n1, .inr (.inr (.inr (.inr f1)))))] ∧ ∀ i : Nat, i < n → f1 i = f i) px 1 n1 := by
  refine CY.of RJ12 rfl plain_J12 (Nat.le_of_ble_eq_true rfl) (fun p e s m below meth c A ls X hP hD hS hl => ?_)
  have hG := X.2.1
  have hx := X.1.1
  have hb := X.1.2.1
  have hown := X.1.2.2.2.2.2.1
  have hts := X.1.2.2.2.2.2.2.1
  have hl : lv_has ls 4 [(0, .ref ea), (1, .int (nI n1)), (2, .ref (z 6))] := hl
  refine lv_aload_n hx hb dJ12_copyOf_2_0 rfl (lv_at hl 2 rfl) ?_
  refine va_ldcM hx hb hown (hts _ q700) hG.2.1.2.2.2.2.1 dJ12_copyOf_2_1 ?_
  refine lv_acmp_ne (rx := some (z 6)) (ry := some (z 6)) (tgt := 13) hx hb dJ12_copyOf_2_3 (by decide) (fun q => absurd rfl q) (fun _ => ?_)
  refine lv_iload_n hx hb dJ12_copyOf_2_6 rfl (lv_at hl 1 rfl) ?_
  refine rNewq X.1 hG.2.1.2.2.1 q702 4 rfl hP hD hS n1 (nI_pos (by omega)) (nI_clamp (by omega)) (by omega) (Nat.le_refl _) (by show 0 + n1 ≤ n1; omega) dJ12_copyOf_2_7 (fun q H hP hD hS => ?_)
  refine lv_goto (tgt := 24) hx hb dJ12_copyOf_2_10 (by decide) ?_
  refine lv_astore_n (lv' := [(3, .ref q), (0, .ref ea), (1, .int (nI n1)), (2, .ref (z 6))]) hx hb dJ12_copyOf_2_24 rfl hl (by decide) rfl (fun ls hl => ?_)
  refine lv_aload_n hx hb dJ12_copyOf_2_25 rfl (lv_at hl 1 rfl) ?_
  refine lv_iconst (v := 0) hx hb dJ12_copyOf_2_26 (by decide) ?_
  refine lv_aload_n hx hb dJ12_copyOf_2_27 rfl (lv_at hl 0 rfl) ?_
  refine lv_iconst (v := 0) hx hb dJ12_copyOf_2_28 (by decide) ?_
  refine lv_aload_n hx hb dJ12_copyOf_2_29 rfl (lv_at hl 1 rfl) ?_
  refine va_alen (v := nI n) hx hb X.1.2.2.2.2.2.2.2.2 hP 0 4 rfl rfl rfl dJ12_copyOf_2_30 ?_
  refine lv_iload_n hx hb dJ12_copyOf_2_31 rfl (lv_at hl 2 rfl) ?_
  refine rMin X.1 q703 hl.1 ⟨Nat.le_of_ble_eq_true rfl, Nat.le_of_ble_eq_true rfl⟩ ⟨Nat.le_refl _, (by show 0 + n1 ≤ n1; omega)⟩ dJ12_copyOf_2_32 ?_
  rw [show (if nI n1 < nI n then nI n1 else nI n) = nI n from if_neg (nI_nlt hn (by omega))]
  refine va_copyM (E0 := "java/lang/Object") (E1 := "java/lang/Object") hx hb (X.1.2.2.2.2.1.trans hl.1.symm) hown (hts _ q704) (hts _ q254) (hts _ q253) (hts _ q147) X.1.2.2.2.2.2.2.2.2 hP hD hS 0 (we.length + 1) 4 4 rfl (at_end (w := ((ea, .inl (g.2 4, n, .inr (.inr (.inr (.inr f))))) :: we))) rfl rfl (by decide) (by decide) (nI_pos (by omega)) (by rw [nI_clamp (by omega)]; show 0 + n ≤ n; omega) (by rw [nI_clamp (by omega)]; show 0 + n ≤ n1; omega) (fun i hi y hy => ?_) (Nat.le_of_ble_eq_true rfl) (Nat.le_of_ble_eq_true rfl) dJ12_copyOf_2_35 (fun H1 locs1 h1 h2 hS => ?_)
  · rw [nI_clamp (by omega)] at hi
    have hy : f (0 + i) = some y := hy
    rw [Nat.zero_add] at hy
    exact ((hel i y hi hy).mono (fun q hq => List.mem_append_left _ (List.mem_cons_of_mem _ hq))).any X.1 hG.1 hP hS
  · have e9 := set_end (w := ((ea, .inl (g.2 4, n, .inr (.inr (.inr (.inr f))))) :: we)) (q := (q, .inl (g.2 4, n1, .inr (.inr (.inr (.inr (fun _ => none))))))) (r := (q, .inl (g.2 4, n1, .inr (.inr (.inr (.inr (va_cpy f (fun _ => none) (0 : Int32).toNatClampNeg (0 : Int32).toNatClampNeg (nI n).toNatClampNeg)))))))
    have hP := e9 ▸ h1
    have hD := e9 ▸ h2
    refine lv_aload_n hx hb dJ12_copyOf_2_38 rfl (lv_at hl 0 rfl) ?_
    refine yRa X ⟨q, _, rfl, rfl, fun i hi => ?_⟩ hP hD hS ⟨Nat.le_refl _, (by show 0 + n1 ≤ n1; omega)⟩ dJ12_copyOf_2_39
    show va_cpy f _ 0 0 (nI n).toNatClampNeg i = f i
    rw [nI_clamp (by omega)]
    unfold va_cpy
    rw [if_pos ⟨Nat.zero_le _, by omega⟩]
    congr 1
    omega
theorem gs_J12_J12_copyOf_2 : GoodIn lw_all (va_wsS RJ12 300 yJ12_copyOf_2 (ws_ yJ12_copyOf_2 cJ12_copyOf_2 4 (some (.array (.object "java/lang/Object"))))) := lw_S q697 q698 q168 q699
theorem dy_J12_copyOf_2 : Dy yJ12_copyOf_2 RJ12 3 := by decide +kernel
theorem met_copyOf {l : Launch} {g : gG} {z : Nat → Nat} {ea n n1 : Nat} {f : Nat → Option Nat} {we : va_W} {px : Nat → va_W → Prop} (hn : n ≤ n1) (hn1 : n1 ≤ 400) (hel : ∀ i y : Nat, i < n → f i = some y → ElOK z we y) : CY l yJ12_copyOf (ws_ yJ12_copyOf cJ12_copyOf 2 (some (.array (.object "java/lang/Object")))) ({ frames := 3, cells := 1, slots := n1, locals := 140 } : Room) g z [.ref ea, .int (nI n1)] ((ea, .inl (g.2 4, n, .inr (.inr (.inr (.inr f))))) :: we) (fun rv w' => ∃ (q : Nat) (f1 : Nat → Option Nat), rv = some (.ref q) ∧ w' = ((ea, .inl (g.2 4, n, .inr (.inr (.inr (.inr f))))) :: we) ++ [(q, .inl (g.2 4, n1, .inr (.inr (.inr (.inr f1)))))] ∧ ∀ i : Nat, i < n → f1 i = f i) px 1 n1 := by
  refine CY.of RJ12 rfl plain_J12 (Nat.le_of_ble_eq_true rfl) (fun p e s m below meth c A ls X hP hD hS hl => ?_)
  have hG := X.2.1
  have hx := X.1.1
  have hb := X.1.2.1
  have hown := X.1.2.2.2.2.2.1
  have hts := X.1.2.2.2.2.2.2.1
  have hl : lv_has ls 2 [(0, .ref ea), (1, .int (nI n1))] := hl
  refine lv_aload_n hx hb dJ12_copyOf_0 rfl (lv_at hl 0 rfl) ?_
  refine lv_iload_n hx hb dJ12_copyOf_1 rfl (lv_at hl 1 rfl) ?_
  refine lv_aload_n hx hb dJ12_copyOf_2 rfl (lv_at hl 0 rfl) ?_
  refine va_getC (C := "[Ljava/lang/Object;") hx hb (X.1.2.2.2.2.1.trans hl.1.symm) hown (hts _ q674) (va_Dc.use hG.2.1.2.2.2.2.2) (hts _ q2094) (hts _ q675) (hts _ q696) hG.2.1.2.2.2.2.1 ⟨_, hP 0 _ rfl, rfl, va_nmO (X.1.2.2.2.2.2.2.2.2.2 4 _ rfl).2 rfl⟩ (Nat.le_of_ble_eq_true rfl) (Nat.le_of_ble_eq_true rfl) dJ12_copyOf_3 ?_
  refine yS (rest := []) (wf := []) X (met_copyOf2 (px := fun _ _ => False) hn hn1 hel) gs_J12_J12_copyOf_2 dy_J12_copyOf_2 ⟨⟨rfl, rfl⟩, Nat.le_of_ble_eq_true rfl, Nat.le_of_ble_eq_true rfl⟩ ⟨Nat.le_refl _, (by show 0 + n1 ≤ n1; omega)⟩ (by rw [List.append_nil]; exact hP) (by rw [List.append_nil]; exact hD) hS rfl hl.1 rfl (Nat.le_of_ble_eq_true rfl) dJ12_copyOf_6 ⟨Nat.le_refl _, (by omega)⟩ (fun _ _ h => h.elim) (fun rv w1 H locs hpo hP hD hS => ?_)
  obtain ⟨q, f1, rfl, rfl, hf1⟩ := hpo
  rw [List.append_nil] at hP hD
  exact yRa X ⟨q, f1, rfl, rfl, hf1⟩ hP hD hS ⟨Nat.le_refl _, (by omega)⟩ dJ12_copyOf_9
theorem met_growI0 {l : Launch} {g : gG} {z : Nat → Nat} {px : Nat → va_W → Prop} {la : Nat} {mc : Int32} : CY l yJ2_grow_2 (ws_ yJ2_grow_2 cJ2_grow_2 4 (some (.array (.object "java/lang/Object")))) ({ frames := 1, cells := 1, slots := 10, locals := 60 } : Room) g z [.ref la, .int 1] [(la, .inr (17, [.int mc, .ref (z 4), .int 0]))] (fun rv w' => ∃ q : Nat, rv = some (.ref q) ∧ w' = [(la, .inr (17, [.int mc, .ref q, .int 0])), (q, .inl (g.2 4, 10, .inr (.inr (.inr (.inr (fun _ => none))))))]) px 1 10 := by
  refine CY.of RJ2 rfl plain_J2 (Nat.le_of_ble_eq_true rfl) (fun p e s m below meth cd A ls X hP hD hS hl => ?_)
  have hG := X.2.1
  have hx := X.1.1
  have hb := X.1.2.1
  have hown := X.1.2.2.2.2.2.1
  have hts := X.1.2.2.2.2.2.2.1
  have hl : lv_has ls 4 [(0, .ref la), (1, .int 1)] := hl
  refine lv_aload_n hx hb dJ2_grow_2_0 rfl (lv_at hl 0 rfl) ?_
  refine gF X.1 in_J2 hP 0 rfl rfl 1 (by decide) q403 rfl dJ2_grow_2_1 ?_
  refine va_tlen hx hb hG.2.2.2.1.2.1 hS (v := 0) rfl dJ2_grow_2_4 ?_
  refine lv_istore_n (lv' := [(2, .int 0), (0, .ref la), (1, .int 1)]) hx hb dJ2_grow_2_5 rfl hl (by decide) rfl (fun ls hl => ?_)
  refine lv_iload_n hx hb dJ2_grow_2_6 rfl (lv_at hl 0 rfl) ?_
  refine lv_if_gt (tgt := 20) hx hb dJ2_grow_2_7 (by decide) (fun q => absurd q (by decide)) (fun _ => ?_)
  refine lv_aload_n hx hb dJ2_grow_2_10 rfl (lv_at hl 1 rfl) ?_
  refine gF X.1 in_J2 hP 0 rfl rfl 1 (by decide) q403 rfl dJ2_grow_2_11 ?_
  refine va_gets (v := .ref (z 4)) hx hb hG.2.2.2.1.1 hS hown (hts _ q401) (fun _ h9 => h9) dJ2_grow_2_14 ?_
  refine lv_acmp_eq (rx := some (z 4)) (ry := some (z 4)) (tgt := 45) hx hb dJ2_grow_2_17 (by decide) (fun _ => ?_) (fun q => absurd rfl q)
  refine lv_aload_n hx hb dJ2_grow_2_45 rfl (lv_at hl 1 rfl) ?_
  refine lv_bipush (v := 10) hx hb dJ2_grow_2_46 (by decide) ?_
  refine lv_iload_n hx hb dJ2_grow_2_48 rfl (lv_at hl 2 rfl) ?_
  refine rMax X.1 q705 hl.1 ⟨Nat.le_of_ble_eq_true rfl, Nat.le_of_ble_eq_true rfl⟩ ⟨Nat.zero_le _, Nat.zero_le _⟩ dJ2_grow_2_49 ?_
  refine tpi (y := 10) (by decide) ?_
  refine rNewq X.1 hG.2.1.2.2.1 q706 4 rfl hP hD hS 10 (by decide) (by decide) (by decide) (Nat.le_refl _) (Nat.le_refl _) dJ2_grow_2_52 (fun q H hP hD hS => ?_)
  refine lv_dup_x1 hx hb dJ2_grow_2_55 rfl rfl ?_
  refine pF (w' := [(la, .inr (17, [.int mc, .ref q, .int 0])), (q, .inl (g.2 4, 10, .inr (.inr (.inr (.inr (fun _ => none))))))]) X.1 in_J2 tyJ2 tyJ2_ok nmJ2 hP hD hS 0 rfl rfl 1 (by decide) q403 rfl rfl rfl (Nat.le_of_ble_eq_true rfl) rfl dJ2_grow_2_56 (fun H locs hP hD hS => ?_)
  exact yRa X ⟨q, rfl, rfl⟩ hP hD hS ⟨Nat.le_refl _, Nat.le_refl _⟩ dJ2_grow_2_59
theorem gs_J2_J11_newLength : GoodIn lw_all (va_wsS RJ2 73 yJ11_newLength (ws_ yJ11_newLength cJ11_newLength 4 (some .int))) := lw_S q661 q662 q167 q663
theorem dy_J11_newLength : Dy yJ11_newLength RJ11 3 := by decide +kernel
theorem gs_J2_J12_copyOf : GoodIn lw_all (va_wsS RJ2 66 yJ12_copyOf (ws_ yJ12_copyOf cJ12_copyOf 2 (some (.array (.object "java/lang/Object"))))) := lw_S q671 q672 q168 q673
theorem dy_J12_copyOf : Dy yJ12_copyOf RJ12 2 := by decide +kernel
theorem met_growIn {l : Launch} {g : gG} {z : Nat → Nat} {px : Nat → va_W → Prop} {la ea n : Nat} {mc : Int32} {f : Nat → Option Nat} {we : va_W} (hn0 : 10 ≤ n) (hn : n ≤ 250) (hel : ∀ i y : Nat, i < n → f i = some y → ElOK z we y) : CY l yJ2_grow_2 (ws_ yJ2_grow_2 cJ2_grow_2 4 (some (.array (.object "java/lang/Object")))) ({ frames := 4, cells := 1, slots := n + n / 2, locals := 200 } : Room) g z [.ref la, .int (nI (n + 1))] ((la, .inr (17, [.int mc, .ref ea, .int (nI n)])) :: (ea, .inl (g.2 4, n, .inr (.inr (.inr (.inr f))))) :: we) (fun rv w' => ∃ (q : Nat) (f1 : Nat → Option Nat), rv = some (.ref q) ∧ w' = ((la, .inr (17, [.int mc, .ref q, .int (nI n)])) :: (ea, .inl (g.2 4, n, .inr (.inr (.inr (.inr f))))) :: (we ++ [(q, .inl (g.2 4, (n + n / 2), .inr (.inr (.inr (.inr f1)))))])) ∧ ∀ i : Nat, i < n → f1 i = f i) px 1 (n + n / 2) := by
  refine CY.of RJ2 rfl plain_J2 (Nat.le_of_ble_eq_true rfl) (fun p e s m below meth cd A ls X hP hD hS hl => ?_)
  have hG := X.2.1
  have hx := X.1.1
  have hb := X.1.2.1
  have hown := X.1.2.2.2.2.2.1
  have hts := X.1.2.2.2.2.2.2.1
  have hl : lv_has ls 4 [(0, .ref la), (1, .int (nI (n + 1)))] := hl
  refine lv_aload_n hx hb dJ2_grow_2_0 rfl (lv_at hl 0 rfl) ?_
  refine gF X.1 in_J2 hP 0 rfl rfl 1 (by decide) q403 rfl dJ2_grow_2_1 ?_
  refine va_alen (v := nI n) hx hb X.1.2.2.2.2.2.2.2.2 hP 1 4 rfl rfl rfl dJ2_grow_2_4 ?_
  refine lv_istore_n (lv' := [(2, .int (nI n)), (0, .ref la), (1, .int (nI (n + 1)))]) hx hb dJ2_grow_2_5 rfl hl (by decide) rfl (fun ls hl => ?_)
  refine lv_iload_n hx hb dJ2_grow_2_6 rfl (lv_at hl 0 rfl) ?_
  refine lv_if_gt (tgt := 20) hx hb dJ2_grow_2_7 (by decide) (fun _ => ?_) (fun q => absurd (nI_lt (a := 0) (b := n) (by omega) (by omega)) q)
  refine lv_iload_n hx hb dJ2_grow_2_20 rfl (lv_at hl 0 rfl) ?_
  refine lv_iload_n hx hb dJ2_grow_2_21 rfl (lv_at hl 2 rfl) ?_
  refine lv_iload_n hx hb dJ2_grow_2_22 rfl (lv_at hl 0 rfl) ?_
  refine lv_isub hx hb dJ2_grow_2_23 ?_
  refine lv_iload_n hx hb dJ2_grow_2_24 rfl (lv_at hl 0 rfl) ?_
  refine lv_iconst (v := 1) hx hb dJ2_grow_2_25 (by decide) ?_
  refine lv_ishr hx hb dJ2_grow_2_26 ?_
  refine cS0 (rest := []) (w := []) (w' := []) X.1 (met_newLength (g := g) (by omega) (by omega)) gs_J2_J11_newLength dy_J11_newLength ⟨⟨rfl, rfl⟩, Nat.le_of_ble_eq_true rfl, Nat.le_of_ble_eq_true rfl⟩ ⟨Nat.zero_le _, Nat.zero_le _⟩ hP hD hS rfl hl.1 rfl (Nat.le_of_ble_eq_true rfl) dJ2_grow_2_27 (fun H locs hP hD hS => ?_)
  refine lv_istore_n (lv' := [(3, .int (nI (n + n / 2))), (2, .int (nI n)), (0, .ref la), (1, .int (nI (n + 1)))]) hx hb dJ2_grow_2_30 rfl hl (by decide) rfl (fun ls hl => ?_)
  refine lv_aload_n hx hb dJ2_grow_2_31 rfl (lv_at hl 2 rfl) ?_
  refine lv_aload_n hx hb dJ2_grow_2_32 rfl (lv_at hl 2 rfl) ?_
  refine gF X.1 in_J2 hP 0 rfl rfl 1 (by decide) q403 rfl dJ2_grow_2_33 ?_
  refine lv_iload_n hx hb dJ2_grow_2_36 rfl (lv_at hl 0 rfl) ?_
  obtain ⟨hP, hD⟩ := w_perm (a := (la, .inr (17, [.int mc, .ref ea, .int (nI n)])) :: (ea, .inl (g.2 4, n, .inr (.inr (.inr (.inr f))))) :: we) (b := ((ea, .inl (g.2 4, n, .inr (.inr (.inr (.inr f))))) :: we) ++ [(la, .inr (17, [.int mc, .ref ea, .int (nI n)]))]) hP hD (List.perm_append_singleton _ _).symm
  refine yS (rest := [.ref la]) (wf := [(la, .inr (17, [.int mc, .ref ea, .int (nI n)]))]) X (met_copyOf (px := fun _ _ => False) (n1 := n + n / 2) (by omega) (by omega) hel) gs_J2_J12_copyOf dy_J12_copyOf ⟨⟨rfl, rfl⟩, Nat.le_of_ble_eq_true rfl, Nat.le_of_ble_eq_true rfl⟩ ⟨Nat.le_refl _, (by show 0 + (n + n / 2) ≤ n + n / 2; omega)⟩ hP hD hS rfl hl.1 rfl (Nat.le_of_ble_eq_true rfl) dJ2_grow_2_37 ⟨Nat.le_refl _, (by omega)⟩ (fun _ _ h => h.elim) (fun rv w1 H locs hpo hP hD hS => ?_)
  obtain ⟨q, f1, rfl, rfl, hf1⟩ := hpo
  obtain ⟨hP, hD⟩ := w_perm (b := ((la, .inr (17, [.int mc, .ref ea, .int (nI n)])) :: (ea, .inl (g.2 4, n, .inr (.inr (.inr (.inr f))))) :: (we ++ [(q, .inl (g.2 4, (n + n / 2), .inr (.inr (.inr (.inr f1)))))]))) hP hD (List.perm_append_singleton _ _)
  refine lv_dup_x1 hx hb dJ2_grow_2_40 rfl rfl ?_
  refine pF (w' := ((la, .inr (17, [.int mc, .ref q, .int (nI n)])) :: (ea, .inl (g.2 4, n, .inr (.inr (.inr (.inr f))))) :: (we ++ [(q, .inl (g.2 4, (n + n / 2), .inr (.inr (.inr (.inr f1)))))]))) X.1 in_J2 tyJ2 tyJ2_ok nmJ2 hP hD hS 0 rfl rfl 1 (by decide) q403 rfl rfl rfl (Nat.le_of_ble_eq_true rfl) rfl dJ2_grow_2_41 (fun H locs hP hD hS => ?_)
  exact yRa X ⟨q, f1, rfl, rfl, hf1⟩ hP hD hS ⟨Nat.le_refl _, (by omega)⟩ dJ2_grow_2_44
theorem gw_J2_J2_grow_2 : GoodIn lw_all (wsV RJ2 69 RJ2 yJ2_grow_2 (ws_ yJ2_grow_2 cJ2_grow_2 4 (some (.array (.object "java/lang/Object"))))) := lw_V q657 q659 qs18 q153 q660
theorem dy_J2_grow_2 : Dy yJ2_grow_2 RJ2 1 := by decide +kernel
theorem met_grow0 {l : Launch} {g : gG} {z : Nat → Nat} {px : Nat → va_W → Prop} {la : Nat} {mc : Int32} : CY l yJ2_grow (ws_ yJ2_grow cJ2_grow 1 (some (.array (.object "java/lang/Object")))) ({ frames := 2, cells := 1, slots := 10, locals := 120 } : Room) g z [.ref la] [(la, .inr (17, [.int mc, .ref (z 4), .int 0]))] (fun rv w' => ∃ q : Nat, rv = some (.ref q) ∧ w' = [(la, .inr (17, [.int mc, .ref q, .int 0])), (q, .inl (g.2 4, 10, .inr (.inr (.inr (.inr (fun _ => none))))))]) px 1 10 := by
  refine CY.of RJ2 rfl plain_J2 (Nat.le_of_ble_eq_true rfl) (fun p e s m below meth cd A ls X hP hD hS hl => ?_)
  have hG := X.2.1
  have hx := X.1.1
  have hb := X.1.2.1
  have hown := X.1.2.2.2.2.2.1
  have hts := X.1.2.2.2.2.2.2.1
  have hl : lv_has ls 1 [(0, .ref la)] := hl
  refine lv_aload_n hx hb dJ2_grow_0 rfl (lv_at hl 0 rfl) ?_
  refine lv_aload_n hx hb dJ2_grow_1 rfl (lv_at hl 0 rfl) ?_
  refine gF X.1 in_J2 hP 0 rfl rfl 2 (by decide) q404 rfl dJ2_grow_2 ?_
  refine lv_iconst (v := 1) hx hb dJ2_grow_5 (by decide) ?_
  refine lv_iadd hx hb dJ2_grow_6 ?_
  refine tpi (y := 1) (by decide) ?_
  refine yV (rest := []) (wf := []) X (met_growI0 (px := fun _ _ => False)) gw_J2_J2_grow_2 dy_J2_grow_2 ⟨⟨rfl, rfl⟩, Nat.le_of_ble_eq_true rfl, Nat.le_of_ble_eq_true rfl⟩ ⟨Nat.le_refl _, Nat.le_refl _⟩ (by rw [List.append_nil]; exact hP) (by rw [List.append_nil]; exact hD) hS ⟨0, 17, _, _, _, rfl, rfl⟩ rfl hl.1 rfl (Nat.le_of_ble_eq_true rfl) dJ2_grow_7 ⟨Nat.le_refl _, Nat.le_refl _⟩ (fun _ _ h => h.elim) (fun rv w1 H locs hpo hP hD hS => ?_)
  obtain ⟨q, rfl, rfl⟩ := hpo
  rw [List.append_nil] at hP hD
  exact yRa X ⟨q, rfl, rfl⟩ hP hD hS ⟨Nat.le_refl _, Nat.le_refl _⟩ dJ2_grow_10
theorem met_grown {l : Launch} {g : gG} {z : Nat → Nat} {px : Nat → va_W → Prop} {la ea n : Nat} {mc : Int32} {f : Nat → Option Nat} {we : va_W} (hn0 : 10 ≤ n) (hn : n ≤ 250) (hel : ∀ i y : Nat, i < n → f i = some y → ElOK z we y) : CY l yJ2_grow (ws_ yJ2_grow cJ2_grow 1 (some (.array (.object "java/lang/Object")))) ({ frames := 5, cells := 1, slots := n + n / 2, locals := 260 } : Room) g z [.ref la] ((la, .inr (17, [.int mc, .ref ea, .int (nI n)])) :: (ea, .inl (g.2 4, n, .inr (.inr (.inr (.inr f))))) :: we) (fun rv w' => ∃ (q : Nat) (f1 : Nat → Option Nat), rv = some (.ref q) ∧ w' = ((la, .inr (17, [.int mc, .ref q, .int (nI n)])) :: (ea, .inl (g.2 4, n, .inr (.inr (.inr (.inr f))))) :: (we ++ [(q, .inl (g.2 4, (n + n / 2), .inr (.inr (.inr (.inr f1)))))])) ∧ ∀ i : Nat, i < n → f1 i = f i) px 1 (n + n / 2) := by
  refine CY.of RJ2 rfl plain_J2 (Nat.le_of_ble_eq_true rfl) (fun p e s m below meth cd A ls X hP hD hS hl => ?_)
  have hG := X.2.1
  have hx := X.1.1
  have hb := X.1.2.1
  have hown := X.1.2.2.2.2.2.1
  have hts := X.1.2.2.2.2.2.2.1
  have hl : lv_has ls 1 [(0, .ref la)] := hl
  refine lv_aload_n hx hb dJ2_grow_0 rfl (lv_at hl 0 rfl) ?_
  refine lv_aload_n hx hb dJ2_grow_1 rfl (lv_at hl 0 rfl) ?_
  refine gF X.1 in_J2 hP 0 rfl rfl 2 (by decide) q404 rfl dJ2_grow_2 ?_
  refine lv_iconst (v := 1) hx hb dJ2_grow_5 (by decide) ?_
  refine lv_iadd hx hb dJ2_grow_6 ?_
  refine tpi (y := nI (n + 1)) (nI_add n 1).symm ?_
  refine yV (rest := []) (wf := []) X (met_growIn (px := fun _ _ => False) hn0 hn hel) gw_J2_J2_grow_2 dy_J2_grow_2 ⟨⟨rfl, rfl⟩, Nat.le_of_ble_eq_true rfl, Nat.le_of_ble_eq_true rfl⟩ ⟨Nat.le_refl _, (by show 0 + (n + n / 2) ≤ n + n / 2; omega)⟩ (by rw [List.append_nil]; exact hP) (by rw [List.append_nil]; exact hD) hS ⟨0, 17, _, _, _, rfl, rfl⟩ rfl hl.1 rfl (Nat.le_of_ble_eq_true rfl) dJ2_grow_7 ⟨Nat.le_refl _, (by omega)⟩ (fun _ _ h => h.elim) (fun rv w1 H locs hpo hP hD hS => ?_)
  obtain ⟨q, f1, rfl, rfl, hf1⟩ := hpo
  rw [List.append_nil] at hP hD
  exact yRa X ⟨q, f1, rfl, rfl, hf1⟩ hP hD hS ⟨Nat.le_refl _, (by omega)⟩ dJ2_grow_10
theorem gw_J2_J2_grow : GoodIn lw_all (wsV RJ2 129 RJ2 yJ2_grow (ws_ yJ2_grow cJ2_grow 1 (some (.array (.object "java/lang/Object"))))) := lw_V q653 q655 qs17 q153 q656
theorem dy_J2_grow : Dy yJ2_grow RJ2 0 := by decide +kernel
theorem met_add0 {l : Launch} {g : gG} {z : Nat → Nat} {px : Nat → va_W → Prop} {la v : Nat} {mc : Int32} {we : va_W} (hv : ElOK z we v) : CY l yJ2_add_2 (ws_ yJ2_add_2 cJ2_add_2 4 none) ({ frames := 3, cells := 1, slots := 10, locals := 180 } : Room) g z [.ref la, .ref v, .ref (z 4), .int 0] ((la, .inr (17, [.int mc, .ref (z 4), .int 0])) :: we) (fun rv w' => ∃ q : Nat, rv = none ∧ w' = ((la, .inr (17, [.int mc, .ref q, .int 1])) :: (q, .inl (g.2 4, 10, .inr (.inr (.inr (.inr (va_up (fun _ => none) 0 (some v))))))) :: we)) px 1 10 := by
  refine CY.of RJ2 rfl plain_J2 (Nat.le_of_ble_eq_true rfl) (fun p e s m below meth cd A ls X hP hD hS hl => ?_)
  have hG := X.2.1
  have hx := X.1.1
  have hb := X.1.2.1
  have hown := X.1.2.2.2.2.2.1
  have hts := X.1.2.2.2.2.2.2.1
  have hl : lv_has ls 4 [(0, .ref la), (1, .ref v), (2, .ref (z 4)), (3, .int 0)] := hl
  refine lv_iload_n hx hb dJ2_add_2_0 rfl (lv_at hl 3 rfl) ?_
  refine lv_aload_n hx hb dJ2_add_2_1 rfl (lv_at hl 2 rfl) ?_
  refine va_tlen hx hb hG.2.2.2.1.2.1 hS (v := 0) rfl dJ2_add_2_2 ?_
  refine lv_icmp_ne (tgt := 11) hx hb dJ2_add_2_3 (by decide) (fun q => absurd rfl q) (fun _ => ?_)
  refine lv_aload_n hx hb dJ2_add_2_6 rfl (lv_at hl 0 rfl) ?_
  refine yV (rest := []) (wf := we) X (met_grow0 (px := fun _ _ => False)) gw_J2_J2_grow dy_J2_grow ⟨⟨rfl, rfl⟩, Nat.le_of_ble_eq_true rfl, Nat.le_of_ble_eq_true rfl⟩ ⟨Nat.le_refl _, Nat.le_refl _⟩ hP hD hS ⟨0, 17, _, _, _, rfl, rfl⟩ rfl hl.1 rfl (Nat.le_of_ble_eq_true rfl) dJ2_add_2_7 ⟨Nat.le_refl _, Nat.le_refl _⟩ (fun _ _ h => h.elim) (fun rv w1 H locs hpo hP hD hS => ?_)
  obtain ⟨q, rfl, rfl⟩ := hpo
  refine lv_astore_n (lv' := [(2, .ref q), (0, .ref la), (1, .ref v), (3, .int 0)]) hx hb dJ2_add_2_10 rfl hl (by decide) rfl (fun ls hl => ?_)
  refine lv_aload_n hx hb dJ2_add_2_11 rfl (lv_at hl 0 rfl) ?_
  refine lv_iload_n hx hb dJ2_add_2_12 rfl (lv_at hl 3 rfl) ?_
  refine lv_aload_n hx hb dJ2_add_2_13 rfl (lv_at hl 2 rfl) ?_
  refine va_astqM (E := "java/lang/Object") hx hb X.1.2.2.2.2.2.2.2.2 hP hD hS 1 4 rfl rfl ((hv.mono (fun q hq => List.mem_cons_of_mem _ (List.mem_cons_of_mem _ hq))).any X.1 hG.1 hP hS) (by unfold vp_in; decide) dJ2_add_2_14 (fun H locs hP hD hS => ?_)
  refine lv_aload_n hx hb dJ2_add_2_15 rfl (lv_at hl 1 rfl) ?_
  refine lv_iload_n hx hb dJ2_add_2_16 rfl (lv_at hl 3 rfl) ?_
  refine lv_iconst (v := 1) hx hb dJ2_add_2_17 (by decide) ?_
  refine lv_iadd hx hb dJ2_add_2_18 ?_
  refine tpi (y := 1) (by decide) ?_
  refine pF (w' := ((la, .inr (17, [.int mc, .ref q, .int 1])) :: (q, .inl (g.2 4, 10, .inr (.inr (.inr (.inr (va_up (fun _ => none) 0 (some v))))))) :: we)) X.1 in_J2 tyJ2 tyJ2_ok nmJ2 hP hD hS 0 rfl rfl 2 (by decide) q404 rfl rfl rfl (Nat.le_of_ble_eq_true rfl) rfl dJ2_add_2_19 (fun H locs hP hD hS => ?_)
  exact yRv X ⟨q, rfl, rfl⟩ hP hD hS ⟨Nat.le_refl _, Nat.le_refl _⟩ dJ2_add_2_22
theorem met_add1 {l : Launch} {g : gG} {z : Nat → Nat} {px : Nat → va_W → Prop} {la ea v c n : Nat} {mc : Int32} {f : Nat → Option Nat} {we : va_W} (hcn : c < n) (hn : n ≤ 400) (hv : ElOK z we v) : CY l yJ2_add_2 (ws_ yJ2_add_2 cJ2_add_2 4 none) ({ frames := 3, cells := 0, slots := 0, locals := 180 } : Room) g z [.ref la, .ref v, .ref ea, .int (nI c)] ((la, .inr (17, [.int mc, .ref ea, .int (nI c)])) :: (ea, .inl (g.2 4, n, .inr (.inr (.inr (.inr f))))) :: we) (fun rv w' => rv = none ∧ w' = ((la, .inr (17, [.int mc, .ref ea, .int (nI (c + 1))])) :: (ea, .inl (g.2 4, n, .inr (.inr (.inr (.inr (va_up f c (some v))))))) :: we)) px 0 0 := by
  refine CY.of RJ2 rfl plain_J2 (Nat.le_of_ble_eq_true rfl) (fun p e s m below meth cd A ls X hP hD hS hl => ?_)
  have hG := X.2.1
  have hx := X.1.1
  have hb := X.1.2.1
  have hown := X.1.2.2.2.2.2.1
  have hts := X.1.2.2.2.2.2.2.1
  have hl : lv_has ls 4 [(0, .ref la), (1, .ref v), (2, .ref ea), (3, .int (nI c))] := hl
  refine lv_iload_n hx hb dJ2_add_2_0 rfl (lv_at hl 3 rfl) ?_
  refine lv_aload_n hx hb dJ2_add_2_1 rfl (lv_at hl 2 rfl) ?_
  refine va_alen (v := nI n) hx hb X.1.2.2.2.2.2.2.2.2 hP 1 4 rfl rfl rfl dJ2_add_2_2 ?_
  refine lv_icmp_ne (tgt := 11) hx hb dJ2_add_2_3 (by decide) (fun _ => ?_) (fun q => absurd ((nI_eq (by omega) (by omega)).mp q) (by omega))
  refine lv_aload_n hx hb dJ2_add_2_11 rfl (lv_at hl 2 rfl) ?_
  refine lv_iload_n hx hb dJ2_add_2_12 rfl (lv_at hl 3 rfl) ?_
  refine lv_aload_n hx hb dJ2_add_2_13 rfl (lv_at hl 1 rfl) ?_
  refine va_astqM (E := "java/lang/Object") hx hb X.1.2.2.2.2.2.2.2.2 hP hD hS 1 4 rfl rfl ((hv.mono (fun q hq => List.mem_cons_of_mem _ (List.mem_cons_of_mem _ hq))).any X.1 hG.1 hP hS) (vp_in_nI hcn (by omega)) dJ2_add_2_14 (fun H locs hP hD hS => ?_)
  rw [nI_clamp (by omega : c < 2 ^ 31)] at hP hD
  refine lv_aload_n hx hb dJ2_add_2_15 rfl (lv_at hl 0 rfl) ?_
  refine lv_iload_n hx hb dJ2_add_2_16 rfl (lv_at hl 3 rfl) ?_
  refine lv_iconst (v := 1) hx hb dJ2_add_2_17 (by decide) ?_
  refine lv_iadd hx hb dJ2_add_2_18 ?_
  refine tpi (y := nI (c + 1)) (nI_add c 1).symm ?_
  refine pF (w' := ((la, .inr (17, [.int mc, .ref ea, .int (nI (c + 1))])) :: (ea, .inl (g.2 4, n, .inr (.inr (.inr (.inr (va_up f c (some v))))))) :: we)) X.1 in_J2 tyJ2 tyJ2_ok nmJ2 hP hD hS 0 rfl rfl 2 (by decide) q404 rfl rfl rfl (Nat.le_of_ble_eq_true rfl) rfl dJ2_add_2_19 (fun H locs hP hD hS => ?_)
  exact yRv X ⟨rfl, rfl⟩ hP hD hS ⟨Nat.le_refl _, Nat.le_refl _⟩ dJ2_add_2_22
theorem perm_end {a q : Nat × va_E} {b : va_W} : (a :: (b ++ [q])).Perm (q :: a :: b) := List.perm_append_singleton q (a :: b)
theorem va_up_eq {α : Type} {f : Nat → α} {k : Nat} {v : α} : va_up f k v k = v := by simp [va_up]
theorem up_ne {α : Type} {f : Nat → α} {k j : Nat} {v : α} (h : j ≠ k) : va_up f k v j = f j := by simp [va_up, h]
theorem met_addn {l : Launch} {g : gG} {z : Nat → Nat} {px : Nat → va_W → Prop} {la ea v n : Nat} {mc : Int32} {f : Nat → Option Nat} {we : va_W} (hn0 : 10 ≤ n) (hn : n ≤ 250) (hel : ∀ i y : Nat, i < n → f i = some y → ElOK z we y) (hv : ElOK z we v) : CY l yJ2_add_2 (ws_ yJ2_add_2 cJ2_add_2 4 none) ({ frames := 6, cells := 1, slots := n + n / 2, locals := 320 } : Room) g z [.ref la, .ref v, .ref ea, .int (nI n)] ((la, .inr (17, [.int mc, .ref ea, .int (nI n)])) :: (ea, .inl (g.2 4, n, .inr (.inr (.inr (.inr f))))) :: we) (fun rv w' => ∃ (q : Nat) (f1 : Nat → Option Nat), rv = none ∧ w' = ((la, .inr (17, [.int mc, .ref q, .int (nI (n + 1))])) :: (q, .inl (g.2 4, (n + n / 2), .inr (.inr (.inr (.inr f1))))) :: (ea, .inl (g.2 4, n, .inr (.inr (.inr (.inr f))))) :: we) ∧ (∀ i : Nat, i < n → f1 i = f i) ∧ f1 n = some v) px 1 (n + n / 2) := by
  refine CY.of RJ2 rfl plain_J2 (Nat.le_of_ble_eq_true rfl) (fun p e s m below meth cd A ls X hP hD hS hl => ?_)
  have hG := X.2.1
  have hx := X.1.1
  have hb := X.1.2.1
  have hown := X.1.2.2.2.2.2.1
  have hts := X.1.2.2.2.2.2.2.1
  have hl : lv_has ls 4 [(0, .ref la), (1, .ref v), (2, .ref ea), (3, .int (nI n))] := hl
  refine lv_iload_n hx hb dJ2_add_2_0 rfl (lv_at hl 3 rfl) ?_
  refine lv_aload_n hx hb dJ2_add_2_1 rfl (lv_at hl 2 rfl) ?_
  refine va_alen (v := nI n) hx hb X.1.2.2.2.2.2.2.2.2 hP 1 4 rfl rfl rfl dJ2_add_2_2 ?_
  refine lv_icmp_ne (tgt := 11) hx hb dJ2_add_2_3 (by decide) (fun q => absurd rfl q) (fun _ => ?_)
  refine lv_aload_n hx hb dJ2_add_2_6 rfl (lv_at hl 0 rfl) ?_
  refine yV (rest := []) (wf := []) X (met_grown (px := fun _ _ => False) hn0 hn hel) gw_J2_J2_grow dy_J2_grow ⟨⟨rfl, rfl⟩, Nat.le_of_ble_eq_true rfl, Nat.le_of_ble_eq_true rfl⟩ ⟨Nat.le_refl _, (by show 0 + (n + n / 2) ≤ n + n / 2; omega)⟩ (by rw [List.append_nil]; exact hP) (by rw [List.append_nil]; exact hD) hS ⟨0, 17, _, _, _, rfl, rfl⟩ rfl hl.1 rfl (Nat.le_of_ble_eq_true rfl) dJ2_add_2_7 ⟨Nat.le_refl _, (by omega)⟩ (fun _ _ h => h.elim) (fun rv w1 H locs hpo hP hD hS => ?_)
  obtain ⟨q, f1, rfl, rfl, hf1⟩ := hpo
  rw [List.append_nil] at hP hD
  obtain ⟨hP, hD⟩ := w_perm (b := ((la, .inr (17, [.int mc, .ref q, .int (nI n)])) :: (q, .inl (g.2 4, (n + n / 2), .inr (.inr (.inr (.inr f1))))) :: (ea, .inl (g.2 4, n, .inr (.inr (.inr (.inr f))))) :: we)) hP hD ((perm_end (a := (ea, .inl (g.2 4, n, .inr (.inr (.inr (.inr f)))))) (b := we) (q := (q, .inl (g.2 4, (n + n / 2), .inr (.inr (.inr (.inr f1))))))).cons _)
  refine lv_astore_n (lv' := [(2, .ref q), (0, .ref la), (1, .ref v), (3, .int (nI n))]) hx hb dJ2_add_2_10 rfl hl (by decide) rfl (fun ls hl => ?_)
  refine lv_aload_n hx hb dJ2_add_2_11 rfl (lv_at hl 0 rfl) ?_
  refine lv_iload_n hx hb dJ2_add_2_12 rfl (lv_at hl 3 rfl) ?_
  refine lv_aload_n hx hb dJ2_add_2_13 rfl (lv_at hl 2 rfl) ?_
  refine va_astqM (E := "java/lang/Object") hx hb X.1.2.2.2.2.2.2.2.2 hP hD hS 1 4 rfl rfl ((hv.mono (fun q hq => List.mem_cons_of_mem _ (List.mem_cons_of_mem _ (List.mem_cons_of_mem _ hq)))).any X.1 hG.1 hP hS) (vp_in_nI (by omega) (by omega)) dJ2_add_2_14 (fun H locs hP hD hS => ?_)
  rw [nI_clamp (by omega : n < 2 ^ 31)] at hP hD
  refine lv_aload_n hx hb dJ2_add_2_15 rfl (lv_at hl 1 rfl) ?_
  refine lv_iload_n hx hb dJ2_add_2_16 rfl (lv_at hl 3 rfl) ?_
  refine lv_iconst (v := 1) hx hb dJ2_add_2_17 (by decide) ?_
  refine lv_iadd hx hb dJ2_add_2_18 ?_
  refine tpi (y := nI (n + 1)) (nI_add n 1).symm ?_
  refine pF (w' := ((la, .inr (17, [.int mc, .ref q, .int (nI (n + 1))])) :: (q, .inl (g.2 4, (n + n / 2), .inr (.inr (.inr (.inr (va_up f1 n (some v))))))) :: (ea, .inl (g.2 4, n, .inr (.inr (.inr (.inr f))))) :: we)) X.1 in_J2 tyJ2 tyJ2_ok nmJ2 hP hD hS 0 rfl rfl 2 (by decide) q404 rfl rfl rfl (Nat.le_of_ble_eq_true rfl) rfl dJ2_add_2_19 (fun H locs hP hD hS => ?_)
  exact yRv X ⟨q, va_up f1 n (some v), rfl, rfl, fun i hi => by rw [← hf1 i hi]; exact up_ne (by omega), va_up_eq⟩ hP hD hS ⟨Nat.le_refl _, (by omega)⟩ dJ2_add_2_22
theorem gw_J2_J2_add_2 : GoodIn lw_all (wsV RJ2 131 RJ2 yJ2_add_2 (ws_ yJ2_add_2 cJ2_add_2 4 none)) := lw_V q649 q651 qs16 q153 q652
theorem dy_J2_add_2 : Dy yJ2_add_2 RJ2 3 := by decide +kernel
theorem met_add {l : Launch} {g : gG} {z : Nat → Nat} {px : Nat → va_W → Prop} {la v c n : Nat} {f : Nat → Option Nat} {w0 we : va_W} (hw : LsW g z la c n f w0) (hc : c ≤ 250) (hel : ∀ i y : Nat, i < c → f i = some y → ElOK z we y) (hv : ElOK z we v) : CY l yJ2_add (ws_ yJ2_add cJ2_add 2 (some .boolean)) ({ frames := 7, cells := addK c n, slots := addS c n, locals := 380 } : Room) g z [.ref la, .ref v] (w0 ++ we) (fun rv w' => ∃ (w1 : va_W) (f1 : Nat → Option Nat), rv = some (.int 1) ∧ w' = w1 ++ we ∧ LsW g z la (c + 1) (capN c n) f1 w1 ∧ (∀ i : Nat, i < c → f1 i = f i) ∧ f1 c = some v) px (addK c n) (addS c n) := by
  refine CY.of RJ2 rfl plain_J2 (Nat.le_of_ble_eq_true rfl) (fun p e s m below meth cd A ls X hP hD hS hl => ?_)
  have hG := X.2.1
  have hx := X.1.1
  have hb := X.1.2.1
  have hown := X.1.2.2.2.2.2.1
  have hts := X.1.2.2.2.2.2.2.1
  have hl : lv_has ls 2 [(0, .ref la), (1, .ref v)] := hl
  obtain ⟨mc, ea, tail, rfl, hcase⟩ := hw
  have hsub : ∀ q ∈ we, q ∈ tail ++ we := fun q hq => List.mem_append_right _ hq
  have hsame : ∀ x, s.fieldFound? "java/util/AbstractList" "modCount" "I" = some x → s.fieldFound? "java/util/ArrayList" "modCount" "I" = some x := u_same (hts _ q407)
  refine lv_aload_n hx hb dJ2_add_0 rfl (lv_at hl 0 rfl) ?_
  refine lv_dup hx hb dJ2_add_1 rfl ?_
  refine va_get hx hb hts in_J2 hown X.1.2.2.2.2.2.2.2.2 hP 0 rfl rfl 0 (by decide) (hts _ q406) hsame rfl dJ2_add_2 ?_
  refine lv_iconst (v := 1) hx hb dJ2_add_5 (by decide) ?_
  refine lv_iadd hx hb dJ2_add_6 ?_
  refine va_put hx hb hts in_J2 tyJ2 tyJ2_ok nmJ2 hown X.1.2.2.2.2.2.2.2.2 hP hD hS 0 rfl rfl 0 (by decide) (hts _ q406) hsame rfl (tyJ2_ok 0 (by decide)) rfl rfl (Nat.le_of_ble_eq_true rfl) dJ2_add_7 (fun H locs hP hD hS => ?_)
  have hP : va_P g.1 vwCl ((la, .inr (17, [.int (mc + 1), .ref ea, .int (nI c)])) :: (tail ++ we)) H := hP
  have hD : va_D A ((la, .inr (17, [.int (mc + 1), .ref ea, .int (nI c)])) :: (tail ++ we)) := hD
  refine lv_aload_n hx hb dJ2_add_10 rfl (lv_at hl 0 rfl) ?_
  refine lv_aload_n hx hb dJ2_add_11 rfl (lv_at hl 1 rfl) ?_
  refine lv_aload_n hx hb dJ2_add_12 rfl (lv_at hl 0 rfl) ?_
  refine gF X.1 in_J2 hP 0 rfl rfl 1 (by decide) q403 rfl dJ2_add_13 ?_
  refine lv_aload_n hx hb dJ2_add_16 rfl (lv_at hl 0 rfl) ?_
  refine gF X.1 in_J2 hP 0 rfl rfl 2 (by decide) q404 rfl dJ2_add_17 ?_
  rcases hcase with ⟨rfl, rfl, rfl⟩ | ⟨hc0, hcn, hn, hn0, gar, rfl⟩
  · rw [show addK 0 0 = 1 from rfl, show addS 0 0 = 10 from rfl]
    refine yV (rest := []) (wf := []) X (met_add0 (px := fun _ _ => False) (hv.mono hsub)) gw_J2_J2_add_2 dy_J2_add_2 ⟨⟨rfl, rfl⟩, Nat.le_of_ble_eq_true rfl, Nat.le_of_ble_eq_true rfl⟩ ⟨Nat.le_refl _, Nat.le_refl _⟩ (by rw [List.append_nil]; exact hP) (by rw [List.append_nil]; exact hD) hS ⟨0, 17, _, _, _, rfl, rfl⟩ rfl hl.1 rfl (Nat.le_of_ble_eq_true rfl) dJ2_add_20 ⟨Nat.le_refl _, Nat.le_refl _⟩ (fun _ _ h => h.elim) (fun rv w1 H locs hpo hP hD hS => ?_)
    obtain ⟨q, rfl, rfl⟩ := hpo
    rw [List.append_nil] at hP hD
    refine lv_iconst (v := 1) hx hb dJ2_add_23 (by decide) ?_
    exact yRz X rfl ⟨(la, .inr (17, [.int (mc + 1), .ref q, .int (nI (0 + 1))])) :: (q, .inl (g.2 4, (capN 0 0), .inr (.inr (.inr (.inr (va_up (fun _ => none) 0 (some v))))))) :: tail, _, rfl, rfl, ⟨mc + 1, q, _, rfl, Or.inr ⟨by omega, by decide, by decide, by decide, _, rfl⟩⟩, fun i hi => absurd hi (Nat.not_lt_zero i), va_up_eq⟩ hP hD hS ⟨(by first | exact Nat.le_refl _ | omega), (by first | exact Nat.le_refl _ | omega)⟩ dJ2_add_24
  · rcases Nat.lt_or_ge c n with hlt | hge
    · have e1 : addK c n = 0 := by unfold addK; rw [if_neg (by omega), if_pos hlt]
      have e2 : addS c n = 0 := by unfold addS; rw [if_neg (by omega), if_pos hlt]
      have e3 : capN c n = n := by unfold capN; rw [if_neg (by omega), if_pos hlt]
      rw [e1, e2]
      refine yV (rest := []) (wf := []) X (met_add1 (px := fun _ _ => False) hlt hn (hv.mono (fun q hq => List.mem_append_right _ hq))) gw_J2_J2_add_2 dy_J2_add_2 ⟨⟨rfl, rfl⟩, Nat.le_of_ble_eq_true rfl, Nat.le_of_ble_eq_true rfl⟩ ⟨Nat.le_refl _, Nat.le_refl _⟩ (by rw [List.append_nil]; exact hP) (by rw [List.append_nil]; exact hD) hS ⟨0, 17, _, _, _, rfl, rfl⟩ rfl hl.1 rfl (Nat.le_of_ble_eq_true rfl) dJ2_add_20 ⟨Nat.le_refl _, Nat.le_refl _⟩ (fun _ _ h => h.elim) (fun rv w1 H locs hpo hP hD hS => ?_)
      obtain ⟨rfl, rfl⟩ := hpo
      rw [List.append_nil] at hP hD
      refine lv_iconst (v := 1) hx hb dJ2_add_23 (by decide) ?_
      exact yRz X rfl ⟨(la, .inr (17, [.int (mc + 1), .ref ea, .int (nI (c + 1))])) :: (ea, .inl (g.2 4, n, .inr (.inr (.inr (.inr (va_up f c (some v))))))) :: gar, _, rfl, rfl, ⟨mc + 1, ea, _, rfl, Or.inr ⟨by omega, by omega, by omega, by omega, gar, by rw [e3]⟩⟩, fun i hi => up_ne (by omega), va_up_eq⟩ hP hD hS ⟨(by first | exact Nat.le_refl _ | omega), (by first | exact Nat.le_refl _ | omega)⟩ dJ2_add_24
    · have ecn : c = n := Nat.le_antisymm hcn hge
      subst ecn
      have e1 : addK c c = 1 := by unfold addK; rw [if_neg (by omega), if_neg (by omega)]
      have e2 : addS c c = c + c / 2 := by unfold addS; rw [if_neg (by omega), if_neg (by omega)]
      have e3 : capN c c = c + c / 2 := by unfold capN; rw [if_neg (by omega), if_neg (by omega)]
      rw [e1, e2]
      refine yV (rest := []) (wf := []) X (met_addn (px := fun _ _ => False) hn0 hc (fun i y hi hy => (hel i y hi hy).mono (fun q hq => List.mem_append_right _ hq)) (hv.mono (fun q hq => List.mem_append_right _ hq))) gw_J2_J2_add_2 dy_J2_add_2 ⟨⟨rfl, rfl⟩, Nat.le_of_ble_eq_true rfl, Nat.le_of_ble_eq_true rfl⟩ ⟨Nat.le_refl _, (by show 0 + (c + c / 2) ≤ c + c / 2; omega)⟩ (by rw [List.append_nil]; exact hP) (by rw [List.append_nil]; exact hD) hS ⟨0, 17, _, _, _, rfl, rfl⟩ rfl hl.1 rfl (Nat.le_of_ble_eq_true rfl) dJ2_add_20 ⟨Nat.le_refl _, (by omega)⟩ (fun _ _ h => h.elim) (fun rv w1 H locs hpo hP hD hS => ?_)
      obtain ⟨q, f1, rfl, rfl, hf1, hf2⟩ := hpo
      rw [List.append_nil] at hP hD
      refine lv_iconst (v := 1) hx hb dJ2_add_23 (by decide) ?_
      exact yRz X rfl ⟨(la, .inr (17, [.int (mc + 1), .ref q, .int (nI (c + 1))])) :: (q, .inl (g.2 4, (c + c / 2), .inr (.inr (.inr (.inr f1))))) :: (ea, .inl (g.2 4, c, .inr (.inr (.inr (.inr f))))) :: gar, f1, rfl, rfl, ⟨mc + 1, q, _, rfl, Or.inr ⟨by omega, by omega, by omega, by omega, _, by rw [e3]⟩⟩, hf1, hf2⟩ hP hD hS ⟨(by first | exact Nat.le_refl _ | omega), (by first | exact Nat.le_refl _ | omega)⟩ dJ2_add_24
