/-! THE BASE: the classes in one list, contracts of one shape, calls in one row -/
abbrev vwCl : List vw_C := [(RX0, TX0, 13), (RX1, TX1, 11), (RX2, TX2, 29), (RX3, TX3, 8), (RX4, TX4, 3), (RX5, TX5, 8), (RX6, TX6, 3), (RX7, TX7, 1), (RX8, TX8, 1), (RX9, TX9, 3), (RX10, TX10, 2), (RX11, TX11, 3), (RX12, TX12, 1), (RX13, TX13, 1), (RX14, TX14, 1), (RX15, TX15, 1), (RX16, TX16, 3), (RJ2, TJ2, 3)]
abbrev gG : Type := va_G × (Nat → ClassId)
abbrev gT (g : gG) : List (ClassId × FieldType) := [(g.2 0, .int), (g.2 1, .long), (g.2 2, .boolean), (g.2 3, .byte), (g.2 4, .object "java/lang/Object"), (g.2 5, .array .int), (g.2 6, .object "WolfsHead$Text"), (g.2 7, .object "WolfsHead$Sum")]
def PreU (g : gG) (w : va_W) (sz : Nat) (U : State) : Prop := U.heap.size = sz ∧ va_P g.1 vwCl w U.heap ∧ va_K g.1 vwCl (gT g) U ∧ va_D (fun _ => True) w
def QQ (g : gG) (rv : Option Value) (w' : va_W) (A : Nat → Prop) : Array Value → State → Outcome → State → Prop := fun _ st oc t => (oc = .returned rv ∧ va_P g.1 vwCl w' t.heap ∧ va_K g.1 vwCl (gT g) t ∧ va_D A w') ∧ va_F A st t
/-- a contract: with the world w the method returns rv, the world behind is w', nothing else is changed -/
def CC (l : Launch) (y : MethodName) (ws : List Cond) (rm : Room) (g : gG) (av : List Value) (w : va_W) (rv : Option Value) (w' : va_W) (mc ms : Nat) : Prop :=
  ∀ sz : Nat, Met l y ws rm (va_Pc av (PreU g w sz)) (QQ g rv w' (va_A w sz)) mc ms (va_A w sz)
/-- what holds within a method -/
def Cx (p : Program) (s : State) (m : MethodId) (meth : Method) (c : Code) (args : Array Value) (own : String) (cc : ByteArray) (nL : Nat) (ret : Option FieldType) (g : gG) (A : Nat → Prop) : Prop :=
  p.tables.exec = Jvm.exec ∧ c.code = cc ∧ meth.sig.returnType = ret ∧ meth.locks = false ∧ c.maxLocals = nL ∧ s.vm.findClass own = some m.cls ∧ (∀ w ∈ lw_all, w.before args s = true) ∧ (∀ q : Nat, s.heap.size ≤ q → A q) ∧ va_K g.1 vwCl (gT g) s
theorem CC.of {l : Launch} {y : MethodName} {cc : ByteArray} {nL : Nat} {ret : Option FieldType} {rm : Room} {g : gG} {av : List Value} {w : va_W} {rv : Option Value} {w' : va_W} {mc ms : Nat} (own : String) (hyo : y.cls = own) (hy : plainName own = true) (hn : (lg_sl av).length ≤ nL)
    (body : ∀ (p : Program) (e : Env) (s : State) (m : MethodId) (below : List Frame) (meth : Method) (c : Code) (A : Nat → Prop) (ls : Array Slot), Cx p s m meth c av.toArray own cc nL ret g A → va_P g.1 vwCl w s.heap → va_D A w → va_S A s.heap s.heap [] → lv_has ls nL (lv_args 0 av) → W p l e rm s m av.toArray below meth c s.heap [] 0 0 (MQ below (QQ g rv w' A) av.toArray s mc ms A) (F0 m 0 ls [])) : CC l y (ws_ y cc nL ret) rm g av w rv w' mc ms := by
  subst hyo
  intro sz
  refine Met.ofW (cc := cc) (maxL := nL) (ret := ret) hy rfl ?_
  intro p e s m args below meth c s₁ B hml hv
  obtain ⟨rfl, hsz, hP, hK, hD0⟩ := hv
  have hts := atoms_spec (ws := ws_ y cc nL ret) B.pre
  have hts : ∀ w ∈ lw_all, w.before _ s = true := fun w h => hts w (List.mem_cons_of_mem _ h)
  have hown : s.vm.findClass y.cls = some m.cls := findClass_of_methodNamed B.named
  subst hsz
  have hD := hD0.self (sz := s.heap.size)
  have hl := lv_entry av (n := nL) hn
  rw [lg_entry_eq]
  exact body p e s m below meth c _ _ ⟨B.exec, B.bytes, B.returns, B.notSynchronized, hml, hown, hts, fun q h => Or.inr h, hK⟩ hP hD va_S.rf hl
theorem PreU.blind {g : gG} {w : va_W} {sz : Nat} {av : List Value} : FrameBlind (va_Pc av (PreU g w sz)) := by
  intro a U f mk q
  obtain ⟨q0, q1, qP, qK, qD⟩ := q
  exact ⟨q0, q1, qP, va_K.moved (u := U) (U := U.calling f mk a) (Vm.Alike.refl U.vm) qK, qD⟩
theorem va_freeW {A0 : Nat → Prop} {w : va_W} {H0 H : Heap} {locs : List Loc} (hD : va_D A0 w) (hS : va_S A0 H0 H locs) (hA : ∀ q : Nat, H0.size ≤ q → A0 q) : ∀ q : Nat, va_A w H.size q → A0 q := by
  intro q h
  rcases h with ⟨k, e, h⟩ | h
  · exact hD.2 k (q, e) h
  · exact hA q (Nat.le_trans hS.1 h)
section BASE
variable {p : Program} {l : Launch} {e : Env} {R : Room} {s : State} {m : MethodId} {args : Array Value} {below : List Frame} {meth : Method} {c : Code} {H : Heap} {locs : List Loc} {cells slots : Nat} {Q : State → Prop}
variable {A : Nat → Prop} {own : String} {cc : ByteArray} {nL : Nat} {ret : Option FieldType} {g : gG} {ls : Array Slot} {st0 rest : List Value} {pc : Nat}
variable {y : MethodName} {cy : ByteArray} {nLy : Nat} {rety : Option FieldType} {rmy : Room} {b : Nat} {As : List Value} {w w' wf : va_W} {rv : Option Value} {C : String} {index n : Nat} {mc ms : Nat}
/-- behind a run: the callee's world is new, the frame's is old -/
theorem run_on {av : Array Value} (X : Cx p s m meth c args own cc nL ret g A) (hr : va_Run p l e R s m args below meth c H locs cells slots mc ms (F0 m pc ls st0) rest (QQ g rv w' (va_A w H.size) av) (va_A w H.size)) (hP : va_P g.1 vwCl (w ++ wf) H) (hD : va_D A (w ++ wf)) (hS : va_S A s.heap H locs)
    (kk : ∀ (H1 : Heap) (locs1 : List Loc), va_P g.1 vwCl (w' ++ wf) H1 → va_D A (w' ++ wf) → va_S A s.heap H1 locs1 → W p l e R s m args below meth c H1 locs1 (cells + mc) (slots + ms) Q (F0 m (pc + 3) ls (rv.toList ++ rest))) : W p l e R s m args below meth c H locs cells slots Q (F0 m pc ls st0) := by
  obtain ⟨-, -, -, -, -, -, -, hA, hK⟩ := X
  have hDw : va_D A w := ⟨fun i j x y hx hy hxy => hD.1 i j x y (by rw [List.getElem?_append_left (List.getElem?_eq_some_iff.mp hx).1]; exact hx) (by rw [List.getElem?_append_left (List.getElem?_eq_some_iff.mp hy).1]; exact hy) hxy, fun k q hk => hD.2 k q (by rw [List.getElem?_append_left (List.getElem?_eq_some_iff.mp hk).1]; exact hk)⟩
  have hF := va_freeW hDw hS hA
  have hfr : ∀ (k : Nat) (q : Nat × va_E), wf[k]? = some q → (w ++ wf)[w.length + k]? = some q := fun k q hk => by rw [List.getElem?_append_right (Nat.le_add_right _ _)]; simpa using hk
  have hap : ∀ (k : Nat) (q : Nat × va_E), wf[k]? = some q → q.1 < H.size ∧ ¬ va_A w H.size q.1 := by
    intro k q hk
    have h1 := hfr k q hk
    have hlt := (hP _ q h1).lt
    refine ⟨hlt, fun h => ?_⟩
    rcases h with ⟨i, e, h⟩ | h
    · have hi := (List.getElem?_eq_some_iff.mp h).1
      have h2 := hD.1 i (w.length + k) (q.1, e) q (by rw [List.getElem?_append_left hi]; exact h) h1 rfl
      omega
    · omega
  intro T hT X0
  obtain ⟨v, st₀, t, T', L, h0, X', hL, e1, e2, ⟨⟨hv, qP, qK, qD⟩, hz, hk⟩, st⟩ := hr T hT X0
  cases hv
  rw [h0] at hz hk
  have qP1 : va_P g.1 vwCl w' T'.heap := by rw [e1]; exact qP
  have hS1 : va_S A s.heap T'.heap (locs ++ L) := ⟨Nat.le_trans hS.1 (by rw [e1]; exact hz), fun q h1 h2 => by rw [e1, hk q (Nat.lt_of_lt_of_le h1 hS.1) (fun z => h2 (hF q z))]; exact hS.2.1 q h1 h2, fun q hq => by
      rcases List.mem_append.mp hq with h | h
      · exact hS.2.2 q h
      · exact hF _ (hL q h)⟩
  obtain ⟨t2, a1, b1⟩ := kk T'.heap (locs ++ L) (va_P.app qP1 (fun k q hq => (hP _ q (hfr k q hq)).kept (by rw [e1]; exact hk q.1 (hap k q hq).1 (hap k q hq).2)))
    (va_D.app (qD.weaken (fun k q _ h => hF q.1 h)) ⟨fun i j x y hx hy hxy => by have := hD.1 _ _ x y (hfr i x hx) (hfr j y hy) hxy; omega, fun k q hk => hD.2 _ q (hfr k q hk)⟩ (fun i j x y hx hy hxy => (hap j y hy).2 (by rw [← hxy]; exact qD.2 i x hx))) hS1 T' rfl X'
  exact ⟨t2, st t2 a1, b1⟩
theorem CC.hp (X : Cx p s m meth c args own cc nL ret g A) (hP : va_P g.1 vwCl w H) (hD : va_D A w) {av : List Value} : ∀ U : State, U.heap = H → s.WarmedH U.vm → va_Pc av (PreU g w H.size) av.toArray U :=
  fun U hU hW => ⟨rfl, by rw [hU], by rw [hU]; exact hP, va_K.moved hW.alike X.2.2.2.2.2.2.2.2, hD.weaken (fun _ _ _ _ => trivial)⟩
theorem P_left (hP : va_P g.1 vwCl (w ++ wf) H) : va_P g.1 vwCl w H := fun k q hk => hP k q (by rw [List.getElem?_append_left (List.getElem?_eq_some_iff.mp hk).1]; exact hk)
theorem D_left (hD : va_D A (w ++ wf)) : va_D A w := ⟨fun i j x y hx hy hxy => hD.1 i j x y (by rw [List.getElem?_append_left (List.getElem?_eq_some_iff.mp hx).1]; exact hx) (by rw [List.getElem?_append_left (List.getElem?_eq_some_iff.mp hy).1]; exact hy) hxy, fun k q hk => hD.2 k q (by rw [List.getElem?_append_left (List.getElem?_eq_some_iff.mp hk).1]; exact hk)⟩
/-- the receiver's class -/
abbrev Rc (w : va_W) (b : Nat) (C : String) : Prop := ∃ (q0 ci : Nat) (fs : List Value) (T : u_T) (N : Nat), w[q0]? = some (b, .inr (ci, fs)) ∧ vwCl[ci]? = some (C, T, N)
abbrev Dy (y : MethodName) (C : String) (n : Nat) : Prop := y.cls = C ∧ y.cls ≠ "java/lang/invoke/MethodHandle" ∧ y.cls ≠ "java/lang/invoke/VarHandle" ∧ (parseMethodDescriptor y.desc).map (fun d => d.parameters.length) = some n
abbrev Ry (rmy R : Room) (nLy mc ms : Nat) : Prop := (rmy.cells = mc ∧ rmy.slots = ms) ∧ rmy.frames + 1 ≤ R.frames ∧ 8 + (nLy + 11) + rmy.locals ≤ R.locals
/-- a call of an object's method, its world w at the head of the world -/
theorem cV0 (X : Cx p s m meth c args own cc nL ret g A) (hM : CC l y (ws_ y cy nLy rety) rmy g (.ref b :: As) w rv w' mc ms) (hG : GoodIn lw_all (wsV own index C y (ws_ y cy nLy rety))) (hd : Dy y C n) (hR : Ry rmy R nLy mc ms) (hf : cells + mc ≤ R.cells ∧ slots + ms ≤ R.slots) (hP : va_P g.1 vwCl (w ++ wf) H) (hD : va_D A (w ++ wf)) (hS : va_S A s.heap H locs) (hc : Rc w b C) (hn : As.length = n) (hsz : ls.size = nL) (hst : st0 = As.reverse ++ .ref b :: rest) (hw : (rest.map fun v => v.category).sum ≤ 8) (hdg : decode cc pc = .ok (.invokevirtual index, 3))
    (kk : ∀ (H1 : Heap) (locs1 : List Loc), va_P g.1 vwCl (w' ++ wf) H1 → va_D A (w' ++ wf) → va_S A s.heap H1 locs1 → W p l e R s m args below meth c H1 locs1 (cells + mc) (slots + ms) Q (F0 m (pc + 3) ls (rv.toList ++ rest))) : W p l e R s m args below meth c H locs cells slots Q (F0 m pc ls st0) := by
  obtain ⟨q0, ci, fs, T, N, he, hcl⟩ := hc
  exact run_on X (va_runV ⟨X.1, X.2.1, X.2.2.2.2.1, X.2.2.2.2.2.1, X.2.2.2.2.2.2.1⟩ (hM H.size) (cwV n X.2.2.2.2.2.2.1 hG rfl hR.1.1 hR.1.2 hd hR.2) ⟨PreU.blind, va_recv X.2.2.2.2.2.2.2.2 (P_left hP) hcl he, CC.hp X (P_left hP) (D_left hD)⟩ rfl hn hsz hst (lv_room hw) hdg hf) hP hD hS kk
/-- a static call -/
theorem cS0 (X : Cx p s m meth c args own cc nL ret g A) (hM : CC l y (ws_ y cy nLy rety) rmy g As w rv w' mc ms) (hG : GoodIn lw_all (va_wsS own index y (ws_ y cy nLy rety))) (hd : Dy y C n) (hR : Ry rmy R nLy mc ms) (hf : cells + mc ≤ R.cells ∧ slots + ms ≤ R.slots) (hP : va_P g.1 vwCl (w ++ wf) H) (hD : va_D A (w ++ wf)) (hS : va_S A s.heap H locs) (hn : As.length = n) (hsz : ls.size = nL) (hst : st0 = As.reverse ++ rest) (hw : (rest.map fun v => v.category).sum ≤ 8) (hdg : decode cc pc = .ok (.invokestatic index, 3))
    (kk : ∀ (H1 : Heap) (locs1 : List Loc), va_P g.1 vwCl (w' ++ wf) H1 → va_D A (w' ++ wf) → va_S A s.heap H1 locs1 → W p l e R s m args below meth c H1 locs1 (cells + mc) (slots + ms) Q (F0 m (pc + 3) ls (rv.toList ++ rest))) : W p l e R s m args below meth c H locs cells slots Q (F0 m pc ls st0) :=
  run_on X (va_runS ⟨X.1, X.2.1, X.2.2.2.2.1, X.2.2.2.2.2.1, X.2.2.2.2.2.2.1⟩ (hM H.size) (va_cwS n X.2.2.2.2.2.2.1 hG rfl hR.1.1 hR.1.2 hd.2 hR.2) ⟨PreU.blind, CC.hp X (P_left hP) (D_left hD)⟩ rfl hn hsz hst (lv_room hw) hdg hf) hP hD hS kk
/-- a call of an object's method that takes the whole world and makes nothing: answers nothing, an int, a long -/
theorem cVv (X : Cx p s m meth c args own cc nL ret g A) (hM : CC l y (ws_ y cy nLy rety) rmy g (.ref b :: As) w none w' 0 0) (hG : GoodIn lw_all (wsV own index C y (ws_ y cy nLy rety))) (hd : Dy y C n) (hR : Ry rmy R nLy 0 0) (hP : va_P g.1 vwCl w H) (hD : va_D A w) (hS : va_S A s.heap H locs) (hl : ls.size = nL) (hc : Rc w b C) (hn : As.length = n) (hst : st0 = As.reverse ++ .ref b :: rest) (hf : cells ≤ R.cells ∧ slots ≤ R.slots) (hw : (rest.map fun v => v.category).sum ≤ 8) (hdg : decode cc pc = .ok (.invokevirtual index, 3))
    (kk : ∀ (H1 : Heap) (locs1 : List Loc), va_P g.1 vwCl w' H1 → va_D A w' → va_S A s.heap H1 locs1 → W p l e R s m args below meth c H1 locs1 cells slots Q (F0 m (pc + 3) ls rest)) : W p l e R s m args below meth c H locs cells slots Q (F0 m pc ls st0) :=
  cV0 (wf := []) X hM hG hd hR hf (by rw [List.append_nil]; exact hP) (by rw [List.append_nil]; exact hD) hS hc hn hl hst hw hdg (fun H1 locs1 h1 h2 h3 => kk H1 locs1 (by rw [List.append_nil] at h1; exact h1) (by rw [List.append_nil] at h2; exact h2) h3)
theorem cVi {r : Int32} (X : Cx p s m meth c args own cc nL ret g A) (hM : CC l y (ws_ y cy nLy rety) rmy g (.ref b :: As) w (some (.int r)) w' 0 0) (hG : GoodIn lw_all (wsV own index C y (ws_ y cy nLy rety))) (hd : Dy y C n) (hR : Ry rmy R nLy 0 0) (hP : va_P g.1 vwCl w H) (hD : va_D A w) (hS : va_S A s.heap H locs) (hl : ls.size = nL) (hc : Rc w b C) (hn : As.length = n) (hst : st0 = As.reverse ++ .ref b :: rest) (hf : cells ≤ R.cells ∧ slots ≤ R.slots) (hw : (rest.map fun v => v.category).sum ≤ 8) (hdg : decode cc pc = .ok (.invokevirtual index, 3))
    (kk : ∀ (H1 : Heap) (locs1 : List Loc), va_P g.1 vwCl w' H1 → va_D A w' → va_S A s.heap H1 locs1 → W p l e R s m args below meth c H1 locs1 cells slots Q (F0 m (pc + 3) ls (.int r :: rest))) : W p l e R s m args below meth c H locs cells slots Q (F0 m pc ls st0) :=
  cV0 (wf := []) X hM hG hd hR hf (by rw [List.append_nil]; exact hP) (by rw [List.append_nil]; exact hD) hS hc hn hl hst hw hdg (fun H1 locs1 h1 h2 h3 => kk H1 locs1 (by rw [List.append_nil] at h1; exact h1) (by rw [List.append_nil] at h2; exact h2) h3)
theorem cVl {r : Int64} (X : Cx p s m meth c args own cc nL ret g A) (hM : CC l y (ws_ y cy nLy rety) rmy g (.ref b :: As) w (some (.long r)) w' 0 0) (hG : GoodIn lw_all (wsV own index C y (ws_ y cy nLy rety))) (hd : Dy y C n) (hR : Ry rmy R nLy 0 0) (hP : va_P g.1 vwCl w H) (hD : va_D A w) (hS : va_S A s.heap H locs) (hl : ls.size = nL) (hc : Rc w b C) (hn : As.length = n) (hst : st0 = As.reverse ++ .ref b :: rest) (hf : cells ≤ R.cells ∧ slots ≤ R.slots) (hw : (rest.map fun v => v.category).sum ≤ 8) (hdg : decode cc pc = .ok (.invokevirtual index, 3))
    (kk : ∀ (H1 : Heap) (locs1 : List Loc), va_P g.1 vwCl w' H1 → va_D A w' → va_S A s.heap H1 locs1 → W p l e R s m args below meth c H1 locs1 cells slots Q (F0 m (pc + 3) ls (.long r :: rest))) : W p l e R s m args below meth c H locs cells slots Q (F0 m pc ls st0) :=
  cV0 (wf := []) X hM hG hd hR hf (by rw [List.append_nil]; exact hP) (by rw [List.append_nil]; exact hD) hS hc hn hl hst hw hdg (fun H1 locs1 h1 h2 h3 => kk H1 locs1 (by rw [List.append_nil] at h1; exact h1) (by rw [List.append_nil] at h2; exact h2) h3)
/-- a static call of a method that touches no cell -/
theorem cSi {r : Int32} (X : Cx p s m meth c args own cc nL ret g A) (hM : CC l y (ws_ y cy nLy rety) rmy g As [] (some (.int r)) [] 0 0) (hG : GoodIn lw_all (va_wsS own index y (ws_ y cy nLy rety))) (hd : Dy y C n) (hR : Ry rmy R nLy 0 0) (hP : va_P g.1 vwCl w H) (hD : va_D A w) (hS : va_S A s.heap H locs) (hl : ls.size = nL) (hn : As.length = n) (hst : st0 = As.reverse ++ rest) (hf : cells ≤ R.cells ∧ slots ≤ R.slots) (hw : (rest.map fun v => v.category).sum ≤ 8) (hdg : decode cc pc = .ok (.invokestatic index, 3))
    (kk : ∀ (H1 : Heap) (locs1 : List Loc), va_P g.1 vwCl w H1 → va_D A w → va_S A s.heap H1 locs1 → W p l e R s m args below meth c H1 locs1 cells slots Q (F0 m (pc + 3) ls (.int r :: rest))) : W p l e R s m args below meth c H locs cells slots Q (F0 m pc ls st0) :=
  cS0 (w := []) (wf := w) X hM hG hd hR hf hP hD hS hn hl hst hw hdg kk
theorem cSl {r : Int64} (X : Cx p s m meth c args own cc nL ret g A) (hM : CC l y (ws_ y cy nLy rety) rmy g As [] (some (.long r)) [] 0 0) (hG : GoodIn lw_all (va_wsS own index y (ws_ y cy nLy rety))) (hd : Dy y C n) (hR : Ry rmy R nLy 0 0) (hP : va_P g.1 vwCl w H) (hD : va_D A w) (hS : va_S A s.heap H locs) (hl : ls.size = nL) (hn : As.length = n) (hst : st0 = As.reverse ++ rest) (hf : cells ≤ R.cells ∧ slots ≤ R.slots) (hw : (rest.map fun v => v.category).sum ≤ 8) (hdg : decode cc pc = .ok (.invokestatic index, 3))
    (kk : ∀ (H1 : Heap) (locs1 : List Loc), va_P g.1 vwCl w H1 → va_D A w → va_S A s.heap H1 locs1 → W p l e R s m args below meth c H1 locs1 cells slots Q (F0 m (pc + 3) ls (.long r :: rest))) : W p l e R s m args below meth c H locs cells slots Q (F0 m pc ls st0) :=
  cS0 (w := []) (wf := w) X hM hG hd hR hf hP hD hS hn hl hst hw hdg kk
/-- fields and arrays -/
theorem gF {T : u_T} {N ci : Nat} (X : Cx p s m meth c args own cc nL ret g A) (hin : ∀ w ∈ u_ws C T N, w ∈ lw_all) (hP : va_P g.1 vwCl w H) (q0 : Nat) {fs : List Value} (he : w[q0]? = some (b, .inr (ci, fs))) (hc : vwCl[ci]? = some (C, T, N)) (k : Nat) (hk : k < N) (hlink : (Cond.fieldLink own index (T k).1 (T k).2.1 (T k).2.2.1) ∈ lw_all) {v : Value} (hv : fs[k]? = some v) (hdg : decode cc pc = .ok (.getfield index, 3))
    (kk : W p l e R s m args below meth c H locs cells slots Q (F0 m (pc + 3) ls (v :: rest))) : W p l e R s m args below meth c H locs cells slots Q (F0 m pc ls (.ref b :: rest)) :=
  va_get X.1 X.2.1 X.2.2.2.2.2.2.1 hin X.2.2.2.2.2.1 X.2.2.2.2.2.2.2.2 hP q0 he hc k hk (X.2.2.2.2.2.2.1 _ hlink) (fun _ h9 => h9) hv hdg kk
theorem pF {T : u_T} {N ci : Nat} (X : Cx p s m meth c args own cc nL ret g A) (hin : ∀ w ∈ u_ws C T N, w ∈ lw_all) (ty0 : Nat → FieldType) (hty : ∀ k, k < N → parseFieldDescriptor (T k).2.2.1 = some (ty0 k)) (hnm : ∀ a, a < N → ∀ b, b < N → a ≠ b → (T a).2.1 ≠ (T b).2.1) (hP : va_P g.1 vwCl w H) (hD : va_D A w) (hS : va_S A s.heap H locs) (q0 : Nat) {fs : List Value} (he : w[q0]? = some (b, .inr (ci, fs))) (hc : vwCl[ci]? = some (C, T, N)) (k : Nat) (hk : k < N) (hlink : (Cond.fieldLink own index (T k).1 (T k).2.1 (T k).2.2.1) ∈ lw_all) (hfin : (T k).2.2.2 = false) {v : Value} (hn : narrow (ty0 k) v = v) (hfit : fits (ty0 k) v = true) (hl : k < fs.length) (hw' : w.set q0 (b, .inr (ci, fs.set k v)) = w') (hdg : decode cc pc = .ok (.putfield index, 3))
    (kk : ∀ (H1 : Heap) (locs1 : List Loc), va_P g.1 vwCl w' H1 → va_D A w' → va_S A s.heap H1 locs1 → W p l e R s m args below meth c H1 locs1 cells slots Q (F0 m (pc + 3) ls rest)) : W p l e R s m args below meth c H locs cells slots Q (F0 m pc ls (v :: .ref b :: rest)) := by
  subst hw'
  exact va_put X.1 X.2.1 X.2.2.2.2.2.2.1 hin ty0 hty hnm X.2.2.2.2.2.1 X.2.2.2.2.2.2.2.2 hP hD hS q0 he hc k hk (X.2.2.2.2.2.2.1 _ hlink) (fun _ h9 => h9) hfin (hty k hk) hn hfit hl hdg kk
/-- ends -/
theorem rI {v : Int32} (X : Cx p s m meth c args own cc nL (some .int) g A) (hP : va_P g.1 vwCl w' H) (hD : va_D A w') (hS : va_S A s.heap H locs) (hdg : decode cc pc = .ok (.ireturn, 1)) : W p l e R s m args below meth c H locs cells slots (MQ below (QQ g (some (.int v)) w' A) args s cells slots A) (F0 m pc ls [.int v]) :=
  W.iret X.1 X.2.1 X.2.2.1 (fun t ht hW => ⟨⟨rfl, by rw [ht]; exact hP, va_K.moved hW.alike X.2.2.2.2.2.2.2.2, hD⟩, hS.F ht⟩) hS.2.2 hdg X.2.2.2.1
theorem rZ {v : Int32} (X : Cx p s m meth c args own cc nL (some .boolean) g A) (hn : narrow .boolean (.int v) = .int v) (hP : va_P g.1 vwCl w' H) (hD : va_D A w') (hS : va_S A s.heap H locs) (hdg : decode cc pc = .ok (.ireturn, 1)) : W p l e R s m args below meth c H locs cells slots (MQ below (QQ g (some (.int v)) w' A) args s cells slots A) (F0 m pc ls [.int v]) :=
  W.zret X.1 X.2.1 X.2.2.1 hn (fun t ht hW => ⟨⟨rfl, by rw [ht]; exact hP, va_K.moved hW.alike X.2.2.2.2.2.2.2.2, hD⟩, hS.F ht⟩) hS.2.2 hdg X.2.2.2.1
theorem rL {v : Int64} (X : Cx p s m meth c args own cc nL (some .long) g A) (hP : va_P g.1 vwCl w' H) (hD : va_D A w') (hS : va_S A s.heap H locs) (hdg : decode cc pc = .ok (.lreturn, 1)) : W p l e R s m args below meth c H locs cells slots (MQ below (QQ g (some (.long v)) w' A) args s cells slots A) (F0 m pc ls [.long v]) :=
  W.lret X.1 X.2.1 X.2.2.1 (fun t ht hW => ⟨⟨rfl, by rw [ht]; exact hP, va_K.moved hW.alike X.2.2.2.2.2.2.2.2, hD⟩, hS.F ht⟩) hS.2.2 hdg X.2.2.2.1
theorem rV (X : Cx p s m meth c args own cc nL none g A) (hP : va_P g.1 vwCl w' H) (hD : va_D A w') (hS : va_S A s.heap H locs) (hdg : decode cc pc = .ok (.return_, 1)) : W p l e R s m args below meth c H locs cells slots (MQ below (QQ g none w' A) args s cells slots A) (F0 m pc ls []) :=
  W.vret X.1 X.2.1 X.2.2.1 (fun t ht hW => ⟨⟨rfl, by rw [ht]; exact hP, va_K.moved hW.alike X.2.2.2.2.2.2.2.2, hD⟩, hS.F ht⟩) hS.2.2 hdg X.2.2.2.1
theorem tpi {x y : Int32} (h : y = x) (k : W p l e R s m args below meth c H locs cells slots Q (F0 m pc ls (.int y :: rest))) : W p l e R s m args below meth c H locs cells slots Q (F0 m pc ls (.int x :: rest)) := h ▸ k
theorem tpl {x y : Int64} (h : y = x) (k : W p l e R s m args below meth c H locs cells slots Q (F0 m pc ls (.long y :: rest))) : W p l e R s m args below meth c H locs cells slots Q (F0 m pc ls (.long x :: rest)) := h ▸ k
end BASE
/-! the pure words that the walks speak of -/
noncomputable def rd {α : Type} (a : Nat → α) (n : Nat) (i : Int32) : Option α := if i < 0 ∨ n ≤ i.toNatClampNeg then none else some (a i.toNatClampNeg)
noncomputable def wr (a : Nat → Int32) (n : Nat) (i : Int32) (v : Int32) : Option (Nat → Int32) := if i < 0 ∨ n ≤ i.toNatClampNeg then none else some (upd a i.toNatClampNeg v)
noncomputable def wrZ (a : Nat → Int32) (n : Nat) (i : Int32) (v : Int32) : Option (Nat → Int32) := if i < 0 ∨ n ≤ i.toNatClampNeg then none else some (upd a i.toNatClampNeg (vp_nar .boolean v))
noncomputable def wrL (a : Nat → Int64) (n : Nat) (i : Int32) (v : Int64) : Option (Nat → Int64) := if i < 0 ∨ n ≤ i.toNatClampNeg then none else some (vp_updL a i.toNatClampNeg v)
noncomputable def lt {α β : Type} (e : α) (K : α → β) : β := K e
/-- a boolean that is answered -/
noncomputable def zk {β : Type} (v : Int32) (K : Option β) : Option β := if v = 0 ∨ v = 1 then K else none
/-- a divisor -/
noncomputable def nz {β : Type} (v : Int32) (K : Option β) : Option β := if v = 0 then none else K
noncomputable def nzL {β : Type} (v : Int64) (K : Option β) : Option β := if v = 0 then none else K
theorem bs {α β : Type} {x : Option α} {K : α → Option β} {r : β} (h : x.bind K = some r) : ∃ v, x = some v ∧ K v = some r := Option.bind_eq_some_iff.mp h
theorem lts {α β : Type} {e : α} {K : α → β} {r : β} (h : lt e K = r) : ∃ v, v = e ∧ K v = r := ⟨e, rfl, h⟩
theorem rds {α β : Type} {a : Nat → α} {n : Nat} {i : Int32} {K : α → Option β} {r : β} (h : (rd a n i).bind K = some r) : ∃ v, v = a i.toNatClampNeg ∧ vp_in i n ∧ K v = some r := by
  unfold rd at h
  split at h
  · cases h
  · next q => exact ⟨_, rfl, q, h⟩
theorem wrs {β : Type} {a : Nat → Int32} {n : Nat} {i v : Int32} {K : (Nat → Int32) → Option β} {r : β} (h : (wr a n i v).bind K = some r) : ∃ z, z = upd a i.toNatClampNeg v ∧ vp_in i n ∧ K z = some r := by
  unfold wr at h
  split at h
  · cases h
  · next q => exact ⟨_, rfl, q, h⟩
theorem wrZs {β : Type} {a : Nat → Int32} {n : Nat} {i v : Int32} {K : (Nat → Int32) → Option β} {r : β} (h : (wrZ a n i v).bind K = some r) : ∃ z, z = upd a i.toNatClampNeg (vp_nar .boolean v) ∧ vp_in i n ∧ K z = some r := by
  unfold wrZ at h
  split at h
  · cases h
  · next q => exact ⟨_, rfl, q, h⟩
theorem wrLs {β : Type} {a : Nat → Int64} {n : Nat} {i : Int32} {v : Int64} {K : (Nat → Int64) → Option β} {r : β} (h : (wrL a n i v).bind K = some r) : ∃ z, z = vp_updL a i.toNatClampNeg v ∧ vp_in i n ∧ K z = some r := by
  unfold wrL at h
  split at h
  · cases h
  · next q => exact ⟨_, rfl, q, h⟩
theorem nar01 {v : Int32} (h : v = 0 ∨ v = 1) : narrow .boolean (.int v) = .int v := by
  rcases h with rfl | rfl <;> rfl
theorem zks {β : Type} {v : Int32} {K : Option β} {r : β} (h : zk v K = some r) : narrow .boolean (.int v) = .int v ∧ K = some r := by
  unfold zk at h
  split at h
  · next q => exact ⟨nar01 q, h⟩
  · cases h
theorem nzs {β : Type} {v : Int32} {K : Option β} {r : β} (h : nz v K = some r) : ¬ v = 0 ∧ K = some r := by
  unfold nz at h
  split at h
  · cases h
  · next q => exact ⟨q, h⟩
theorem nzLs {β : Type} {v : Int64} {K : Option β} {r : β} (h : nzL v K = some r) : ¬ v = 0 ∧ K = some r := by
  unfold nzL at h
  split at h
  · cases h
  · next q => exact ⟨q, h⟩
theorem itT {c : Prop} [Decidable c] {β : Type} {x y : Option β} {r : Option β} (q : c) (h : (if c then x else y) = r) : x = r := by rw [if_pos q] at h; exact h
theorem itF {c : Prop} [Decidable c] {β : Type} {x y : Option β} {r : Option β} (q : ¬ c) (h : (if c then x else y) = r) : y = r := by rw [if_neg q] at h; exact h
theorem nn {β : Type} {r : β} {P : Prop} (h : (none : Option β) = some r) : P := by cases h
