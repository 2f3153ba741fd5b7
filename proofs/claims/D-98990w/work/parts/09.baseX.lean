/-! THE SYSTEM's BASE: words that don't ride in the lists, contracts that carry them, calls, copies of arrays -/
def xNest : List Cond := [(Cond.fieldLinkNest "WolfsHead" (58 : Nat) "WolfsHead$State" "n" "[I" "WolfsHead"),
  (Cond.fieldLinkNest "WolfsHead" (69 : Nat) "WolfsHead$State" "row" "[I" "WolfsHead"),
  (Cond.fieldLinkNest "WolfsHead" (76 : Nat) "WolfsHead$State" "forest" "[I" "WolfsHead"),
  (Cond.fieldLinkNest "WolfsHead" (79 : Nat) "WolfsHead$State" "road" "[I" "WolfsHead"),
  (Cond.fieldLinkNest "WolfsHead" (92 : Nat) "WolfsHead$State" "fear" "[I" "WolfsHead"),
  (Cond.fieldLinkNest "WolfsHead" (361 : Nat) "WolfsHead$State" "call" "[I" "WolfsHead"),
  (Cond.fieldLinkNest "WolfsHead" (384 : Nat) "WolfsHead$State" "unlike" "[I" "WolfsHead"),
  (Cond.fieldLinkNest "WolfsHead" (402 : Nat) "WolfsHead$State" "paid" "[[I" "WolfsHead"),
  (Cond.fieldLinkNest "WolfsHead" (316 : Nat) "WolfsHead$State" "step" "[[I" "WolfsHead"),
  (Cond.fieldLinkNest "WolfsHead" (393 : Nat) "WolfsHead$State" "gain" "[[I" "WolfsHead"),
  (Cond.fieldLinkNest "WolfsHead" (106 : Nat) "WolfsHead$State" "text" "[LWolfsHead$Text;" "WolfsHead"),
  (Cond.methodLinkNest "WolfsHead$Tokens" (82 : Nat) ({ cls := "WolfsHead$Text", name := "<init>", desc := "()V" } : MethodName) "WolfsHead"),
  (Cond.fieldLinkNest "WolfsHead$Tokens" (86 : Nat) "WolfsHead$Text" "law" "[LWolfsHead$Sum;" "WolfsHead"),
  (Cond.fieldLinkNest "WolfsHead" (141 : Nat) "WolfsHead$Text" "law" "[LWolfsHead$Sum;" "WolfsHead"),
  (Cond.fieldLinkNest "WolfsHead$Tokens" (90 : Nat) "WolfsHead$Text" "clauses" "I" "WolfsHead"),
  (Cond.fieldLinkNest "WolfsHead$Tokens" (97 : Nat) "WolfsHead$Text" "doings" "Ljava/util/ArrayList;" "WolfsHead"),
  (Cond.fieldLinkNest "WolfsHead" (293 : Nat) "WolfsHead$Text" "doings" "Ljava/util/ArrayList;" "WolfsHead"),
  (Cond.fieldLinkNest "WolfsHead" (121 : Nat) "WolfsHead$Wrong" "fault" "I" "WolfsHead"),
  (Cond.fieldLinkNest "WolfsHead" (122 : Nat) "WolfsHead$Wrong" "place" "I" "WolfsHead"),
  (Cond.methodLinkNest "WolfsHead$Tokens" (190 : Nat) ({ cls := "WolfsHead$Plain", name := "<init>", desc := "(I)V" } : MethodName) "WolfsHead"),
  (Cond.methodLinkNest "WolfsHead$Tokens" (151 : Nat) ({ cls := "WolfsHead$Not", name := "<init>", desc := "(LWolfsHead$Asked;)V" } : MethodName) "WolfsHead"),
  (Cond.methodLinkNest "WolfsHead$Tokens" (156 : Nat) ({ cls := "WolfsHead$Compared", name := "<init>", desc := "(ILWolfsHead$Sum;LWolfsHead$Sum;)V" } : MethodName) "WolfsHead"),
  (Cond.methodLinkNest "WolfsHead$Tokens" (140 : Nat) ({ cls := "WolfsHead$All", name := "<init>", desc := "(ZLjava/util/ArrayList;)V" } : MethodName) "WolfsHead"),
  (Cond.methodLinkNest "WolfsHead$Tokens" (185 : Nat) ({ cls := "WolfsHead$If", name := "<init>", desc := "(LWolfsHead$Asked;LWolfsHead$Sum;LWolfsHead$Sum;)V" } : MethodName) "WolfsHead"),
  (Cond.methodLinkNest "WolfsHead$Tokens" (203 : Nat) ({ cls := "WolfsHead$Name", name := "<init>", desc := "(I)V" } : MethodName) "WolfsHead"),
  (Cond.methodLinkNest "WolfsHead$Tokens" (206 : Nat) ({ cls := "WolfsHead$Ones", name := "<init>", desc := "(LWolfsHead$Sum;)V" } : MethodName) "WolfsHead"),
  (Cond.methodLinkNest "WolfsHead$Tokens" (209 : Nat) ({ cls := "WolfsHead$Fears", name := "<init>", desc := "(LWolfsHead$Sum;)V" } : MethodName) "WolfsHead"),
  (Cond.methodLinkNest "WolfsHead$Tokens" (212 : Nat) ({ cls := "WolfsHead$Minus", name := "<init>", desc := "(LWolfsHead$Sum;)V" } : MethodName) "WolfsHead"),
  (Cond.methodLinkNest "WolfsHead$Tokens" (107 : Nat) ({ cls := "WolfsHead$Doing", name := "<init>", desc := "(I[II)V" } : MethodName) "WolfsHead"),
  (Cond.methodLinkNest "WolfsHead" (319 : Nat) ({ cls := "WolfsHead$State", name := "copy", desc := "([I[I)V" } : MethodName) "WolfsHead")]
def isNest : Cond → Bool
  | .fieldLinkNest _ _ _ _ _ _ => true
  | .methodLinkNest _ _ _ _ => true
  | _ => false
theorem xNest_ok : ∀ w ∈ xNest, isNest w = true := fun w h => List.all_eq_true.mp (show xNest.all isNest = true from rfl) w h
theorem nest_moved {w : Cond} (hw : isNest w = true) {s U : State} (hW : s.WarmedH U.vm) (h : va_Nw w s) : va_Nw w U := by
  cases w with
  | fieldLinkNest a i b n d h9 => exact va_Nw.warmF hW h
  | methodLinkNest a i x h9 => exact va_Nw.warmM hW h
  | _ => exact absurd hw (by simp [isNest])
theorem nest_tab {w : Cond} (hw : isNest w = true) : w.onTables = true := by
  cases w with
  | fieldLinkNest a i b n d h9 => rfl
  | methodLinkNest a i x h9 => rfl
  | _ => exact absurd hw (by simp [isNest])
def XN (U : State) : Prop := ∀ w ∈ xNest, va_Nw w U
theorem XN.moved {s U : State} (hW : s.WarmedH U.vm) (h : XN s) : XN U := fun w hw => nest_moved (xNest_ok w hw) hW (h w hw)
theorem XN.use {s : State} (h : XN s) {w : Cond} {args : Array Value} (k : Nat) (hw : xNest[k]? = some w) : w.before args s = true := va_Nw.use (nest_tab (xNest_ok w (List.mem_of_getElem? hw))) (h w (List.mem_of_getElem? hw))
/-- the text that tells nothing: a static, its array of four nulls -/
def XS (z : Nat → Nat) (A : Nat → Prop) (U : State) (H : Heap) : Prop := va_Z "WolfsHead" "NOTHING" "LWolfsHead$Text;" (.ref (z 0)) A U H ∧ va_OF "WolfsHead$Text" "law" "[LWolfsHead$Sum;" (.ref (z 1)) (z 0) A U H ∧ va_T (.object "WolfsHead$Sum") (z 1) 4 (fun _ => .null) A U H
/-- the calls through the two interfaces -/
def xFace : List (String × MethodName × MethodName) := [("WolfsHead$Chain", ⟨"WolfsHead$Sum", "of", "([I)J"⟩, ⟨"WolfsHead$Chain", "of", "([I)J"⟩),
  ("WolfsHead$Fears", ⟨"WolfsHead$Sum", "of", "([I)J"⟩, ⟨"WolfsHead$Fears", "of", "([I)J"⟩),
  ("WolfsHead$If", ⟨"WolfsHead$Sum", "of", "([I)J"⟩, ⟨"WolfsHead$If", "of", "([I)J"⟩),
  ("WolfsHead$All", ⟨"WolfsHead$Asked", "is", "([I)Z"⟩, ⟨"WolfsHead$All", "is", "([I)Z"⟩),
  ("WolfsHead$Compared", ⟨"WolfsHead$Asked", "is", "([I)Z"⟩, ⟨"WolfsHead$Compared", "is", "([I)Z"⟩),
  ("WolfsHead$Minus", ⟨"WolfsHead$Sum", "of", "([I)J"⟩, ⟨"WolfsHead$Minus", "of", "([I)J"⟩),
  ("WolfsHead$Name", ⟨"WolfsHead$Sum", "of", "([I)J"⟩, ⟨"WolfsHead$Name", "of", "([I)J"⟩),
  ("WolfsHead$Ones", ⟨"WolfsHead$Sum", "of", "([I)J"⟩, ⟨"WolfsHead$Ones", "of", "([I)J"⟩),
  ("WolfsHead$Plain", ⟨"WolfsHead$Sum", "of", "([I)J"⟩, ⟨"WolfsHead$Plain", "of", "([I)J"⟩),
  ("WolfsHead$Not", ⟨"WolfsHead$Asked", "is", "([I)Z"⟩, ⟨"WolfsHead$Not", "is", "([I)Z"⟩)]
def XI (U : State) : Prop := ∀ q ∈ xFace, va_Fw q.1 q.2.1 q.2.2 U
theorem xFace_ok : ∀ q ∈ xFace, q.2.1.cls ≠ "java/lang/invoke/MethodHandle" ∧ q.2.1.cls ≠ "java/lang/invoke/VarHandle" := by decide +kernel
theorem XI.moved {s U : State} (hvm : s.vm.Alike U.vm) (h : XI s) : XI U := fun q hq => va_Fw.moved (xFace_ok q hq) hvm (h q hq)
/-- what may be cast to what -/
def xCast : List (String × String) := [("WolfsHead$Wrong", "WolfsHead$Wrong"), ("WolfsHead$Chain", "WolfsHead$Sum"), ("WolfsHead$Fears", "WolfsHead$Sum"), ("WolfsHead$If", "WolfsHead$Sum"), ("WolfsHead$All", "WolfsHead$Asked"), ("WolfsHead$Compared", "WolfsHead$Asked"), ("WolfsHead$Minus", "WolfsHead$Sum"), ("WolfsHead$Name", "WolfsHead$Sum"), ("WolfsHead$Ones", "WolfsHead$Sum"), ("WolfsHead$Plain", "WolfsHead$Sum"), ("WolfsHead$Not", "WolfsHead$Asked"), ("WolfsHead$Text", "java/lang/Object"), ("WolfsHead$Sum", "java/lang/Object"), ("java/lang/String", "java/lang/Object"), ("WolfsHead", "java/lang/Object"), ("WolfsHead$State", "java/lang/Object"), ("WolfsHeadModel", "java/lang/Object"), ("WolfsHead$Tokens", "java/lang/Object"), ("java/util/ArrayList", "java/lang/Object"), ("WolfsHead$Wrong", "java/lang/Object"), ("WolfsHead$Chain", "java/lang/Object"), ("WolfsHead$Plain", "java/lang/Object"), ("WolfsHead$Not", "java/lang/Object"), ("WolfsHead$Compared", "java/lang/Object"), ("WolfsHead$All", "java/lang/Object"), ("WolfsHead$If", "java/lang/Object"), ("WolfsHead$Name", "java/lang/Object"), ("WolfsHead$Ones", "java/lang/Object"), ("WolfsHead$Fears", "java/lang/Object"), ("WolfsHead$Minus", "java/lang/Object"), ("java/lang/Integer", "java/lang/Object"), ("WolfsHead$Doing", "java/lang/Object"), ("java/lang/Throwable", "java/lang/Object"), ("[[I", "java/lang/Object"), ("[LWolfsHead$Text;", "java/lang/Object"), ("[I", "java/lang/Object"), ("[B", "java/lang/Object"), ("[LWolfsHead$Sum;", "java/lang/Object"), ("[Ljava/lang/Object;", "java/lang/Object"), ("[J", "java/lang/Object"), ("[Z", "java/lang/Object"), ("[Ljava/lang/String;", "java/lang/Object")]
def XC (U : State) : Prop := ∀ q ∈ xCast, va_Nw (.castable q.1 q.2) U
theorem XC.moved {s U : State} (hW : s.WarmedH U.vm) (h : XC s) : XC U := fun q hq => va_Nw.warmC hW (h q hq)
theorem XC.same {s U : State} (hvm : s.vm = U.vm) (h : XC s) : XC U := fun q hq => va_Nw.same rfl hvm (h q hq)
/-- what the system's methods ask of the start beside the lists' words -/
def XF (z : Nat → Nat) (A : Nat → Prop) (U : State) (H : Heap) : Prop := XN U ∧ XI U ∧ XC U ∧ XS z A U H ∧ vb_C (fun k => z (300 + k)) A U H
theorem XS.moved {z : Nat → Nat} {A : Nat → Prop} {s U : State} {H : Heap} (hvm : s.vm.Alike U.vm) (h : XS z A s H) : XS z A U H := ⟨va_Z.moved hvm h.1, va_OF.moved hvm h.2.1, va_T.moved hvm h.2.2⟩
theorem XF.moved {z : Nat → Nat} {A : Nat → Prop} {s U : State} {H : Heap} (hW : s.WarmedH U.vm) (h : XF z A s H) : XF z A U H :=
  ⟨h.1.moved hW, h.2.1.moved hW.alike, h.2.2.1.moved hW, h.2.2.2.1.moved hW.alike, vb_C.moved hW.alike h.2.2.2.2⟩
theorem XF.same {z : Nat → Nat} {A : Nat → Prop} {s U : State} {H : Heap} (hvm : s.vm = U.vm) (h : XF z A s H) : XF z A U H :=
  ⟨fun w hw => va_Nw.same (nest_tab (xNest_ok w hw)) hvm (h.1 w hw), h.2.1.moved (hvm ▸ Vm.Alike.refl s.vm), h.2.2.1.same hvm, h.2.2.2.1.moved (hvm ▸ Vm.Alike.refl s.vm), vb_C.moved (hvm ▸ Vm.Alike.refl s.vm) h.2.2.2.2⟩
theorem XF.kept {z : Nat → Nat} {A : Nat → Prop} {U : State} {H H1 : Heap} (h : XF z A U H) (hq : ∀ a : Nat, a < H.size → ¬ A a → H1[a]? = H[a]?) : XF z A U H1 :=
  ⟨h.1, h.2.1, h.2.2.1, ⟨h.2.2.2.1.1.kept hq, h.2.2.2.1.2.1.kept hq, h.2.2.2.1.2.2.kept hq⟩, h.2.2.2.2.kept hq⟩
theorem XF.narrow {z : Nat → Nat} {A B : Nat → Prop} {U : State} {H : Heap} (h : XF z A U H) (hAB : ∀ q, B q → A q) : XF z B U H :=
  ⟨h.1, h.2.1, h.2.2.1, ⟨h.2.2.2.1.1.narrow hAB, h.2.2.2.1.2.1.narrow hAB, h.2.2.2.1.2.2.narrow hAB⟩, h.2.2.2.2.narrow hAB⟩
def PreX (g : gG) (z : Nat → Nat) (w : va_W) (sz : Nat) (U : State) : Prop := PreU g w sz U ∧ XF z (va_A w sz) U U.heap
def CX (l : Launch) (y : MethodName) (ws : List Cond) (rm : Room) (g : gG) (z : Nat → Nat) (av : List Value) (w : va_W) (rv : Option Value) (w' : va_W) (mc ms : Nat) : Prop :=
  ∀ sz : Nat, Met l y ws rm (va_Pc av (PreX g z w sz)) (QQ g rv w' (va_A w sz)) mc ms (va_A w sz)
theorem CX.of {l : Launch} {y : MethodName} {cc : ByteArray} {nL : Nat} {ret : Option FieldType} {rm : Room} {g : gG} {z : Nat → Nat} {av : List Value} {w : va_W} {rv : Option Value} {w' : va_W} {mc ms : Nat} (own : String) (hyo : y.cls = own) (hy : plainName own = true) (hn : (lg_sl av).length ≤ nL)
    (body : ∀ (p : Program) (e : Env) (s : State) (m : MethodId) (below : List Frame) (meth : Method) (c : Code) (A : Nat → Prop) (ls : Array Slot), Cx p s m meth c av.toArray own cc nL ret g A → XF z A s s.heap → va_P g.1 vwCl w s.heap → va_D A w → va_S A s.heap s.heap [] → lv_has ls nL (lv_args 0 av) → W p l e rm s m av.toArray below meth c s.heap [] 0 0 (MQ below (QQ g rv w' A) av.toArray s mc ms A) (F0 m 0 ls [])) : CX l y (ws_ y cc nL ret) rm g z av w rv w' mc ms := by
  subst hyo
  intro sz
  refine Met.ofW (cc := cc) (maxL := nL) (ret := ret) hy rfl ?_
  intro p e s m args below meth c s₁ B hml hv
  obtain ⟨rfl, ⟨hsz, hP, hK, hD0⟩, hF⟩ := hv
  have hts := atoms_spec (ws := ws_ y cc nL ret) B.pre
  have hts : ∀ w ∈ lw_all, w.before _ s = true := fun w h => hts w (List.mem_cons_of_mem _ h)
  have hown : s.vm.findClass y.cls = some m.cls := findClass_of_methodNamed B.named
  subst hsz
  have hD := hD0.self (sz := s.heap.size)
  have hl := lv_entry av (n := nL) hn
  rw [lg_entry_eq]
  exact body p e s m below meth c _ _ ⟨B.exec, B.bytes, B.returns, B.notSynchronized, hml, hown, hts, fun q h => Or.inr h, hK⟩ hF hP hD va_S.rf hl
theorem PreX.blind {g : gG} {z : Nat → Nat} {w : va_W} {sz : Nat} {av : List Value} : FrameBlind (va_Pc av (PreX g z w sz)) := by
  intro a U f mk q
  obtain ⟨q0, ⟨q1, qP, qK, qD⟩, qF⟩ := q
  exact ⟨q0, ⟨q1, qP, va_K.moved (u := U) (U := U.calling f mk a) (Vm.Alike.refl U.vm) qK, qD⟩, XF.same (s := U) (U := U.calling f mk a) rfl qF⟩
section BASEX
variable {p : Program} {l : Launch} {e : Env} {R : Room} {s : State} {m : MethodId} {args : Array Value} {below : List Frame} {meth : Method} {c : Code} {H : Heap} {locs : List Loc} {cells slots : Nat} {Q : State → Prop}
variable {A : Nat → Prop} {own : String} {cc : ByteArray} {nL : Nat} {ret : Option FieldType} {g : gG} {z : Nat → Nat} {ls : Array Slot} {st0 rest : List Value} {pc : Nat}
variable {y : MethodName} {cy : ByteArray} {nLy : Nat} {rety : Option FieldType} {rmy : Room} {b : Nat} {As : List Value} {w w' wf : va_W} {rv : Option Value} {C : String} {index n : Nat} {mc ms : Nat}
theorem CX.hp (X : Cx p s m meth c args own cc nL ret g A) (hF : XF z A s s.heap) (hP : va_P g.1 vwCl w H) (hD : va_D A w) (hS : va_S A s.heap H locs) {av : List Value} : ∀ U : State, U.heap = H → s.WarmedH U.vm → va_Pc av (PreX g z w H.size) av.toArray U :=
  fun U hU hW => ⟨rfl, ⟨by rw [hU], by rw [hU]; exact hP, va_K.moved hW.alike X.2.2.2.2.2.2.2.2, hD.weaken (fun _ _ _ _ => trivial)⟩, by rw [hU]; exact ((hF.kept hS.2.1).narrow (va_freeW hD hS X.2.2.2.2.2.2.2.1)).moved hW⟩
theorem xV0 (X : Cx p s m meth c args own cc nL ret g A) (hF : XF z A s s.heap) (hM : CX l y (ws_ y cy nLy rety) rmy g z (.ref b :: As) w rv w' mc ms) (hG : GoodIn lw_all (wsV own index C y (ws_ y cy nLy rety))) (hd : Dy y C n) (hR : Ry rmy R nLy mc ms) (hf : cells + mc ≤ R.cells ∧ slots + ms ≤ R.slots) (hP : va_P g.1 vwCl (w ++ wf) H) (hD : va_D A (w ++ wf)) (hS : va_S A s.heap H locs) (hc : Rc w b C) (hn : As.length = n) (hsz : ls.size = nL) (hst : st0 = As.reverse ++ .ref b :: rest) (hw : (rest.map fun v => v.category).sum ≤ 8) (hdg : decode cc pc = .ok (.invokevirtual index, 3))
    (kk : ∀ (H1 : Heap) (locs1 : List Loc), va_P g.1 vwCl (w' ++ wf) H1 → va_D A (w' ++ wf) → va_S A s.heap H1 locs1 → W p l e R s m args below meth c H1 locs1 (cells + mc) (slots + ms) Q (F0 m (pc + 3) ls (rv.toList ++ rest))) : W p l e R s m args below meth c H locs cells slots Q (F0 m pc ls st0) := by
  obtain ⟨q0, ci, fs, T, N, he, hcl⟩ := hc
  exact run_on X (va_runV ⟨X.1, X.2.1, X.2.2.2.2.1, X.2.2.2.2.2.1, X.2.2.2.2.2.2.1⟩ (hM H.size) (cwV n X.2.2.2.2.2.2.1 hG rfl hR.1.1 hR.1.2 hd hR.2) ⟨PreX.blind, va_recv X.2.2.2.2.2.2.2.2 (P_left hP) hcl he, CX.hp X hF (P_left hP) (D_left hD) hS⟩ rfl hn hsz hst (lv_room hw) hdg hf) hP hD hS kk
theorem xS0 (X : Cx p s m meth c args own cc nL ret g A) (hF : XF z A s s.heap) (hM : CX l y (ws_ y cy nLy rety) rmy g z As w rv w' mc ms) (hG : GoodIn lw_all (va_wsS own index y (ws_ y cy nLy rety))) (hd : Dy y C n) (hR : Ry rmy R nLy mc ms) (hf : cells + mc ≤ R.cells ∧ slots + ms ≤ R.slots) (hP : va_P g.1 vwCl (w ++ wf) H) (hD : va_D A (w ++ wf)) (hS : va_S A s.heap H locs) (hn : As.length = n) (hsz : ls.size = nL) (hst : st0 = As.reverse ++ rest) (hw : (rest.map fun v => v.category).sum ≤ 8) (hdg : decode cc pc = .ok (.invokestatic index, 3))
    (kk : ∀ (H1 : Heap) (locs1 : List Loc), va_P g.1 vwCl (w' ++ wf) H1 → va_D A (w' ++ wf) → va_S A s.heap H1 locs1 → W p l e R s m args below meth c H1 locs1 (cells + mc) (slots + ms) Q (F0 m (pc + 3) ls (rv.toList ++ rest))) : W p l e R s m args below meth c H locs cells slots Q (F0 m pc ls st0) :=
  run_on X (va_runS ⟨X.1, X.2.1, X.2.2.2.2.1, X.2.2.2.2.2.1, X.2.2.2.2.2.2.1⟩ (hM H.size) (va_cwS n X.2.2.2.2.2.2.1 hG rfl hR.1.1 hR.1.2 hd.2 hR.2) ⟨PreX.blind, CX.hp X hF (P_left hP) (D_left hD) hS⟩ rfl hn hsz hst (lv_room hw) hdg hf) hP hD hS kk
theorem xVv (X : Cx p s m meth c args own cc nL ret g A) (hF : XF z A s s.heap) (hM : CX l y (ws_ y cy nLy rety) rmy g z (.ref b :: As) w none w' 0 0) (hG : GoodIn lw_all (wsV own index C y (ws_ y cy nLy rety))) (hd : Dy y C n) (hR : Ry rmy R nLy 0 0) (hP : va_P g.1 vwCl w H) (hD : va_D A w) (hS : va_S A s.heap H locs) (hl : ls.size = nL) (hc : Rc w b C) (hn : As.length = n) (hst : st0 = As.reverse ++ .ref b :: rest) (hf : cells ≤ R.cells ∧ slots ≤ R.slots) (hw : (rest.map fun v => v.category).sum ≤ 8) (hdg : decode cc pc = .ok (.invokevirtual index, 3))
    (kk : ∀ (H1 : Heap) (locs1 : List Loc), va_P g.1 vwCl w' H1 → va_D A w' → va_S A s.heap H1 locs1 → W p l e R s m args below meth c H1 locs1 cells slots Q (F0 m (pc + 3) ls (rest))) : W p l e R s m args below meth c H locs cells slots Q (F0 m pc ls st0) :=
  xV0 (wf := []) X hF hM hG hd hR hf (by rw [List.append_nil]; exact hP) (by rw [List.append_nil]; exact hD) hS hc hn hl hst hw hdg (fun H1 locs1 h1 h2 h3 => kk H1 locs1 (by rw [List.append_nil] at h1; exact h1) (by rw [List.append_nil] at h2; exact h2) h3)
theorem xSv (X : Cx p s m meth c args own cc nL ret g A) (hF : XF z A s s.heap) (hM : CX l y (ws_ y cy nLy rety) rmy g z As w none w' 0 0) (hG : GoodIn lw_all (va_wsS own index y (ws_ y cy nLy rety))) (hd : Dy y C n) (hR : Ry rmy R nLy 0 0) (hP : va_P g.1 vwCl w H) (hD : va_D A w) (hS : va_S A s.heap H locs) (hl : ls.size = nL) (hn : As.length = n) (hst : st0 = As.reverse ++ rest) (hf : cells ≤ R.cells ∧ slots ≤ R.slots) (hw : (rest.map fun v => v.category).sum ≤ 8) (hdg : decode cc pc = .ok (.invokestatic index, 3))
    (kk : ∀ (H1 : Heap) (locs1 : List Loc), va_P g.1 vwCl w' H1 → va_D A w' → va_S A s.heap H1 locs1 → W p l e R s m args below meth c H1 locs1 cells slots Q (F0 m (pc + 3) ls (rest))) : W p l e R s m args below meth c H locs cells slots Q (F0 m pc ls st0) :=
  xS0 (wf := []) X hF hM hG hd hR hf (by rw [List.append_nil]; exact hP) (by rw [List.append_nil]; exact hD) hS hn hl hst hw hdg (fun H1 locs1 h1 h2 h3 => kk H1 locs1 (by rw [List.append_nil] at h1; exact h1) (by rw [List.append_nil] at h2; exact h2) h3)
theorem xVi {r : Int32} (X : Cx p s m meth c args own cc nL ret g A) (hF : XF z A s s.heap) (hM : CX l y (ws_ y cy nLy rety) rmy g z (.ref b :: As) w (some (.int r)) w' 0 0) (hG : GoodIn lw_all (wsV own index C y (ws_ y cy nLy rety))) (hd : Dy y C n) (hR : Ry rmy R nLy 0 0) (hP : va_P g.1 vwCl w H) (hD : va_D A w) (hS : va_S A s.heap H locs) (hl : ls.size = nL) (hc : Rc w b C) (hn : As.length = n) (hst : st0 = As.reverse ++ .ref b :: rest) (hf : cells ≤ R.cells ∧ slots ≤ R.slots) (hw : (rest.map fun v => v.category).sum ≤ 8) (hdg : decode cc pc = .ok (.invokevirtual index, 3))
    (kk : ∀ (H1 : Heap) (locs1 : List Loc), va_P g.1 vwCl w' H1 → va_D A w' → va_S A s.heap H1 locs1 → W p l e R s m args below meth c H1 locs1 cells slots Q (F0 m (pc + 3) ls (.int r :: rest))) : W p l e R s m args below meth c H locs cells slots Q (F0 m pc ls st0) :=
  xV0 (wf := []) X hF hM hG hd hR hf (by rw [List.append_nil]; exact hP) (by rw [List.append_nil]; exact hD) hS hc hn hl hst hw hdg (fun H1 locs1 h1 h2 h3 => kk H1 locs1 (by rw [List.append_nil] at h1; exact h1) (by rw [List.append_nil] at h2; exact h2) h3)
theorem xSi {r : Int32} (X : Cx p s m meth c args own cc nL ret g A) (hF : XF z A s s.heap) (hM : CX l y (ws_ y cy nLy rety) rmy g z As w (some (.int r)) w' 0 0) (hG : GoodIn lw_all (va_wsS own index y (ws_ y cy nLy rety))) (hd : Dy y C n) (hR : Ry rmy R nLy 0 0) (hP : va_P g.1 vwCl w H) (hD : va_D A w) (hS : va_S A s.heap H locs) (hl : ls.size = nL) (hn : As.length = n) (hst : st0 = As.reverse ++ rest) (hf : cells ≤ R.cells ∧ slots ≤ R.slots) (hw : (rest.map fun v => v.category).sum ≤ 8) (hdg : decode cc pc = .ok (.invokestatic index, 3))
    (kk : ∀ (H1 : Heap) (locs1 : List Loc), va_P g.1 vwCl w' H1 → va_D A w' → va_S A s.heap H1 locs1 → W p l e R s m args below meth c H1 locs1 cells slots Q (F0 m (pc + 3) ls (.int r :: rest))) : W p l e R s m args below meth c H locs cells slots Q (F0 m pc ls st0) :=
  xS0 (wf := []) X hF hM hG hd hR hf (by rw [List.append_nil]; exact hP) (by rw [List.append_nil]; exact hD) hS hn hl hst hw hdg (fun H1 locs1 h1 h2 h3 => kk H1 locs1 (by rw [List.append_nil] at h1; exact h1) (by rw [List.append_nil] at h2; exact h2) h3)
theorem xVl {r : Int64} (X : Cx p s m meth c args own cc nL ret g A) (hF : XF z A s s.heap) (hM : CX l y (ws_ y cy nLy rety) rmy g z (.ref b :: As) w (some (.long r)) w' 0 0) (hG : GoodIn lw_all (wsV own index C y (ws_ y cy nLy rety))) (hd : Dy y C n) (hR : Ry rmy R nLy 0 0) (hP : va_P g.1 vwCl w H) (hD : va_D A w) (hS : va_S A s.heap H locs) (hl : ls.size = nL) (hc : Rc w b C) (hn : As.length = n) (hst : st0 = As.reverse ++ .ref b :: rest) (hf : cells ≤ R.cells ∧ slots ≤ R.slots) (hw : (rest.map fun v => v.category).sum ≤ 8) (hdg : decode cc pc = .ok (.invokevirtual index, 3))
    (kk : ∀ (H1 : Heap) (locs1 : List Loc), va_P g.1 vwCl w' H1 → va_D A w' → va_S A s.heap H1 locs1 → W p l e R s m args below meth c H1 locs1 cells slots Q (F0 m (pc + 3) ls (.long r :: rest))) : W p l e R s m args below meth c H locs cells slots Q (F0 m pc ls st0) :=
  xV0 (wf := []) X hF hM hG hd hR hf (by rw [List.append_nil]; exact hP) (by rw [List.append_nil]; exact hD) hS hc hn hl hst hw hdg (fun H1 locs1 h1 h2 h3 => kk H1 locs1 (by rw [List.append_nil] at h1; exact h1) (by rw [List.append_nil] at h2; exact h2) h3)
theorem xSl {r : Int64} (X : Cx p s m meth c args own cc nL ret g A) (hF : XF z A s s.heap) (hM : CX l y (ws_ y cy nLy rety) rmy g z As w (some (.long r)) w' 0 0) (hG : GoodIn lw_all (va_wsS own index y (ws_ y cy nLy rety))) (hd : Dy y C n) (hR : Ry rmy R nLy 0 0) (hP : va_P g.1 vwCl w H) (hD : va_D A w) (hS : va_S A s.heap H locs) (hl : ls.size = nL) (hn : As.length = n) (hst : st0 = As.reverse ++ rest) (hf : cells ≤ R.cells ∧ slots ≤ R.slots) (hw : (rest.map fun v => v.category).sum ≤ 8) (hdg : decode cc pc = .ok (.invokestatic index, 3))
    (kk : ∀ (H1 : Heap) (locs1 : List Loc), va_P g.1 vwCl w' H1 → va_D A w' → va_S A s.heap H1 locs1 → W p l e R s m args below meth c H1 locs1 cells slots Q (F0 m (pc + 3) ls (.long r :: rest))) : W p l e R s m args below meth c H locs cells slots Q (F0 m pc ls st0) :=
  xS0 (wf := []) X hF hM hG hd hR hf (by rw [List.append_nil]; exact hP) (by rw [List.append_nil]; exact hD) hS hn hl hst hw hdg (fun H1 locs1 h1 h2 h3 => kk H1 locs1 (by rw [List.append_nil] at h1; exact h1) (by rw [List.append_nil] at h2; exact h2) h3)
theorem xVr {r : Nat} (X : Cx p s m meth c args own cc nL ret g A) (hF : XF z A s s.heap) (hM : CX l y (ws_ y cy nLy rety) rmy g z (.ref b :: As) w (some (.ref r)) w' 0 0) (hG : GoodIn lw_all (wsV own index C y (ws_ y cy nLy rety))) (hd : Dy y C n) (hR : Ry rmy R nLy 0 0) (hP : va_P g.1 vwCl w H) (hD : va_D A w) (hS : va_S A s.heap H locs) (hl : ls.size = nL) (hc : Rc w b C) (hn : As.length = n) (hst : st0 = As.reverse ++ .ref b :: rest) (hf : cells ≤ R.cells ∧ slots ≤ R.slots) (hw : (rest.map fun v => v.category).sum ≤ 8) (hdg : decode cc pc = .ok (.invokevirtual index, 3))
    (kk : ∀ (H1 : Heap) (locs1 : List Loc), va_P g.1 vwCl w' H1 → va_D A w' → va_S A s.heap H1 locs1 → W p l e R s m args below meth c H1 locs1 cells slots Q (F0 m (pc + 3) ls (.ref r :: rest))) : W p l e R s m args below meth c H locs cells slots Q (F0 m pc ls st0) :=
  xV0 (wf := []) X hF hM hG hd hR hf (by rw [List.append_nil]; exact hP) (by rw [List.append_nil]; exact hD) hS hc hn hl hst hw hdg (fun H1 locs1 h1 h2 h3 => kk H1 locs1 (by rw [List.append_nil] at h1; exact h1) (by rw [List.append_nil] at h2; exact h2) h3)
theorem xSr {r : Nat} (X : Cx p s m meth c args own cc nL ret g A) (hF : XF z A s s.heap) (hM : CX l y (ws_ y cy nLy rety) rmy g z As w (some (.ref r)) w' 0 0) (hG : GoodIn lw_all (va_wsS own index y (ws_ y cy nLy rety))) (hd : Dy y C n) (hR : Ry rmy R nLy 0 0) (hP : va_P g.1 vwCl w H) (hD : va_D A w) (hS : va_S A s.heap H locs) (hl : ls.size = nL) (hn : As.length = n) (hst : st0 = As.reverse ++ rest) (hf : cells ≤ R.cells ∧ slots ≤ R.slots) (hw : (rest.map fun v => v.category).sum ≤ 8) (hdg : decode cc pc = .ok (.invokestatic index, 3))
    (kk : ∀ (H1 : Heap) (locs1 : List Loc), va_P g.1 vwCl w' H1 → va_D A w' → va_S A s.heap H1 locs1 → W p l e R s m args below meth c H1 locs1 cells slots Q (F0 m (pc + 3) ls (.ref r :: rest))) : W p l e R s m args below meth c H locs cells slots Q (F0 m pc ls st0) :=
  xS0 (wf := []) X hF hM hG hd hR hf (by rw [List.append_nil]; exact hP) (by rw [List.append_nil]; exact hD) hS hn hl hst hw hdg (fun H1 locs1 h1 h2 h3 => kk H1 locs1 (by rw [List.append_nil] at h1; exact h1) (by rw [List.append_nil] at h2; exact h2) h3)
/-- a field of a nest mate -/
theorem gN {T : u_T} {N ci : Nat} {host : String} (X : Cx p s m meth c args own cc nL ret g A) (hF : XF z A s s.heap) (hin : ∀ w ∈ u_ws C T N, w ∈ lw_all) (hP : va_P g.1 vwCl w H) (q0 : Nat) {fs : List Value} (he : w[q0]? = some (b, .inr (ci, fs))) (hc : vwCl[ci]? = some (C, T, N)) (k : Nat) (hk : k < N) (j : Nat) (hlink : xNest[j]? = some (Cond.fieldLinkNest own index (T k).1 (T k).2.1 (T k).2.2.1 host)) {v : Value} (hv : fs[k]? = some v) (hdg : decode cc pc = .ok (.getfield index, 3))
    (kk : W p l e R s m args below meth c H locs cells slots Q (F0 m (pc + 3) ls (v :: rest))) : W p l e R s m args below meth c H locs cells slots Q (F0 m pc ls (.ref b :: rest)) :=
  va_getN X.1 X.2.1 X.2.2.2.2.2.2.1 hin X.2.2.2.2.2.1 X.2.2.2.2.2.2.2.2 hP q0 he hc k hk (hF.1.use j hlink) (fun _ h9 => h9) hv hdg kk
/-- an element of an array of arrays -/
theorem va_aldA (X : Cx p s m meth c args own cc nL ret g A) (hP : va_P g.1 vwCl w H) (q0 : Nat) {n : Nat} {f : Nat → Option Nat} (ha : w[q0]? = some (b, .inl (g.2 5, n, .inr (.inr (.inr (.inr f)))))) {i : Int32} (hin : vp_in i n) {r : Nat} (hr : f i.toNatClampNeg = some r) (hdg : decode cc pc = .ok (.aaload, 1))
    (kk : W p l e R s m args below meth c H locs cells slots Q (F0 m (pc + 1) ls (.ref r :: rest))) : W p l e R s m args below meth c H locs cells slots Q (F0 m pc ls (.int i :: .ref b :: rest)) := by
  have hlt : i.toNatClampNeg < n := Nat.not_le.mp fun q => hin (Or.inr q)
  have hK := X.2.2.2.2.2.2.2.2
  refine W.aald (v := va_rf (f i.toNatClampNeg)) (ty := .array .int) X.1 X.2.1 (hP q0 _ ha) ((hK.2 5 _ rfl).1 n (fun j => va_rf (f j))) rfl (fun q => by cases q) (by show ¬ (i < 0 ∨ (arrV _ _ _).slots.size ≤ _); rw [arrV_size]; exact hin) (by show (arrV _ _ _).slots[_]? = _; rw [arrV_read _ _ hlt]) rfl rfl hdg ?_
  rw [hr]
  exact kk
theorem rMin (X : Cx p s m meth c args own cc nL ret g A) (hlink : (Cond.methodLink own index Lib.Math.min.name) ∈ lw_all) (hl : ls.size = nL) (hfr : 1 ≤ R.frames ∧ (rest.map fun v => v.category).sum + 13 ≤ R.locals) (hf : cells ≤ R.cells ∧ slots ≤ R.slots) {x y : Int32} (hdg : decode cc pc = .ok (.invokestatic index, 3))
    (kk : W p l e R s m args below meth c H locs cells slots Q (F0 m (pc + 3) ls (.int (if y < x then y else x) :: rest))) : W p l e R s m args below meth c H locs cells slots Q (F0 m pc ls (.int y :: .int x :: rest)) :=
  va_mmin X.1 X.2.1 (X.2.2.2.2.1.trans hl.symm) X.2.2.2.2.2.1 (X.2.2.2.2.2.2.1 _ hlink) (X.2.2.2.2.2.2.1 _ q495) (X.2.2.2.2.2.2.1 _ q158) (X.2.2.2.2.2.2.1 _ q496) hfr.1 hfr.2 hf.1 hf.2 hdg kk
theorem rMax (X : Cx p s m meth c args own cc nL ret g A) (hlink : (Cond.methodLink own index Lib.Math.max.name) ∈ lw_all) (hl : ls.size = nL) (hfr : 1 ≤ R.frames ∧ (rest.map fun v => v.category).sum + 13 ≤ R.locals) (hf : cells ≤ R.cells ∧ slots ≤ R.slots) {x y : Int32} (hdg : decode cc pc = .ok (.invokestatic index, 3))
    (kk : W p l e R s m args below meth c H locs cells slots Q (F0 m (pc + 3) ls (.int (if x < y then y else x) :: rest))) : W p l e R s m args below meth c H locs cells slots Q (F0 m pc ls (.int y :: .int x :: rest)) :=
  va_mmax X.1 X.2.1 (X.2.2.2.2.1.trans hl.symm) X.2.2.2.2.2.1 (X.2.2.2.2.2.2.1 _ hlink) (X.2.2.2.2.2.2.1 _ q665) (X.2.2.2.2.2.2.1 _ q158) (X.2.2.2.2.2.2.1 _ q666) hfr.1 hfr.2 hf.1 hf.2 hdg kk
theorem rMinL (X : Cx p s m meth c args own cc nL ret g A) (hlink : (Cond.methodLink own index Lib.MathLoose.min_long.x) ∈ lw_all) (hl : ls.size = nL) (hfr : 1 ≤ R.frames ∧ (rest.map fun v => v.category).sum + 15 ≤ R.locals) (hf : cells ≤ R.cells ∧ slots ≤ R.slots) {x y : Int64} (hdg : decode cc pc = .ok (.invokestatic index, 3))
    (kk : W p l e R s m args below meth c H locs cells slots Q (F0 m (pc + 3) ls (.long (if y < x then y else x) :: rest))) : W p l e R s m args below meth c H locs cells slots Q (F0 m pc ls (.long y :: .long x :: rest)) :=
  va_mmin_long X.1 X.2.1 (X.2.2.2.2.1.trans hl.symm) X.2.2.2.2.2.1 (X.2.2.2.2.2.2.1 _ hlink) (X.2.2.2.2.2.2.1 _ q1033) (X.2.2.2.2.2.2.1 _ q158) (X.2.2.2.2.2.2.1 _ q1034) hfr.1 hfr.2 hf.1 hf.2 hdg kk
theorem rMaxL (X : Cx p s m meth c args own cc nL ret g A) (hlink : (Cond.methodLink own index Lib.MathLoose.max_long.x) ∈ lw_all) (hl : ls.size = nL) (hfr : 1 ≤ R.frames ∧ (rest.map fun v => v.category).sum + 15 ≤ R.locals) (hf : cells ≤ R.cells ∧ slots ≤ R.slots) {x y : Int64} (hdg : decode cc pc = .ok (.invokestatic index, 3))
    (kk : W p l e R s m args below meth c H locs cells slots Q (F0 m (pc + 3) ls (.long (if y < x then x else y) :: rest))) : W p l e R s m args below meth c H locs cells slots Q (F0 m pc ls (.long y :: .long x :: rest)) :=
  va_mmax_long X.1 X.2.1 (X.2.2.2.2.1.trans hl.symm) X.2.2.2.2.2.1 (X.2.2.2.2.2.2.1 _ hlink) (X.2.2.2.2.2.2.1 _ q1036) (X.2.2.2.2.2.2.1 _ q158) (X.2.2.2.2.2.2.1 _ q1037) hfr.1 hfr.2 hf.1 hf.2 hdg kk
end BASEX
