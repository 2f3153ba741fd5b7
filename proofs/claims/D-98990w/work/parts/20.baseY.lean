/-! CALLS THAT MAKE CELLS AND MAY THROW: what they ask of the start, their contracts, their rows -/
def xOA (U : State) : Prop := (Cond.arrayOver (.array .int)).before #[] U = true
theorem xOA.moved {u U : State} (hvm : u.vm.Alike U.vm) (h : xOA u) : xOA U := by
  unfold xOA Cond.before Cond.holds at h ⊢
  simp only [Cond.value, beq_iff_eq] at h ⊢
  rw [hvm.findClass] 
  cases hc : u.vm.findClass (FieldType.array .int).toString with
  | none => rw [hc] at h; simp at h
  | some comp =>
    rw [hc] at h
    simp only [Option.bind_some, Option.bind_eq_some_iff, Option.map_eq_some_iff] at h ⊢
    obtain ⟨c, hi, k, hk, hb⟩ := h
    obtain ⟨k', hk', he⟩ := hvm.2.2 _ _ hk
    refine ⟨c, ?_, k', hk', ?_⟩
    · have h8 := va_idx_bare U.vm comp
      have h7 := va_idx_bare u.vm comp
      have e : U.vm.bare = u.vm.bare := by first | exact hvm.bare_eq | exact hvm.bare_eq.symm
      rw [e] at h8
      exact (h8.symm.trans h7).trans hi
    · have e2 : k'.kind = k.kind := by rw [he]
      rw [e2, hvm.findClass]
      exact hb
/-- the words of the texts: their lengths, their letters -/
def xWl : List Nat := [7, 5, 5, 5, 4, 4, 6, 4, 4, 4, 4, 6, 5, 2, 2, 2, 4, 5, 5, 4, 5, 2, 4, 4, 3, 2, 3, 3, 3, 6, 6, 3, 5, 11]
def xWb : List (List Int32) := [[104, 117, 110, 103, 101, 114, 115], [102, 105, 110, 100, 115], [112, 114, 105, 99, 101], [101, 97, 114, 110, 115], [108, 97, 110, 100], [114, 111, 97, 100], [112, 101, 114, 115, 111, 110], [99, 97, 108, 108], [109, 111, 118, 101], [102, 101, 101, 100], [107, 105, 108, 108], [112, 97, 114, 100, 111, 110], [109, 111, 110, 116, 104], [116, 111], [105, 110], [98, 121], [102, 101, 97, 114], [103, 111, 111, 100, 115], [100, 101, 98, 116, 115], [111, 110, 101, 115], [102, 101, 97, 114, 115], [105, 102], [116, 104, 101, 110], [101, 108, 115, 101], [101, 110, 100], [111, 114], [97, 110, 100], [110, 111, 116], [119, 104, 111], [102, 111, 114, 101, 115, 116], [104, 117, 110, 103, 101, 114], [111, 117, 116], [99, 114, 111, 119, 100], [60, 62, 61, 35, 43, 45, 42, 47, 40, 41, 59]]
def xNm (k : Nat) : Int32 := ([212, 228, 216, 204, 229, 230, 231, 217, 218, 232] : List Int32).getD k 0
def XE1 (z : Nat → Nat) (U : State) : Prop := va_AO "WolfsHead$Text" U ∧ va_AO "WolfsHead$Sum" U ∧ va_AO "java/lang/Object" U ∧ xOA U ∧ va_Mi "[Ljava/lang/Object;" (z 6) U ∧ va_Dc U
def XE2 (z : Nat → Nat) (A : Nat → Prop) (U : State) (H : Heap) : Prop := va_Z "WolfsHead$Tokens" "WORDS" "[Ljava/lang/String;" (.ref (z 2)) A U H ∧ va_T (.object "java/lang/String") (z 2) 33 (fun k => .ref (z (100 + k))) A U H ∧ va_Z "WolfsHead$Tokens" "NAMED" "[I" (.ref (z 3)) A U H ∧ va_T .int (z 3) 10 (fun k => .int (xNm k)) A U H ∧ vk_S 34 xWl xWb (fun k => z (100 + k)) (fun k => z (200 + k)) A U H
def XE3 (z : Nat → Nat) (A : Nat → Prop) (U : State) (H : Heap) : Prop := va_Z "java/util/ArrayList" "DEFAULTCAPACITY_EMPTY_ELEMENTDATA" "[Ljava/lang/Object;" (.ref (z 4)) A U H ∧ va_T (.object "java/lang/Object") (z 4) 0 (fun _ => .null) A U H ∧ va_Z "java/lang/Integer$IntegerCache" "cache" "[Ljava/lang/Integer;" (.ref (z 5)) A U H ∧ va_Z "java/lang/Integer$IntegerCache" "high" "I" (.int 127) A U H ∧ va_T (.object "java/lang/Integer") (z 5) 256 (fun k => .ref (z (300 + k))) A U H
def XE4 (A : Nat → Prop) (U : State) (H : Heap) : Prop := va_Z "java/lang/String" "COMPACT_STRINGS" "Z" (.int 1) A U H ∧ va_Zq "jdk/internal/util/Preconditions" "SIOOBE_FORMATTER" "Ljava/util/function/BiFunction;" A U H ∧ vx_Zq Bundle.tN "UNASSIGNED_STACK" Bundle.steD A U H ∧ vx_Zq Bundle.tN "SUPPRESSED_SENTINEL" Bundle.listD A U H
def XE5 (z : Nat → Nat) (U : State) : Prop := vk_R "WolfsHead$Tokens" 53 "<>=#+-*/();" (z 133) U ∧ va_Nw (.declares ⟨"java/lang/Throwable", "<init>", "()V"⟩) U
/-- what holds at the start of every method of the parser, of every constructor -/
def XG (z : Nat → Nat) (A : Nat → Prop) (U : State) (H : Heap) : Prop := XF z A U H ∧ XE1 z U ∧ XE2 z A U H ∧ XE3 z A U H ∧ XE4 A U H ∧ XE5 z U
theorem XG.of_alike {z : Nat → Nat} {A : Nat → Prop} {s U : State} {H : Heap} (hvm : s.vm.Alike U.vm) (hF : XF z A U H) (h5 : XE5 z U) (h : XG z A s H) : XG z A U H := by
  obtain ⟨-, ⟨a1, a2, a3, a4, a5, a6⟩, ⟨b1, b2, b3, b4, b5⟩, ⟨c1, c2, c3, c4, c5⟩, ⟨d1, d2, d3, d4⟩, -⟩ := h
  exact ⟨hF, ⟨va_AO.moved hvm a1, va_AO.moved hvm a2, va_AO.moved hvm a3, xOA.moved hvm a4, va_Mi.moved hvm a5, va_Dc.moved hvm a6⟩, ⟨va_Z.moved hvm b1, va_T.moved hvm b2, va_Z.moved hvm b3, va_T.moved hvm b4, vk_S.moved hvm b5⟩, ⟨va_Z.moved hvm c1, va_T.moved hvm c2, va_Z.moved hvm c3, va_Z.moved hvm c4, va_T.moved hvm c5⟩, ⟨va_Z.moved hvm d1, va_Zq.moved hvm d2, vx_Zq.moved hvm d3, vx_Zq.moved hvm d4⟩, h5⟩
theorem XG.moved {z : Nat → Nat} {A : Nat → Prop} {s U : State} {H : Heap} (hW : s.WarmedH U.vm) (h : XG z A s H) : XG z A U H := XG.of_alike hW.alike (h.1.moved hW) ⟨vk_R.warm hW h.2.2.2.2.2.1, va_Nw.warmD hW h.2.2.2.2.2.2⟩ h
theorem XG.same {z : Nat → Nat} {A : Nat → Prop} {s U : State} {H : Heap} (hvm : s.vm = U.vm) (h : XG z A s H) : XG z A U H := XG.of_alike (hvm ▸ Vm.Alike.refl s.vm) (h.1.same hvm) ⟨vk_R.same hvm.symm h.2.2.2.2.2.1, va_Nw.same rfl hvm h.2.2.2.2.2.2⟩ h
theorem XG.kept {z : Nat → Nat} {A : Nat → Prop} {U : State} {H H1 : Heap} (h : XG z A U H) (hq : ∀ a : Nat, a < H.size → ¬ A a → H1[a]? = H[a]?) : XG z A U H1 := by
  obtain ⟨f, a, ⟨b1, b2, b3, b4, b5⟩, ⟨c1, c2, c3, c4, c5⟩, ⟨d1, d2, d3, d4⟩, h5⟩ := h
  exact ⟨f.kept hq, a, ⟨b1.kept hq, b2.kept hq, b3.kept hq, b4.kept hq, b5.kept hq⟩, ⟨c1.kept hq, c2.kept hq, c3.kept hq, c4.kept hq, c5.kept hq⟩, ⟨d1.kept hq, d2.kept hq, d3.kept hq, d4.kept hq⟩, h5⟩
theorem XG.narrow {z : Nat → Nat} {A B : Nat → Prop} {U : State} {H : Heap} (h : XG z A U H) (hAB : ∀ q, B q → A q) : XG z B U H := by
  obtain ⟨f, a, ⟨b1, b2, b3, b4, b5⟩, ⟨c1, c2, c3, c4, c5⟩, ⟨d1, d2, d3, d4⟩, h5⟩ := h
  exact ⟨f.narrow hAB, a, ⟨b1.narrow hAB, b2.narrow hAB, b3.narrow hAB, b4.narrow hAB, b5.narrow hAB⟩, ⟨c1.narrow hAB, c2.narrow hAB, c3.narrow hAB, c4.narrow hAB, c5.narrow hAB⟩, ⟨d1.narrow hAB, d2.narrow hAB, d3.narrow hAB, d4.narrow hAB⟩, h5⟩
def PreY (g : gG) (z : Nat → Nat) (w : va_W) (sz : Nat) (U : State) : Prop := PreU g w sz U ∧ XG z (va_A w sz) U U.heap
def QYr (g : gG) (po : Option Value → va_W → Prop) (A : Nat → Prop) : Array Value → State → Outcome → State → Prop := fun _ st oc t => ∃ (rv : Option Value) (w' : va_W), oc = .returned rv ∧ po rv w' ∧ va_P g.1 vwCl w' t.heap ∧ va_K g.1 vwCl (gT g) t ∧ va_D A w' ∧ va_F A st t
def XYr (g : gG) (px : Nat → va_W → Prop) (A : Nat → Prop) : String → Addr → State → State → Prop := fun E q st t => E = "WolfsHead$Wrong" ∧ ∃ w' : va_W, px q w' ∧ va_P g.1 vwCl w' t.heap ∧ va_K g.1 vwCl (gT g) t ∧ va_D A w' ∧ va_F A st t
/-- a contract: with the world w the method returns (po says what, and the world behind) or throws (px says what) -/
def CY (l : Launch) (y : MethodName) (ws : List Cond) (rm : Room) (g : gG) (z : Nat → Nat) (av : List Value) (w : va_W) (po : Option Value → va_W → Prop) (px : Nat → va_W → Prop) (mc ms : Nat) : Prop :=
  ∀ sz : Nat, vx_Met l y ws rm (va_Pc av (PreY g z w sz)) (QYr g po (va_A w sz)) (XYr g px (va_A w sz)) mc ms (va_A w sz)
/-- what holds within such a method -/
def Cy (p : Program) (s : State) (m : MethodId) (meth : Method) (c : Code) (args : Array Value) (own : String) (cc : ByteArray) (nL : Nat) (ret : Option FieldType) (g : gG) (z : Nat → Nat) (A : Nat → Prop) : Prop :=
  Cx p s m meth c args own cc nL ret g A ∧ XG z A s s.heap ∧ ∀ x ∈ c.exceptionTable.toList, False
theorem CY.of {l : Launch} {y : MethodName} {cc : ByteArray} {nL : Nat} {ret : Option FieldType} {rm : Room} {g : gG} {z : Nat → Nat} {av : List Value} {w : va_W} {po : Option Value → va_W → Prop} {px : Nat → va_W → Prop} {mc ms : Nat} (own : String) (hyo : y.cls = own) (hy : plainName own = true) (hn : (lg_sl av).length ≤ nL)
    (body : ∀ (p : Program) (e : Env) (s : State) (m : MethodId) (below : List Frame) (meth : Method) (c : Code) (A : Nat → Prop) (ls : Array Slot), Cy p s m meth c av.toArray own cc nL ret g z A → va_P g.1 vwCl w s.heap → va_D A w → va_S A s.heap s.heap [] → lv_has ls nL (lv_args 0 av) → W p l e rm s m av.toArray below meth c s.heap [] 0 0 (vx_MQ below (QYr g po A) (XYr g px A) av.toArray s mc ms A) (F0 m 0 ls [])) : CY l y (ws_ y cc nL ret) rm g z av w po px mc ms := by
  subst hyo
  intro sz
  refine vx_ofW (cc := cc) (maxL := nL) (ret := ret) hy rfl ?_
  intro p e s m args below meth c s₁ B hml ht hv
  obtain ⟨rfl, ⟨hsz, hP, hK, hD0⟩, hF⟩ := hv
  have hts := atoms_spec (ws := ws_ y cc nL ret) B.pre
  have hts : ∀ w ∈ lw_all, w.before _ s = true := fun w h => hts w (List.mem_cons_of_mem _ h)
  have hown : s.vm.findClass y.cls = some m.cls := findClass_of_methodNamed B.named
  subst hsz
  have hD := hD0.self (sz := s.heap.size)
  have hl := lv_entry av (n := nL) hn
  rw [lg_entry_eq]
  exact body p e s m below meth c _ _ ⟨⟨B.exec, B.bytes, B.returns, B.notSynchronized, hml, hown, hts, fun q h => Or.inr h, hK⟩, hF, ht⟩ hP hD va_S.rf hl
theorem PreY.blind {g : gG} {z : Nat → Nat} {w : va_W} {sz : Nat} {av : List Value} : FrameBlind (va_Pc av (PreY g z w sz)) := by
  intro a U f mk q
  obtain ⟨q0, ⟨q1, qP, qK, qD⟩, qF⟩ := q
  exact ⟨q0, ⟨q1, qP, va_K.moved (u := U) (U := U.calling f mk a) (Vm.Alike.refl U.vm) qK, qD⟩, XG.same (s := U) (U := U.calling f mk a) rfl qF⟩
section BASEY
variable {p : Program} {l : Launch} {e : Env} {R : Room} {s : State} {m : MethodId} {args : Array Value} {below : List Frame} {meth : Method} {c : Code} {H : Heap} {locs : List Loc} {cells slots : Nat} {Q : State → Prop}
variable {A : Nat → Prop} {own : String} {cc : ByteArray} {nL : Nat} {ret : Option FieldType} {g : gG} {z : Nat → Nat} {ls : Array Slot} {st0 rest : List Value} {pc : Nat}
variable {y : MethodName} {cy : ByteArray} {nLy : Nat} {rety : Option FieldType} {rmy : Room} {b : Nat} {As : List Value} {w w' wf : va_W} {rv : Option Value} {C : String} {index n : Nat} {mc ms MC MS : Nat} {po : Option Value → va_W → Prop} {px : Nat → va_W → Prop} {po9 : Option Value → va_W → Prop} {px9 : Nat → va_W → Prop}
theorem yrun_on {av : Array Value} (X : Cx p s m meth c args own cc nL ret g A) (hr : vx_Run p l e R s m args below meth c H locs cells slots mc ms (F0 m pc ls st0) rest (QYr g po (va_A w H.size) av) (XYr g px (va_A w H.size)) (va_A w H.size)) (hP : va_P g.1 vwCl (w ++ wf) H) (hD : va_D A (w ++ wf)) (hS : va_S A s.heap H locs)
    (kx : ∀ (q : Nat) (ce : Cell) (w1 : va_W) (H1 : Heap) (locs1 : List Loc), px q w1 → va_P g.1 vwCl (w1 ++ wf) H1 → va_D A (w1 ++ wf) → va_S A s.heap H1 locs1 → H1[q]? = some ce → ce.vm = .none → s.vm.findClass "WolfsHead$Wrong" = some ce.cls → vx_W p l e R s m args below meth c H1 locs1 (cells + mc) (slots + ms) Q (F0 m pc ls rest) q)
    (kk : ∀ (rv : Option Value) (w1 : va_W) (H1 : Heap) (locs1 : List Loc), po rv w1 → va_P g.1 vwCl (w1 ++ wf) H1 → va_D A (w1 ++ wf) → va_S A s.heap H1 locs1 → W p l e R s m args below meth c H1 locs1 (cells + mc) (slots + ms) Q (F0 m (pc + 3) ls (rv.toList ++ rest))) : W p l e R s m args below meth c H locs cells slots Q (F0 m pc ls st0) := by
  obtain ⟨-, -, -, -, -, -, -, hA, hK⟩ := X
  have hDw : va_D A w := D_left hD
  have hF := va_freeW hDw hS hA
  have hfr : ∀ (k : Nat) (q : Nat × va_E), wf[k]? = some q → (w ++ wf)[w.length + k]? = some q := fun k q hk => by rw [List.getElem?_append_right (Nat.le_add_right _ _)]; simpa using hk
  have hap : ∀ (k : Nat) (q : Nat × va_E), wf[k]? = some q → q.1 < H.size ∧ ¬ va_A w H.size q.1 := by
    intro k q hk
    have h1 := hfr k q hk
    have hlt := (hP _ q h1).lt
    refine ⟨hlt, fun h => ?_⟩
    rcases h with ⟨i, e, h⟩ | h
    · have hi := (List.getElem?_eq_some_iff.mp h).1
      have h2 := hD.1 i (w.length + k) (q.1, e) q (by rw [List.getElem?_append_left hi]; exact h) h1 rfl
      omega
    · omega
  have hjoin : ∀ (w1 : va_W) (H1 : Heap) (L : List Loc), va_P g.1 vwCl w1 H1 → va_D (va_A w H.size) w1 → H.size ≤ H1.size → (∀ q : Nat, q < H.size → ¬ va_A w H.size q → H1[q]? = H[q]?) → (∀ q ∈ L, va_A w H.size q.base) → va_P g.1 vwCl (w1 ++ wf) H1 ∧ va_D A (w1 ++ wf) ∧ va_S A s.heap H1 (locs ++ L) := by
    intro w1 H1 L qP qD hz hk hL
    refine ⟨va_P.app qP (fun k q hq => (hP _ q (hfr k q hq)).kept (hk q.1 (hap k q hq).1 (hap k q hq).2)), va_D.app (qD.weaken (fun k q _ h => hF q.1 h)) ⟨fun i j x y hx hy hxy => by have := hD.1 _ _ x y (hfr i x hx) (hfr j y hy) hxy; omega, fun k q hk => hD.2 _ q (hfr k q hk)⟩ (fun i j x y hx hy hxy => (hap j y hy).2 (by rw [← hxy]; exact qD.2 i x hx)), Nat.le_trans hS.1 hz, fun q h1 h2 => by rw [hk q (Nat.lt_of_lt_of_le h1 hS.1) (fun z => h2 (hF q z))]; exact hS.2.1 q h1 h2, fun q hq => ?_⟩
    rcases List.mem_append.mp hq with h | h
    · exact hS.2.2 q h
    · exact hF _ (hL q h)
  intro T hT X0
  rcases hr T hT X0 with ⟨v, st₀, t, T', L, h0, X', hL, e1, e2, ⟨rv, w1, hv, hpo, qP, qK, qD, hz, hk⟩, st⟩ | ⟨q, st₀, t, T', L, E, ce, h0, X', hL, e1, e2, ⟨hE, w1, hpx, qP, qK, qD, hz, hk⟩, hce, hcv, hcl, st⟩
  · cases hv
    rw [h0] at hz hk
    rw [← e1] at qP hz hk
    obtain ⟨j1, j2, j3⟩ := hjoin w1 T'.heap L qP qD hz hk hL
    obtain ⟨t2, a1, b1⟩ := kk v w1 T'.heap (locs ++ L) hpo j1 j2 j3 T' rfl X'
    exact ⟨t2, st t2 a1, b1⟩
  · subst hE
    rw [h0] at hz hk
    rw [← e1] at qP hz hk
    obtain ⟨j1, j2, j3⟩ := hjoin w1 T'.heap L qP qD hz hk hL
    obtain ⟨t2, a1, b1⟩ := kx q ce w1 T'.heap (locs ++ L) hpx j1 j2 j3 (by rw [e1]; exact hce) hcv hcl T' rfl X'
    exact ⟨t2, st.trans a1, b1⟩
theorem CY.hp (X : Cx p s m meth c args own cc nL ret g A) (hF : XG z A s s.heap) (hP : va_P g.1 vwCl w H) (hD : va_D A w) (hS : va_S A s.heap H locs) {av : List Value} : ∀ U : State, U.heap = H → s.WarmedH U.vm → va_Pc av (PreY g z w H.size) av.toArray U :=
  fun U hU hW => ⟨rfl, ⟨by rw [hU], by rw [hU]; exact hP, va_K.moved hW.alike X.2.2.2.2.2.2.2.2, hD.weaken (fun _ _ _ _ => trivial)⟩, by rw [hU]; exact ((hF.kept hS.2.1).narrow (va_freeW hD hS X.2.2.2.2.2.2.2.1)).moved hW⟩
/-- leaving by an exception that a callee threw -/
theorem yLeave (X : Cy p s m meth c args own cc nL ret g z A) {q : Nat} {ce : Cell} {w1 : va_W} (hx : px9 q w1) (hP : va_P g.1 vwCl w1 H) (hD : va_D A w1) (hS : va_S A s.heap H locs) (h1 : H[q]? = some ce) (h2 : ce.vm = .none) (h3 : s.vm.findClass "WolfsHead$Wrong" = some ce.cls) (hc : cells ≤ MC) (hs : slots ≤ MS) : vx_W p l e R s m args below meth c H locs cells slots (vx_MQ below (QYr g po9 A) (XYr g px9 A) args s MC MS A) (F0 m pc ls rest) q :=
  vx_out (fun x hx => (X.2.2 x hx).elim) X.1.2.2.2.1 h1 h2 h3 (fun t ht hW => ⟨rfl, w1, hx, by rw [ht]; exact hP, va_K.moved hW X.1.2.2.2.2.2.2.2.2, hD, hS.F ht⟩) hS.2.2 hc hs
theorem yV (X : Cy p s m meth c args own cc nL ret g z A) (hM : CY l y (ws_ y cy nLy rety) rmy g z (.ref b :: As) w po px mc ms) (hG : GoodIn lw_all (wsV own index C y (ws_ y cy nLy rety))) (hd : Dy y C n) (hR : Ry rmy R nLy mc ms) (hf : cells + mc ≤ R.cells ∧ slots + ms ≤ R.slots) (hP : va_P g.1 vwCl (w ++ wf) H) (hD : va_D A (w ++ wf)) (hS : va_S A s.heap H locs) (hc : Rc w b C) (hn : As.length = n) (hsz : ls.size = nL) (hst : st0 = As.reverse ++ .ref b :: rest) (hw : (rest.map fun v => v.category).sum ≤ 8) (hdg : decode cc pc = .ok (.invokevirtual index, 3))
    (hm : cells + mc ≤ MC ∧ slots + ms ≤ MS) (hx : ∀ q w1, px q w1 → px9 q (w1 ++ wf))
    (kk : ∀ (rv : Option Value) (w1 : va_W) (H1 : Heap) (locs1 : List Loc), po rv w1 → va_P g.1 vwCl (w1 ++ wf) H1 → va_D A (w1 ++ wf) → va_S A s.heap H1 locs1 → W p l e R s m args below meth c H1 locs1 (cells + mc) (slots + ms) (vx_MQ below (QYr g po9 A) (XYr g px9 A) args s MC MS A) (F0 m (pc + 3) ls (rv.toList ++ rest))) : W p l e R s m args below meth c H locs cells slots (vx_MQ below (QYr g po9 A) (XYr g px9 A) args s MC MS A) (F0 m pc ls st0) := by
  obtain ⟨q0, ci, fs, T, N, he, hcl⟩ := hc
  exact yrun_on X.1 (vx_runV ⟨X.1.1, X.1.2.1, X.1.2.2.2.2.1, X.1.2.2.2.2.2.1, X.1.2.2.2.2.2.2.1⟩ (hM H.size) (cwV n X.1.2.2.2.2.2.2.1 hG rfl hR.1.1 hR.1.2 hd hR.2) ⟨PreY.blind, va_recv X.1.2.2.2.2.2.2.2.2 (P_left hP) hcl he, CY.hp X.1 X.2.1 (P_left hP) (D_left hD) hS⟩ rfl hn hsz hst (lv_room hw) hdg hf) hP hD hS
    (fun q ce w1 H1 locs1 h1 h2 h3 h4 h5 h6 h7 => yLeave X (hx q w1 h1) h2 h3 h4 h5 h6 h7 hm.1 hm.2) kk
theorem yS (X : Cy p s m meth c args own cc nL ret g z A) (hM : CY l y (ws_ y cy nLy rety) rmy g z As w po px mc ms) (hG : GoodIn lw_all (va_wsS own index y (ws_ y cy nLy rety))) (hd : Dy y C n) (hR : Ry rmy R nLy mc ms) (hf : cells + mc ≤ R.cells ∧ slots + ms ≤ R.slots) (hP : va_P g.1 vwCl (w ++ wf) H) (hD : va_D A (w ++ wf)) (hS : va_S A s.heap H locs) (hn : As.length = n) (hsz : ls.size = nL) (hst : st0 = As.reverse ++ rest) (hw : (rest.map fun v => v.category).sum ≤ 8) (hdg : decode cc pc = .ok (.invokestatic index, 3))
    (hm : cells + mc ≤ MC ∧ slots + ms ≤ MS) (hx : ∀ q w1, px q w1 → px9 q (w1 ++ wf))
    (kk : ∀ (rv : Option Value) (w1 : va_W) (H1 : Heap) (locs1 : List Loc), po rv w1 → va_P g.1 vwCl (w1 ++ wf) H1 → va_D A (w1 ++ wf) → va_S A s.heap H1 locs1 → W p l e R s m args below meth c H1 locs1 (cells + mc) (slots + ms) (vx_MQ below (QYr g po9 A) (XYr g px9 A) args s MC MS A) (F0 m (pc + 3) ls (rv.toList ++ rest))) : W p l e R s m args below meth c H locs cells slots (vx_MQ below (QYr g po9 A) (XYr g px9 A) args s MC MS A) (F0 m pc ls st0) :=
  yrun_on X.1 (vx_runS ⟨X.1.1, X.1.2.1, X.1.2.2.2.2.1, X.1.2.2.2.2.2.1, X.1.2.2.2.2.2.2.1⟩ (hM H.size) (va_cwS n X.1.2.2.2.2.2.2.1 hG rfl hR.1.1 hR.1.2 hd.2 hR.2) ⟨PreY.blind, CY.hp X.1 X.2.1 (P_left hP) (D_left hD) hS⟩ rfl hn hsz hst (lv_room hw) hdg hf) hP hD hS
    (fun q ce w1 H1 locs1 h1 h2 h3 h4 h5 h6 h7 => yLeave X (hx q w1 h1) h2 h3 h4 h5 h6 h7 hm.1 hm.2) kk
/-- a constructor's call -/
theorem yI (X : Cy p s m meth c args own cc nL ret g z A) (hM : CY l y (ws_ y cy nLy none) rmy g z (.ref b :: As) w po px mc ms) (hG : GoodIn lw_all (ws_ y cy nLy none)) (hi : Cond.initialized y.cls ∈ lw_all) (hlk : Cond.methodLink own index y ∈ lw_all) (hin : Cond.instanceMethod y ∈ lw_all) (hd : Dy y C n ∧ y.name = "<init>") (hR : Ry rmy R nLy mc ms) (hf : cells + mc ≤ R.cells ∧ slots + ms ≤ R.slots) (hP : va_P g.1 vwCl (w ++ wf) H) (hD : va_D A (w ++ wf)) (hS : va_S A s.heap H locs) (hn : As.length = n) (hsz : ls.size = nL) (hst : st0 = As.reverse ++ .ref b :: rest) (hw : (rest.map fun v => v.category).sum ≤ 8) (hdg : decode cc pc = .ok (.invokespecial index, 3))
    (hm : cells + mc ≤ MC ∧ slots + ms ≤ MS) (hx : ∀ q w1, px q w1 → px9 q (w1 ++ wf))
    (kk : ∀ (rv : Option Value) (w1 : va_W) (H1 : Heap) (locs1 : List Loc), po rv w1 → va_P g.1 vwCl (w1 ++ wf) H1 → va_D A (w1 ++ wf) → va_S A s.heap H1 locs1 → W p l e R s m args below meth c H1 locs1 (cells + mc) (slots + ms) (vx_MQ below (QYr g po9 A) (XYr g px9 A) args s MC MS A) (F0 m (pc + 3) ls (rv.toList ++ rest))) : W p l e R s m args below meth c H locs cells slots (vx_MQ below (QYr g po9 A) (XYr g px9 A) args s MC MS A) (F0 m pc ls st0) :=
  yrun_on X.1 (vx_runI ⟨X.1.1, X.1.2.1, X.1.2.2.2.2.1, X.1.2.2.2.2.2.1, X.1.2.2.2.2.2.2.1⟩ (hM H.size) (cwI n X.1.2.2.2.2.2.2.1 hG rfl hR.1.1 hR.1.2 (X.1.2.2.2.2.2.2.1 _ hi) (X.1.2.2.2.2.2.2.1 _ hlk) (X.1.2.2.2.2.2.2.1 _ hin) hd.2 hd.1.2 hR.2) ⟨PreY.blind, CY.hp X.1 X.2.1 (P_left hP) (D_left hD) hS⟩ rfl hn hsz hst (lv_room hw) hdg hf) hP hD hS
    (fun q ce w1 H1 locs1 h1 h2 h3 h4 h5 h6 h7 => yLeave X (hx q w1 h1) h2 h3 h4 h5 h6 h7 hm.1 hm.2) kk
/-- ends -/
theorem yRi {v : Int32} (X : Cy p s m meth c args own cc nL (some .int) g z A) (hp : po9 (some (.int v)) w') (hP : va_P g.1 vwCl w' H) (hD : va_D A w') (hS : va_S A s.heap H locs) (hm : cells ≤ MC ∧ slots ≤ MS) (hdg : decode cc pc = .ok (.ireturn, 1)) : W p l e R s m args below meth c H locs cells slots (vx_MQ below (QYr g po9 A) (XYr g px9 A) args s MC MS A) (F0 m pc ls [.int v]) :=
  W.widen hm.1 hm.2 (vx_ret (W.iret X.1.1 X.1.2.1 X.1.2.2.1 (fun t ht hW => ⟨_, w', rfl, hp, by rw [ht]; exact hP, va_K.moved hW.alike X.1.2.2.2.2.2.2.2.2, hD, hS.F ht⟩) hS.2.2 hdg X.1.2.2.2.1))
theorem yRz {v : Int32} (X : Cy p s m meth c args own cc nL (some .boolean) g z A) (hn : narrow .boolean (.int v) = .int v) (hp : po9 (some (.int v)) w') (hP : va_P g.1 vwCl w' H) (hD : va_D A w') (hS : va_S A s.heap H locs) (hm : cells ≤ MC ∧ slots ≤ MS) (hdg : decode cc pc = .ok (.ireturn, 1)) : W p l e R s m args below meth c H locs cells slots (vx_MQ below (QYr g po9 A) (XYr g px9 A) args s MC MS A) (F0 m pc ls [.int v]) :=
  W.widen hm.1 hm.2 (vx_ret (W.zret X.1.1 X.1.2.1 X.1.2.2.1 hn (fun t ht hW => ⟨_, w', rfl, hp, by rw [ht]; exact hP, va_K.moved hW.alike X.1.2.2.2.2.2.2.2.2, hD, hS.F ht⟩) hS.2.2 hdg X.1.2.2.2.1))
theorem yRv (X : Cy p s m meth c args own cc nL none g z A) (hp : po9 none w') (hP : va_P g.1 vwCl w' H) (hD : va_D A w') (hS : va_S A s.heap H locs) (hm : cells ≤ MC ∧ slots ≤ MS) (hdg : decode cc pc = .ok (.return_, 1)) : W p l e R s m args below meth c H locs cells slots (vx_MQ below (QYr g po9 A) (XYr g px9 A) args s MC MS A) (F0 m pc ls []) :=
  W.widen hm.1 hm.2 (vx_ret (W.vret X.1.1 X.1.2.1 X.1.2.2.1 (fun t ht hW => ⟨_, w', rfl, hp, by rw [ht]; exact hP, va_K.moved hW.alike X.1.2.2.2.2.2.2.2.2, hD, hS.F ht⟩) hS.2.2 hdg X.1.2.2.2.1))
theorem yRr {nm : String} {v : Nat} (X : Cy p s m meth c args own cc nL (some (.object nm)) g z A) (hp : po9 (some (.ref v)) w') (hP : va_P g.1 vwCl w' H) (hD : va_D A w') (hS : va_S A s.heap H locs) (hm : cells ≤ MC ∧ slots ≤ MS) (hdg : decode cc pc = .ok (.areturn, 1)) : W p l e R s m args below meth c H locs cells slots (vx_MQ below (QYr g po9 A) (XYr g px9 A) args s MC MS A) (F0 m pc ls [.ref v]) :=
  W.widen hm.1 hm.2 (vx_ret (W.aret X.1.1 X.1.2.1 X.1.2.2.1 (Or.inl ⟨_, rfl⟩) (Or.inr ⟨_, rfl⟩) (fun t ht hW => ⟨_, w', rfl, hp, by rw [ht]; exact hP, va_K.moved hW.alike X.1.2.2.2.2.2.2.2.2, hD, hS.F ht⟩) hS.2.2 hdg X.1.2.2.2.1))
theorem yRa {ty : FieldType} {v : Nat} (X : Cy p s m meth c args own cc nL (some (.array ty)) g z A) (hp : po9 (some (.ref v)) w') (hP : va_P g.1 vwCl w' H) (hD : va_D A w') (hS : va_S A s.heap H locs) (hm : cells ≤ MC ∧ slots ≤ MS) (hdg : decode cc pc = .ok (.areturn, 1)) : W p l e R s m args below meth c H locs cells slots (vx_MQ below (QYr g po9 A) (XYr g px9 A) args s MC MS A) (F0 m pc ls [.ref v]) :=
  W.widen hm.1 hm.2 (vx_ret (W.aret X.1.1 X.1.2.1 X.1.2.2.1 (Or.inr ⟨_, rfl⟩) (Or.inr ⟨_, rfl⟩) (fun t ht hW => ⟨_, w', rfl, hp, by rw [ht]; exact hP, va_K.moved hW.alike X.1.2.2.2.2.2.2.2.2, hD, hS.F ht⟩) hS.2.2 hdg X.1.2.2.2.1))
/-- throw -/
theorem yThrow (X : Cy p s m meth c args own cc nL ret g z A) {q k0 : Nat} {fs : List Value} (hq : w'[k0]? = some (q, .inr (5, fs))) (hp : px9 q w') (hP : va_P g.1 vwCl w' H) (hD : va_D A w') (hS : va_S A s.heap H locs) (hm : cells ≤ MC ∧ slots ≤ MS) (hdg : decode cc pc = .ok (.athrow, 1)) : W p l e R s m args below meth c H locs cells slots (vx_MQ below (QYr g po9 A) (XYr g px9 A) args s MC MS A) (F0 m pc ls (.ref q :: rest)) := by
  obtain ⟨q', h1, cell, g1, g2, g3, -⟩ := hP k0 _ hq
  refine vx_athrow X.1.1 X.1.2.1 hdg (yLeave X hp hP hD hS g1 g3 ?_ hm.1 hm.2)
  rw [g2]
  exact (X.1.2.2.2.2.2.2.2.2.1 5 _ rfl).2.1
end BASEY
/-- the order of a world -/
theorem P_in {D : va_G} {cl : List vw_C} {a b : va_W} {H : Heap} (h : va_P D cl a H) (hs : ∀ q ∈ b, q ∈ a) : va_P D cl b H := by
  intro k q hk
  obtain ⟨j, hj⟩ := List.mem_iff_getElem?.mp (hs q (List.mem_of_getElem? hk))
  exact h j q hj
theorem D_iff {A : Nat → Prop} {a : va_W} : va_D A a ↔ (a.map (fun q => q.1)).Nodup ∧ ∀ q ∈ a, A q.1 := by
  constructor
  · intro h
    refine ⟨?_, fun q hq => by obtain ⟨j, hj⟩ := List.mem_iff_getElem?.mp hq; exact h.2 j q hj⟩
    rw [List.Nodup, List.pairwise_iff_getElem]
    intro i j hi hj hij e
    rw [List.length_map] at hi hj
    rw [List.getElem_map, List.getElem_map] at e
    have := h.1 i j _ _ (List.getElem?_eq_getElem hi) (List.getElem?_eq_getElem hj) e
    omega
  · intro ⟨h1, h2⟩
    rw [List.Nodup, List.pairwise_iff_getElem] at h1
    refine ⟨fun i j p q hp hq e => ?_, fun k q hk => h2 q (List.mem_of_getElem? hk)⟩
    obtain ⟨hi, hp⟩ := List.getElem?_eq_some_iff.mp hp
    obtain ⟨hj, hq⟩ := List.getElem?_eq_some_iff.mp hq
    rcases Nat.lt_trichotomy i j with h | h | h
    · exact absurd (by rw [List.getElem_map, List.getElem_map, hp, hq]; exact e) (h1 i j (by rw [List.length_map]; exact hi) (by rw [List.length_map]; exact hj) h)
    · exact h
    · exact absurd (by rw [List.getElem_map, List.getElem_map, hp, hq]; exact e.symm) (h1 j i (by rw [List.length_map]; exact hj) (by rw [List.length_map]; exact hi) h)
theorem D_sub {A : Nat → Prop} {a b : va_W} (h : va_D A a) (hs : b.Sublist a) : va_D A b := by
  rw [D_iff] at h ⊢
  exact ⟨h.1.sublist (hs.map _), fun q hq => h.2 q (hs.subset hq)⟩
theorem D_perm {A : Nat → Prop} {a b : va_W} (h : va_D A a) (hs : a.Perm b) : va_D A b := by
  rw [D_iff] at h ⊢
  exact ⟨(hs.map _).nodup_iff.mp h.1, fun q hq => h.2 q (hs.mem_iff.mpr hq)⟩
theorem P_perm {D : va_G} {cl : List vw_C} {a b : va_W} {H : Heap} (h : va_P D cl a H) (hs : a.Perm b) : va_P D cl b H := P_in h (fun q hq => hs.mem_iff.mpr hq)
/-- a world in another order: what is known of it goes over -/
theorem w_perm {D : va_G} {cl : List vw_C} {A : Nat → Prop} {a b : va_W} {H : Heap} (hP : va_P D cl a H) (hD : va_D A a) (hs : a.Perm b) : va_P D cl b H ∧ va_D A b := ⟨P_perm hP hs, D_perm hD hs⟩
theorem w_sub {D : va_G} {cl : List vw_C} {A : Nat → Prop} {a b : va_W} {H : Heap} (hP : va_P D cl a H) (hD : va_D A a) (hs : b.Sublist a) : va_P D cl b H ∧ va_D A b := ⟨P_in hP (fun q hq => hs.subset hq), D_sub hD hs⟩
