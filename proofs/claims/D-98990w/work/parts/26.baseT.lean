/-! the parser: pure words, contracts -/
abbrev TS : Type := Int32 × Int32 × Int32 × Int32 × Int32 × Int32
abbrev Er : Type := Int32 × Int32
abbrev Rs (α : Type) : Type := Option ((Er ⊕ α) × TS × Nat × Nat)
def pB {α β : Type} (x : Rs α) (f : α → TS → Rs β) : Rs β := match x with
  | none => none
  | some (.inl e, t, k, n) => some (.inl e, t, k, n)
  | some (.inr a, t, k, n) => match f a t with
    | none => none
    | some (r, t', k', n') => some (r, t', k + k', n + n')
def pC {α : Type} (k n : Nat) (x : Rs α) : Rs α := match x with
  | none => none
  | some (r, t, k', n') => some (r, t, k + k', n + n')
def pOk {α : Type} (a : α) (t : TS) : Rs α := some (.inr a, t, 0, 0)
def pErr {α : Type} (f : Int32) (t : TS) : Rs α := some (.inl (f, t.2.1), t, 1, 8)
theorem pBs {α β : Type} {x : Rs α} {f : α → TS → Rs β} {r : Er ⊕ β} {t' : TS} {k n : Nat} (h : pB x f = some (r, t', k, n)) : (∃ e, x = some (.inl e, t', k, n) ∧ r = .inl e) ∨ ∃ a t1 k1 n1 k2 n2, x = some (.inr a, t1, k1, n1) ∧ f a t1 = some (r, t', k2, n2) ∧ k = k1 + k2 ∧ n = n1 + n2 := by
  unfold pB at h
  split at h
  · cases h
  · cases h; exact Or.inl ⟨_, rfl, rfl⟩
  · next a t1 k1 n1 =>
    split at h
    · cases h
    · next r2 t2 k2 n2 hf => cases h; exact Or.inr ⟨a, t1, k1, n1, k2, n2, rfl, hf, rfl, rfl⟩
theorem pCs {α : Type} {k0 n0 : Nat} {x : Rs α} {r : Er ⊕ α} {t' : TS} {k n : Nat} (h : pC k0 n0 x = some (r, t', k, n)) : ∃ k1 n1, x = some (r, t', k1, n1) ∧ k = k0 + k1 ∧ n = n0 + n1 := by
  unfold pC at h
  split at h
  · cases h
  · cases h; exact ⟨_, _, rfl, rfl, rfl⟩
theorem pB_ok {α : Type} (x : Rs α) : pB x pOk = x := by
  unfold pB pOk
  split
  · rfl
  · rfl
  · rfl
def tkw (g : gG) (r0 ta : Nat) (cT : Nat → Int32) (sz : Int32) (t : TS) : va_W := tkW g r0 ta cT sz t.1 t.2.1 t.2.2.1 t.2.2.2.1 t.2.2.2.2.1 t.2.2.2.2.2
noncomputable def tkNext (φ : Nat) (cT : Nat → Int32) (sz : Int32) (t : TS) : Option TS := (T_next φ cT sz t.1 t.2.1 t.2.2.1 t.2.2.2.1).bind fun q => some (q.1, q.2.1, q.2.2.1, q.2.2.2, t.2.2.2.2.1, t.2.2.2.2.2)
/-- a method's exception: the world has it behind the parser -/
def pxT {α : Type} (g : gG) (r0 ta : Nat) (cT : Nat → Int32) (sz : Int32) (r : Er ⊕ α) (t' : TS) : Nat → va_W → Prop := fun q w' => ∃ (e : Er) (v1 v2 : Value) (gar : va_W), r = .inl e ∧ w' = tkw g r0 ta cT sz t' ++ (q, .inr (5, [.ref q, v1, v2, .null, .null, .int 0, .int e.1, .int e.2])) :: gar
/-- a method of the parser: what it computes is x -/
def CP {α : Type} (l : Launch) (y : MethodName) (ws : List Cond) (F L : Nat) (g : gG) (z : Nat → Nat) (r0 ta : Nat) (cT : Nat → Int32) (sz : Int32) (av : List Value) (t : TS) (x : Rs α) (rep : va_W → Option Value → α → Prop) : Prop :=
  ∀ (r : Er ⊕ α) (t' : TS) (k n : Nat), x = some (r, t', k, n) → CY l y ws ({ frames := F, cells := k, slots := n, locals := L } : Room) g z (.ref r0 :: av) (tkw g r0 ta cT sz t) (fun rv w' => ∃ (a : α) (new : va_W), r = .inr a ∧ w' = tkw g r0 ta cT sz t' ++ new ∧ rep new rv a) (pxT g r0 ta cT sz r t') k n
section BASET
variable {p : Program} {l : Launch} {e : Env} {R : Room} {s : State} {m : MethodId} {args : Array Value} {below : List Frame} {meth : Method} {c : Code} {H : Heap} {locs : List Loc} {cells slots : Nat} {Q : State → Prop}
variable {A : Nat → Prop} {own : String} {cc : ByteArray} {nL : Nat} {ret : Option FieldType} {g : gG} {z : Nat → Nat} {ls : Array Slot} {st0 rest : List Value} {pc : Nat}
variable {y : MethodName} {cy : ByteArray} {nLy : Nat} {rety : Option FieldType} {rmy : Room} {b : Nat} {As : List Value} {w w' wf : va_W} {rv : Option Value} {C : String} {index n : Nat} {mc ms : Nat}
variable {r0 ta : Nat} {cT : Nat → Int32} {sz : Int32} {t t' t1 : TS} {MC MS k : Nat} {α β : Type} {po9 : Option Value → va_W → Prop} {r : Er ⊕ β} {F L nA n0 : Nat}
theorem yP {rep : va_W → Option Value → α → Prop} (X : Cy p s m meth c args own cc nL ret g z A) {x : Rs α} {f : α → TS → Rs β} (hf : pB x f = some (r, t', k, n0)) (hM : CP l y (ws_ y cy nLy rety) F L g z r0 ta cT sz As t x rep) (hG : GoodIn lw_all (wsV own index RX3 y (ws_ y cy nLy rety))) (hd : Dy y RX3 n) (hR : F + 1 ≤ R.frames ∧ 8 + (nLy + 11) + L ≤ R.locals) (hc : cells + k ≤ R.cells ∧ slots + n0 ≤ R.slots) (hm : cells + k ≤ MC ∧ slots + n0 ≤ MS) (hP : va_P g.1 vwCl (tkw g r0 ta cT sz t ++ wf) H) (hD : va_D A (tkw g r0 ta cT sz t ++ wf)) (hS : va_S A s.heap H locs) (hn : As.length = n) (hsz : ls.size = nL) (hst : st0 = As.reverse ++ .ref r0 :: rest) (hw : (rest.map fun v => v.category).sum ≤ 8) (hdg : decode cc pc = .ok (.invokevirtual index, 3))
    (kk : ∀ (a : α) (t1 : TS) (k1 n1 k2 n2 : Nat) (new : va_W) (rv : Option Value) (H1 : Heap) (locs1 : List Loc), f a t1 = some (r, t', k2, n2) → k = k1 + k2 → n0 = n1 + n2 → rep new rv a → va_P g.1 vwCl (tkw g r0 ta cT sz t1 ++ (new ++ wf)) H1 → va_D A (tkw g r0 ta cT sz t1 ++ (new ++ wf)) → va_S A s.heap H1 locs1 → W p l e R s m args below meth c H1 locs1 (cells + k1) (slots + n1) (vx_MQ below (QYr g po9 A) (XYr g (pxT g r0 ta cT sz r t') A) args s MC MS A) (F0 m (pc + 3) ls (rv.toList ++ rest))) : W p l e R s m args below meth c H locs cells slots (vx_MQ below (QYr g po9 A) (XYr g (pxT g r0 ta cT sz r t') A) args s MC MS A) (F0 m pc ls st0) := by
  have hRc : Rc (tkw g r0 ta cT sz t) r0 RX3 := ⟨0, 3, _, _, _, rfl, rfl⟩
  have hRc : Rc (tkw g r0 ta cT sz t ++ wf) r0 RX3 := ⟨0, 3, _, _, _, rfl, rfl⟩
  rcases pBs hf with ⟨e9, hx, rfl⟩ | ⟨a, t1, k1, n1, k2, n2, hx, hf2, rfl, rfl⟩
  · exact yV X (hM _ _ _ _ hx) hG hd ⟨⟨rfl, rfl⟩, hR.1, hR.2⟩ hc hP hD hS ⟨0, 3, _, _, _, rfl, rfl⟩ hn hsz hst hw hdg hm (fun q w1 h => by
      obtain ⟨e, v1, v2, gar, h1, rfl⟩ := h
      cases h1
      exact ⟨_, v1, v2, gar ++ wf, rfl, by rw [List.append_assoc]; rfl⟩) (fun rv w1 H1 locs1 h => by
      obtain ⟨a, new, h1, -⟩ := h
      cases h1)
  · exact yV X (hM _ _ _ _ hx) hG hd ⟨⟨rfl, rfl⟩, hR.1, hR.2⟩ ⟨by omega, by omega⟩ hP hD hS ⟨0, 3, _, _, _, rfl, rfl⟩ hn hsz hst hw hdg ⟨by omega, by omega⟩ (fun q w1 h => by
      obtain ⟨e, v1, v2, gar, h1, -⟩ := h
      cases h1) (fun rv w1 H1 locs1 h hP hD hS => by
      obtain ⟨a9, new, h1, rfl, h3⟩ := h
      cases h1
      exact kk _ t1 k1 n1 k2 n2 new rv H1 locs1 hf2 rfl rfl h3 (by rw [← List.append_assoc]; exact hP) (by rw [← List.append_assoc]; exact hD) hS)
end BASET
theorem dy_X3_next : Dy yX3_next RX3 0 := by decide +kernel
theorem gw_X3_X3_next : GoodIn lw_all (wsV RX3 74 RX3 yX3_next (ws_ yX3_next cX3_next 3 none)) := lw_V q429 q431 qs3 q149 q432
section NX
variable {p : Program} {l : Launch} {e : Env} {R : Room} {s : State} {m : MethodId} {args : Array Value} {below : List Frame} {meth : Method} {c : Code} {H : Heap} {locs : List Loc} {cells slots : Nat} {Q : State → Prop}
variable {A : Nat → Prop} {own : String} {cc : ByteArray} {nL : Nat} {ret : Option FieldType} {g : gG} {z : Nat → Nat} {ls : Array Slot} {st0 rest : List Value} {pc : Nat}
variable {y : MethodName} {cy : ByteArray} {nLy : Nat} {rety : Option FieldType} {rmy : Room} {b : Nat} {As : List Value} {w w' wf : va_W} {rv : Option Value} {C : String} {index n : Nat} {mc ms : Nat}
variable {r0 ta : Nat} {cT : Nat → Int32} {sz : Int32} {t t1 : TS} {φ : Nat}
theorem yNx (X : Cy p s m meth c args RX3 cc nL ret g z A) (hn : tkNext φ cT sz t = some t1) (hR : 8 ≤ R.frames ∧ 200 ≤ R.locals) (hf : cells ≤ R.cells ∧ slots ≤ R.slots) (hP : va_P g.1 vwCl (tkw g r0 ta cT sz t ++ wf) H) (hD : va_D A (tkw g r0 ta cT sz t ++ wf)) (hS : va_S A s.heap H locs) (hsz : ls.size = nL) (hw : (rest.map fun v => v.category).sum ≤ 8) (hdg : decode cc pc = .ok (.invokevirtual 74, 3))
    (kk : ∀ (H1 : Heap) (locs1 : List Loc), va_P g.1 vwCl (tkw g r0 ta cT sz t1 ++ wf) H1 → va_D A (tkw g r0 ta cT sz t1 ++ wf) → va_S A s.heap H1 locs1 → W p l e R s m args below meth c H1 locs1 cells slots Q (F0 m (pc + 3) ls rest)) : W p l e R s m args below meth c H locs cells slots Q (F0 m pc ls (.ref r0 :: rest)) := by
  unfold tkNext at hn
  obtain ⟨q, hq, h1⟩ := bs hn
  cases h1
  exact zV0 (As := []) X.1 X.2.1 (met_T_next (g := g) hq) gw_X3_X3_next dy_X3_next ⟨⟨rfl, rfl⟩, by have := hR.1; show 5 + 1 ≤ _; omega, by have := hR.2; show 8 + (3 + 11) + 134 ≤ _; omega⟩ hf hP hD hS (rcv (q0 := 0) (ci := 3) X.1 hP rfl rfl) rfl hsz rfl hw hdg kk
end NX
/-! new Wrong(fault, place) -/
def PreM (g : gG) (z : Nat → Nat) (w : va_W) (sz b : Nat) (U : State) : Prop := PreY g z w sz U ∧ ∀ cell : Cell, U.heap[b]? = some cell → cell.monitor.owner = none ∧ cell.monitor.count = 0
def wrE (b : Nat) (v1 v2 : Value) (f pl : Int32) : Nat × va_E := (b, .inr (5, [.ref b, v1, v2, .null, .null, .int 0, .int f, .int pl]))
theorem plain_X5 : plainName RX5 = true := by decide +kernel
theorem met_X5_init {l : Launch} (hl0 : l.stackTraces = false) {g : gG} {z : Nat → Nat} {b : Nat} {f pl : Int32} {px : Nat → va_W → Prop} : ∀ sz : Nat, vx_Met l yX5_init (ws_ yX5_init cX5_init 3 none) ({ frames := 5, cells := 0, slots := 0, locals := 100 } : Room) (va_Pc [.ref b, .int f, .int pl] (PreM g z [(b, .inr (5, wr0))] sz b)) (QYr g (fun rv w' => rv = none ∧ ∃ v1 v2 : Value, w' = [wrE b v1 v2 f pl]) (va_A [(b, .inr (5, wr0))] sz)) (XYr g px (va_A [(b, .inr (5, wr0))] sz)) 0 0 (va_A [(b, .inr (5, wr0))] sz) := by
  intro sz
  refine vx_ofW (cc := cX5_init) (maxL := 3) (ret := none) plain_X5 rfl ?_
  intro p e s m args below meth c s₁ B hml ht hv
  obtain ⟨rfl, ⟨⟨hsz, hP, hK, hD0⟩, hF⟩, hmon⟩ := hv
  have hts := atoms_spec (ws := ws_ yX5_init cX5_init 3 none) B.pre
  have hts : ∀ w ∈ lw_all, w.before _ s = true := fun w h => hts w (List.mem_cons_of_mem _ h)
  have hown : s.vm.findClass RX5 = some m.cls := findClass_of_methodNamed B.named
  subst hsz
  have hD := hD0.self (sz := s.heap.size)
  have hl := lv_entry [.ref b, .int f, .int pl] (n := 3) (Nat.le_of_ble_eq_true rfl)
  rw [lg_entry_eq]
  have hnm : meth.name = "<init>" := (name_of_methodNamed B.named B.method).1
  have X : Cy p s m meth c _ RX5 cX5_init 3 none g z (va_A [(b, .inr (5, wr0))] s.heap.size) := ⟨⟨B.exec, B.bytes, B.returns, B.notSynchronized, hml, hown, hts, fun q h => Or.inr h, hK⟩, hF, ht⟩
  have hS : va_S (va_A [(b, .inr (5, wr0))] s.heap.size) s.heap s.heap [] := va_S.rf
  generalize (lg_sl [.ref b, .int f, .int pl] ++ List.replicate (3 - (lg_sl [.ref b, .int f, .int pl]).length) Slot.unset).toArray = ls at hl ⊢
  have hx := X.1.1
  have hb := X.1.2.1
  have hl : lv_has ls 3 [(0, .ref b), (1, .int f), (2, .int pl)] := hl
  generalize va_A [(b, .inr (5, wr0))] s.heap.size = A at X hD hS ⊢
  show W p l e ({ frames := 5, cells := 0, slots := 0, locals := 100 } : Room) s m _ below meth c s.heap [] 0 0 _ (F0 m 0 _ [])
  refine lv_aload_n hx hb dX5_init_0 rfl (lv_at hl 0 rfl) ?_
  refine rExc (rest := []) X hl0 hl.1 hP hD hS 0 rfl hmon ⟨Nat.le_of_ble_eq_true rfl, Nat.le_of_ble_eq_true rfl⟩ ⟨Nat.zero_le _, Nat.zero_le _⟩ dX5_init_1 (fun v1 v2 H hP hD locs hlocs hS => ?_)
  refine lv_aload_n hx hb dX5_init_4 rfl (lv_at hl 0 rfl) ?_
  refine lv_iload_n hx hb dX5_init_5 rfl (lv_at hl 1 rfl) ?_
  refine pFF (w' := [(b, .inr (5, [.ref b, v1, v2, .null, .null, .int 0, .int f, .int 0]))]) X.1 hnm in_X5 tyX5 tyX5_ok nmX5 hP hD hS 0 rfl rfl 6 (by decide) q546 rfl rfl rfl rfl (Nat.le_of_ble_eq_true rfl) rfl dX5_init_6 (fun H locs hP hD hS => ?_)
  refine lv_aload_n hx hb dX5_init_9 rfl (lv_at hl 0 rfl) ?_
  refine lv_iload_n hx hb dX5_init_10 rfl (lv_at hl 2 rfl) ?_
  refine pFF (w' := [(b, .inr (5, [.ref b, v1, v2, .null, .null, .int 0, .int f, .int pl]))]) X.1 hnm in_X5 tyX5 tyX5_ok nmX5 hP hD hS 0 rfl rfl 7 (by decide) q548 rfl rfl rfl rfl (Nat.le_of_ble_eq_true rfl) rfl dX5_init_11 (fun H locs hP hD hS => ?_)
  exact yRv X ⟨rfl, v1, v2, rfl⟩ hP hD hS ⟨Nat.le_refl _, Nat.le_refl _⟩ dX5_init_14
section RNM
variable {p : Program} {l : Launch} {e : Env} {R : Room} {s : State} {m : MethodId} {args : Array Value} {below : List Frame} {meth : Method} {c : Code} {H : Heap} {locs : List Loc} {cells slots : Nat} {Q : State → Prop}
variable {A : Nat → Prop} {own : String} {cc : ByteArray} {nL : Nat} {ret : Option FieldType} {g : gG} {z : Nat → Nat} {ls : Array Slot} {st0 rest : List Value} {pc : Nat}
variable {y : MethodName} {cy : ByteArray} {nLy : Nat} {rety : Option FieldType} {rmy : Room} {b : Nat} {As : List Value} {w w' wf : va_W} {rv : Option Value} {C : String} {index n : Nat} {mc ms : Nat}
theorem rNewM {T : u_T} {N ci : Nat} (X : Cx p s m meth c args own cc nL ret g A) (hin : ∀ w ∈ u_ws C T N, w ∈ lw_all) (ty : Nat → FieldType) (hty : ∀ k, k < N → parseFieldDescriptor (T k).2.2.1 = some (ty k)) (hcl : Cond.classLink own index C ∈ lw_all) (hinst : Cond.instantiable C N ∈ lw_all) (hini : Cond.initialized C ∈ lw_all) (hP : va_P g.1 vwCl w H) (hD : va_D A w) (hS : va_S A s.heap H locs) (hc : vwCl[ci]? = some (C, T, N)) (fs : List Value) (hfs : ∀ j, j < N → defaultValue (ty j) = vp_V fs j) (hcells : cells + 1 ≤ R.cells) (hslots : slots + N ≤ R.slots) (hdg : decode cc pc = .ok (.new index, 3))
    (kk : ∀ (q : Nat) (H1 : Heap), (∀ cell : Cell, H1[q]? = some cell → cell.monitor.owner = none ∧ cell.monitor.count = 0) → va_P g.1 vwCl (w ++ [(q, .inr (ci, fs))]) H1 → va_D A (w ++ [(q, .inr (ci, fs))]) → va_S A s.heap H1 locs → W p l e R s m args below meth c H1 locs (cells + 1) (slots + N) Q (F0 m (pc + 3) ls (.ref q :: rest))) : W p l e R s m args below meth c H locs cells slots Q (F0 m pc ls rest) := by
  have hts := X.2.2.2.2.2.2.1
  have hK := X.2.2.2.2.2.2.2.2
  have hKn := hK.1 ci _ hc
  refine W.newcK X.1 X.2.1 X.2.2.2.2.2.1 (hts _ hcl) (hts _ hinst) (hts _ hini) rfl hdg hcells hslots hKn.2.1 rfl fun H1 kC hkC e1 z1 o1 => ?_
  have hk : ∀ (k : Nat) (x : Nat × va_E), w[k]? = some x → H1[x.1]? = H[x.1]? := fun k x hx => o1 x.1 ((hP k x hx).lt)
  refine kk H.size H1 (fun cell hc9 => by cases Option.some.inj (hc9.symm.trans e1); exact ⟨rfl, rfl⟩) ((hP.kept hk).app (fun k x hx => ?_)) (hD.push hP rfl (X.2.2.2.2.2.2.2.1 _ hS.1)) ⟨Nat.le_trans hS.1 (by omega), fun x h1 h2 => (o1 x (Nat.lt_of_lt_of_le h1 hS.1)).trans (hS.2.1 x h1 h2), hS.2.2⟩
  have hz : k < 1 := (List.getElem?_eq_some_iff.mp hx).1
  rw [show k = 0 by omega] at hx
  cases hx
  exact ⟨_, hc, (u_born ty hts hin hKn hkC e1 hty).to hfs⟩
end RNM
theorem met_wrong {l : Launch} (hl0 : l.stackTraces = false) {g : gG} {z : Nat → Nat} {r0 ta : Nat} {cT : Nat → Int32} {sz : Int32} {t : TS} {f : Int32} {px : Nat → va_W → Prop} : CY l yX3_wrong (ws_ yX3_wrong cX3_wrong 2 (some (.object "WolfsHead$Wrong"))) ({ frames := 6, cells := 1, slots := 8, locals := 200 } : Room) g z [.ref r0, .int f] (tkw g r0 ta cT sz t) (fun rv w' => ∃ (q : Nat) (v1 v2 : Value), rv = some (.ref q) ∧ w' = (tkw g r0 ta cT sz t ++ [wrE q v1 v2 f t.2.1])) px 1 8 := by
  refine CY.of RX3 rfl plain_X3 (Nat.le_of_ble_eq_true rfl) (fun p e s m below meth cd A ls X hP hD hS hl => ?_)
  have hx := X.1.1
  have hb := X.1.2.1
  have hown := X.1.2.2.2.2.2.1
  have hts := X.1.2.2.2.2.2.2.1
  have hl : lv_has ls 2 [(0, .ref r0), (1, .int f)] := hl
  refine rNewM X.1 in_X5 tyX5 tyX5_ok q502 q503 q161 hP hD hS (ci := 5) rfl wr0 (by decide) (Nat.le_refl _) (Nat.le_refl _) dX3_wrong_0 (fun q H hmon hP hD hS => ?_)
  refine lv_dup hx hb dX3_wrong_3 rfl ?_
  refine lv_iload_n hx hb dX3_wrong_4 rfl (lv_at hl 1 rfl) ?_
  refine lv_aload_n hx hb dX3_wrong_5 rfl (lv_at hl 0 rfl) ?_
  refine gT_token X.1 hP dX3_wrong_6 ?_
  obtain ⟨hP, hD⟩ := w_perm (b := (q, .inr (5, wr0)) :: tkw g r0 ta cT sz t) hP hD (List.perm_append_singleton _ _)
  refine yrun_on (px := fun _ _ => False) (w := [(q, .inr (5, wr0))]) (wf := tkw g r0 ta cT sz t) X.1 (vx_runI (b := q) (As := [.int f, .int t.2.1]) ⟨hx, hb, X.1.2.2.2.2.1, hown, hts⟩ (met_X5_init hl0 H.size) (cwI 2 hts (lw_meth q541) rfl rfl rfl (hts _ q161) (hts _ q539) (hts _ q540) rfl (by decide +kernel) ⟨Nat.le_of_ble_eq_true rfl, Nat.le_of_ble_eq_true rfl⟩) ⟨fun a U fr mk h => by obtain ⟨h0, h1, h2⟩ := h; exact ⟨h0, ((PreY.blind a U fr mk ⟨rfl, h1⟩).2), h2⟩, fun U hU hW => ⟨rfl, (CY.hp (av := []) X.1 X.2.1 (P_left (w := [(q, .inr (5, wr0))]) hP) (D_left (w := [(q, .inr (5, wr0))]) hD) hS U hU hW).2, by rw [hU]; exact hmon⟩⟩ rfl rfl hl.1 rfl (lv_room (Nat.le_of_ble_eq_true rfl)) dX3_wrong_9 ⟨Nat.le_refl _, Nat.le_refl _⟩) hP hD hS (fun q9 ce w1 H1 locs1 h => h.elim) (fun rv w1 H locs hpo hP hD hS => ?_)
  obtain ⟨rfl, v1, v2, rfl⟩ := hpo
  obtain ⟨hP, hD⟩ := w_perm (b := (tkw g r0 ta cT sz t ++ [wrE q v1 v2 f t.2.1])) hP hD (List.perm_append_singleton _ _).symm
  exact yRr X ⟨q, v1, v2, rfl, rfl⟩ hP hD hS ⟨Nat.le_refl _, Nat.le_refl _⟩ dX3_wrong_12
section ERR
variable {p : Program} {l : Launch} {e : Env} {R : Room} {s : State} {m : MethodId} {args : Array Value} {below : List Frame} {meth : Method} {c : Code} {H : Heap} {locs : List Loc} {cells slots : Nat} {Q : State → Prop}
variable {A : Nat → Prop} {own : String} {cc : ByteArray} {nL : Nat} {ret : Option FieldType} {g : gG} {z : Nat → Nat} {ls : Array Slot} {st0 rest : List Value} {pc : Nat}
variable {y : MethodName} {cy : ByteArray} {nLy : Nat} {rety : Option FieldType} {rmy : Room} {b : Nat} {As : List Value} {w w' wf : va_W} {rv : Option Value} {C : String} {index n : Nat} {mc ms : Nat}
variable {r0 ta : Nat} {cT : Nat → Int32} {sz : Int32} {t t' : TS} {MC MS k n0 : Nat} {β : Type} {po9 : Option Value → va_W → Prop} {r : Er ⊕ β}
theorem dy_X3_wrong : Dy yX3_wrong RX3 1 := by decide +kernel
theorem gw_X3_X3_wrong : GoodIn lw_all (wsV RX3 70 RX3 yX3_wrong (ws_ yX3_wrong cX3_wrong 2 (some (.object "WolfsHead$Wrong")))) := lw_V q498 q500 qs5 q149 q501
theorem yErr (hl0 : l.stackTraces = false) (X : Cy p s m meth c args RX3 cc nL ret g z A) {f : Int32} (hf : pErr f t = some (r, t', k, n0)) (hR : 8 ≤ R.frames ∧ 240 ≤ R.locals) (hc : cells + k ≤ R.cells ∧ slots + n0 ≤ R.slots) (hm : cells + k ≤ MC ∧ slots + n0 ≤ MS) (hP : va_P g.1 vwCl (tkw g r0 ta cT sz t ++ wf) H) (hD : va_D A (tkw g r0 ta cT sz t ++ wf)) (hS : va_S A s.heap H locs) (hsz : ls.size = nL) (hdg : decode cc pc = .ok (.invokevirtual 70, 3)) (hdt : decode cc (pc + 3) = .ok (.athrow, 1)) : W p l e R s m args below meth c H locs cells slots (vx_MQ below (QYr g po9 A) (XYr g (pxT g r0 ta cT sz r t') A) args s MC MS A) (F0 m pc ls [.int f, .ref r0]) := by
  unfold pErr at hf
  cases hf
  refine yV (rest := []) (As := [.int f]) X (met_wrong (px := fun _ _ => False) hl0) gw_X3_X3_wrong dy_X3_wrong ⟨⟨rfl, rfl⟩, by have := hR.1; show 6 + 1 ≤ _; omega, by have := hR.2; show 8 + (2 + 11) + 200 ≤ _; omega⟩ hc hP hD hS ⟨0, 3, _, _, _, rfl, rfl⟩ rfl hsz rfl (by decide) hdg hm (fun _ _ h => h.elim) (fun rv w1 H1 locs1 h hP hD hS => ?_)
  obtain ⟨q, v1, v2, rfl, rfl⟩ := h
  refine yThrow (k0 := 2) X (q := q) rfl ⟨(f, t.2.1), v1, v2, wf, rfl, ?_⟩ hP hD hS hm hdt
  rw [List.append_assoc]
  rfl
end ERR
