/-! the exception: what its constructor's super() does; new Wrong(..) -/
section WRONG
variable {p : Program} {l : Launch} {e : Env} {R : Room} {s : State} {m : MethodId} {args : Array Value} {below : List Frame} {meth : Method} {c : Code} {H : Heap} {locs : List Loc} {cells slots : Nat} {Q : State → Prop}
variable {A : Nat → Prop} {own : String} {cc : ByteArray} {nL : Nat} {ret : Option FieldType} {g : gG} {z : Nat → Nat} {ls : Array Slot} {st0 rest : List Value} {pc : Nat} {w : va_W}
abbrev wr0 : List Value := [.null, .null, .null, .null, .null, .int 0, .int 0, .int 0]
theorem takes_of {cell : Cell} {cX : Nat} {k : Class} {f : Field} {v : Value} (h1 : cell.cls = cX) (h2 : cell.vm = .none) (hsz : f.slot < cell.slots.size) (hk : s.vm.classes[cX]? = some k) (hord : k.kind = .ordinary) (hty : k.instanceTypes[f.slot]? = some f.type) (hv : fits f.type v = true) : Takes s cell f v :=
  ⟨hsz, by simp [State.fitsSlot, State.slotType?, h1, h2, hk, hord, hty, hv]⟩
set_option maxHeartbeats 1000000 in
theorem rExc (X : Cy p s m meth c args "WolfsHead$Wrong" cc nL ret g z A) (hl0 : l.stackTraces = false) (hls : ls.size = nL) (hP : va_P g.1 vwCl w H) (hD : va_D A w) (hS : va_S A s.heap H locs) (k0 : Nat) {b : Nat} (he : w[k0]? = some (b, .inr (5, wr0))) (hmon : ∀ cell : Cell, H[b]? = some cell → cell.monitor.owner = none ∧ cell.monitor.count = 0)
    (hR : 4 ≤ R.frames ∧ (rest.map fun v => v.category).sum + 60 ≤ R.locals) (hf : cells ≤ R.cells ∧ slots ≤ R.slots) (hdg : decode cc pc = .ok (.invokespecial 1, 3))
    (kk : ∀ (v1 v2 : Value) (H1 : Heap), va_P g.1 vwCl (w.set k0 (b, .inr (5, [.ref b, v1, v2, .null, .null, .int 0, .int 0, .int 0]))) H1 → va_D A (w.set k0 (b, .inr (5, [.ref b, v1, v2, .null, .null, .int 0, .int 0, .int 0]))) → (∀ locs1 : List Loc, locs1 = locs ++ [⟨b, g.1.2 5 0⟩, ⟨b, g.1.2 5 1⟩, ⟨b, g.1.2 5 2⟩, ⟨b, g.1.2 5 1⟩] → va_S A s.heap H1 locs1 → W p l e R s m args below meth c H1 locs1 cells slots Q (F0 m (pc + 3) ls rest))) : W p l e R s m args below meth c H locs cells slots Q (F0 m pc ls (.ref b :: rest)) := by
  intro U hT X0
  subst hT
  have hexec := X.1.1
  have hts := X.1.2.2.2.2.2.2.1
  have hK := X.1.2.2.2.2.2.2.2.2
  have htr : e.platform.stackTraces = false := (show e.platform.stackTraces = l.stackTraces by rw [X0.admits.platform]).trans hl0
  have howns : e.platform.frameOwnsMonitors = true := by rw [X0.admits.platform]
  have hfin : e.platform.finalization = false := by rw [X0.admits.platform]
  have hpl : e.platform.magicAccessors = ({} : Platform).magicAccessors := by rw [X0.admits.platform]
  have hUs := X.2.1.2.2.2.2.1.2.2.1
  have hNs := X.2.1.2.2.2.2.1.2.2.2
  -- the words, at s
  have h0 : ∀ c ∈ Bundle.throwableAtoms, c.before args s = true := by
    unfold Bundle.throwableAtoms
    exact vx_c (hts _ q159) (vx_c (hts _ q522) (vx_c (hts _ q531) (vx_c (hts _ q533) (vx_c (hts _ q536) (vx_c (hts _ q538) (vx_c (hts _ q523) (vx_c (hts _ q524) (vx_c (hts _ q186) (vx_c (hts _ q187) (vx_c (hts _ q525) (vx_c (hts _ q530) (vx_c (hts _ q534) (vx_c (hts _ q551) (vx_c (hts _ q512) (vx_c (hts _ q552) (vx_c (hts _ q514) (vx_c (hts _ q553) (vx_c (hts _ q516) (vx_c (hts _ q526) (vx_c hUs.2.word (vx_c (hts _ q528) (vx_c hNs.2.word (vx_c (hts _ q518) vx_n)))))))))))))))))))))))
  obtain ⟨T, Z, L, LZ, Y⟩ := ThrowableC.of_atoms (args := args) howns hfin hpl h0
  obtain ⟨P1, Ps, hlen, L1, hL, hP1m, hlink1, hlink⟩ := Bundle.chain0 (args := args) hpl Y.init0 [] "java/lang/Exception" (by decide +kernel) (fun n hn => by cases hn) (by
    unfold Bundle.chain0Atoms Bundle.passAtoms
    exact vx_c (hts _ q543) (vx_c (hts _ q544) (vx_c (hts _ q545) (vx_c (hts _ q523) (vx_c (va_Nw.use rfl X.2.1.2.2.2.2.2.2) vx_n)))))
  -- the object
  obtain ⟨r0, hr0, cell, hcell, hcls, hcvm, hsl⟩ := hP k0 _ he
  have hr : r0 = (RX5, TX5, 8) := (Option.some.inj hr0).symm
  subst hr
  obtain ⟨hmo, hmc⟩ := hmon cell hcell
  obtain ⟨hSl, hCA⟩ := hK.1 5 _ rfl
  obtain ⟨hfC, kX, hkX, hord⟩ := hCA
  have hfC' : s.vm.findClass "WolfsHead$Wrong" = some cell.cls := by rw [hcls]; exact hfC
  have hkX' : s.vm.classes[cell.cls]? = some kX := by rw [hcls]; exact hkX
  have hsel0 : selectMethod e.platform s.vm cell.cls T.fill0 = .method T.fill0 := by
    obtain ⟨c2, r2, m2, q1, q2, q3, q4, -⟩ := Cond.selects_spec (hts _ q509)
    cases Option.some.inj (q1.symm.trans hfC')
    cases Option.some.inj (q2.symm.trans (State.methodFound?_of_named Y.fill0 (by decide)))
    cases Option.some.inj (q3.symm.trans Y.fill0)
    rw [Launch.admits_selectMethod X0.admits]; exact q4
  have hselF : selectMethod e.platform s.vm cell.cls T.fill = .method T.fill := by
    obtain ⟨c2, r2, m2, q1, q2, q3, q4, -⟩ := Cond.selects_spec (hts _ q510)
    cases Option.some.inj (q1.symm.trans hfC')
    cases Option.some.inj (q2.symm.trans (State.methodFound?_of_named Y.fill (by decide)))
    cases Option.some.inj (q3.symm.trans Y.fill)
    rw [Launch.admits_selectMethod X0.admits]; exact q4
  -- Throwable's statics
  obtain ⟨cellS0, hcS0, hiss⟩ := Y.statics
  obtain ⟨u0, hu0⟩ := Cond.staticRefV Y.unassigned L.unassignedStatic L.statics hcS0 hiss (vx_isRefq (args := args) hUs.1)
  obtain ⟨sen, hsen⟩ := Cond.staticRefV Y.sentinel L.sentinelStatic L.statics hcS0 hiss (vx_isRefq (args := args) hNs.1)
  have hnA : ¬ A T.aS := by
    rcases hUs.1 with h | ⟨t9, h⟩ <;> (obtain ⟨cf, kf, fi, ff, a9, c9, g1, g2, g3, g4, g5, g6, g7, g8⟩ := h; have e9 := g1.symm.trans Y.unassigned; cases e9; cases g4.symm.trans L.statics; exact g8)
  have hltS : T.aS < s.heap.size := (Array.getElem?_eq_some_iff.mp hcS0).1
  have hcellS : U.heap[T.aS]? = some cellS0 := (hS.2.1 _ hltS hnA).trans hcS0
  have hneS : T.aS ≠ b := fun h => hnA (by rw [h]; exact hD.2 k0 _ he)
  have hknownS : cellS0.vm ≠ .unknown := by
    intro hu
    rw [hu] at hiss
    cases hiss
  obtain ⟨ci198, i198, fB, hk198, hg198, ha198, hsB, -, hnB, htB, hffB⟩ := Cond.ownField (t := .object "java/lang/Object") Y.found L.cls (by decide +kernel) (hts _ q521) (hts _ q520) e.platform hpl
  -- the fields' places
  have hslot : ∀ k, k < 8 → ∃ cf kf fi fd, s.fieldFound? (TX5 k).1 (TX5 k).2.1 (TX5 k).2.2.1 = some (cf, kf, fi, fd) ∧ fd.slot = g.1.2 5 k := hSl
  have e0 : T.fCause.slot = g.1.2 5 0 := by obtain ⟨cf, kf, fi, fd, h1, h2⟩ := hslot 0 (by decide); have e9 := h1.symm.trans Y.cause; cases e9; exact h2
  have e1 : T.fStack.slot = g.1.2 5 1 := by obtain ⟨cf, kf, fi, fd, h1, h2⟩ := hslot 1 (by decide); have e9 := h1.symm.trans Y.stack; cases e9; exact h2
  have e2 : T.fSupp.slot = g.1.2 5 2 := by obtain ⟨cf, kf, fi, fd, h1, h2⟩ := hslot 2 (by decide); have e9 := h1.symm.trans Y.supp; cases e9; exact h2
  have e4 : fB.slot = g.1.2 5 4 := by obtain ⟨cf, kf, fi, fd, h1, h2⟩ := hslot 4 (by decide); have e9 := h1.symm.trans hffB; cases e9; exact h2
  have hap : ∀ x y, x < 8 → y < 8 → x ≠ y → g.1.2 5 x ≠ g.1.2 5 y := va_apart (own := "WolfsHead$Wrong") hts in_X5 tyX5 tyX5_ok nmX5 hK rfl
  have hsz : ∀ k, k < 8 → g.1.2 5 k < cell.slots.size := fun k hk => (Array.getElem?_eq_some_iff.mp (hsl k hk)).1
  obtain ⟨tyC, -⟩ := Cond.laysAt hfC' hkX' Y.cause (hts _ q511)
  obtain ⟨tyS, -⟩ := Cond.laysAt hfC' hkX' Y.stack (hts _ q513)
  obtain ⟨tyP, -⟩ := Cond.laysAt hfC' hkX' Y.supp (hts _ q515)
  have hget : ∀ k, k < 8 → ((preparedCellV T.toThrowableT cell b u0 sen).setSlot T.fStack.slot u0.v).slots[g.1.2 5 k]? = some (vp_V [.ref b, u0.v, sen.v, .null, .null, .int 0, .int 0, .int 0] k) := by
    intro k hk
    have h9 := hsl k hk
    have hz0 := hsz 0 (by decide)
    have hz1 := hsz 1 (by decide)
    have hz2 := hsz 2 (by decide)
    rcases (show k = 0 ∨ k = 1 ∨ k = 2 ∨ 3 ≤ k by omega) with rfl | rfl | rfl | h3
    · have d1 := hap 1 0 (by decide) (by decide) (by decide)
      have d2 := hap 2 0 (by decide) (by decide) (by decide)
      simp [preparedCellV, Cell.setSlot, e0, e1, e2, Array.getElem?_setIfInBounds, d1, d2, hz0, vp_V]
    · simp [preparedCellV, Cell.setSlot, e0, e1, e2, Array.getElem?_setIfInBounds, hz1, vp_V]
    · have d1 := hap 1 2 (by decide) (by decide) (by decide)
      simp [preparedCellV, Cell.setSlot, e0, e1, e2, Array.getElem?_setIfInBounds, d1, hz2, vp_V]
    · have d0 := hap 0 k (by decide) hk (by omega)
      have d1 := hap 1 k (by decide) hk (by omega)
      have d2 := hap 2 k (by decide) hk (by omega)
      simp only [preparedCellV, Cell.setSlot, e0, e1, e2, Array.getElem?_setIfInBounds, d0, d1, d2, if_false, h9]
      rcases (show k = 3 ∨ k = 4 ∨ k = 5 ∨ k = 6 ∨ k = 7 by omega) with rfl | rfl | rfl | rfl | rfl <;> rfl
  have hskip : SkipFacts T e.platform s (fun u => u) u0 ((preparedCellV T.toThrowableT cell b u0 sen).withEntry U.cur) :=
    ⟨{ ci198 := ci198, i198 := i198, fBack := fB }, ⟨hk198, hg198, ha198, hsB⟩, by
      have h9 := hsl 4 (by decide)
      have d0 := hap 0 4 (by decide) (by decide) (by decide)
      have d1 := hap 1 4 (by decide) (by decide) (by decide)
      have d2 := hap 2 4 (by decide) (by decide) (by decide)
      simp only [Cell.withEntry, preparedCellV, Cell.setSlot, e0, e1, e2, e4, Array.getElem?_setIfInBounds, d0, d1, d2, if_false, h9]
      rfl, fun _ _ => rfl⟩
  obtain ⟨tm, methC, cdC, kC, vm₁, hnC, -, -, -, -, -, -, -, hW₁, st1⟩ := Steps.initCold (tb := p.tables) (e := e) (below := below) (s := s) (U := U) X0.here hexec X0.warmed hpl X.1.2.2.2.2.2.1 (t := Bundle.init0 "java/lang/Exception") rfl rfl (by decide)
    (hts _ q542) (hts _ q543) (bytes := Bundle.five) (maxL := 1) (hts _ q544)
    (f := F0 m pc ls (.ref b :: rest)) rfl (a := b) (rest := rest) rfl (by rw [X.1.2.1]; exact hdg)
  cases Option.some.inj (hnC.symm.trans hP1m)
  have X₁ := X0.noted hW₁
  obtain ⟨vm₂, X₂, st2⟩ := X₁.ctorPlainOffV hexec (g := F0 m pc ls rest) rfl (hls.trans X.1.2.2.2.2.1.symm) T L Z LZ (P1 :: Ps)
    (fun P hP => by rcases List.mem_cons.mp hP with rfl | hP; exact L1; exact hL P hP) ⟨hlink1, hlink⟩ (u0 := u0) (sen := sen) (self := b) (cell := cell) (cellS := cellS0)
    hcell (fun k h => by rw [hcvm] at h; cases h) (by rw [hcvm]; intro h; cases h) hmo hmc hsel0 hselF hcellS hneS hknownS hu0 hsen
    (takes_of rfl hcvm (by rw [e0]; exact hsz 0 (by decide)) hkX' hord tyC (by rw [Y.causeType]; rfl)) (takes_of rfl hcvm (by rw [e1]; exact hsz 1 (by decide)) hkX' hord tyS (by rw [Y.stackType]; exact fits_refV_array _ u0)) (takes_of rfl hcvm (by rw [e2]; exact hsz 2 (by decide)) hkX' hord tyP (by rw [Y.suppType]; exact fits_refV_object _ sen)) Y.objLocals hskip htr [] (by rw [X.1.2.1]; exact hdg)
    (by simp only [List.length_cons, hlen, List.length_nil]; omega) (by simp only [List.length_cons, hlen, List.length_nil]; show 2 * 0 + _ + _ ≤ _; have := hR.2; omega)
  rw [e0, e1, e2] at X₂
  have hltb : b < U.heap.size := (Array.getElem?_eq_some_iff.mp hcell).1
  generalize hce : (preparedCellV T.toThrowableT cell b u0 sen).setSlot T.fStack.slot u0.v = ce at X₂ st2 hget
  have hce' : (preparedCellV T.toThrowableT cell b u0 sen).setSlot (g.1.2 5 1) u0.v = ce := by rw [← e1]; exact hce
  rw [hce'] at X₂
  have hcc : ce.cls = cell.cls ∧ ce.vm = cell.vm := by rw [← hce]; exact ⟨rfl, rfl⟩
  have hH : ∀ q : Nat, q ≠ b → (((U.setVm vm₁).setVm vm₂).setCell b ce).heap[q]? = U.heap[q]? := fun q hq => State.heap_setCell_other (Ne.symm hq)
  have hHb : (((U.setVm vm₁).setVm vm₂).setCell b ce).heap[b]? = some ce := heapAt_setCell_self (s := (U.setVm vm₁).setVm vm₂) ce hltb
  have hlen0 : k0 < w.length := (List.getElem?_eq_some_iff.mp he).1
  have hPn : va_P g.1 vwCl (w.set k0 (b, .inr (5, [.ref b, u0.v, sen.v, .null, .null, .int 0, .int 0, .int 0]))) (((U.setVm vm₁).setVm vm₂).setCell b ce).heap := by
    intro k q hk
    by_cases hkk : k = k0
    · subst hkk
      rw [List.getElem?_set_self hlen0] at hk
      cases hk
      exact ⟨_, rfl, ce, hHb, by rw [hcc.1]; exact hcls, by rw [hcc.2]; exact hcvm, hget⟩
    · rw [List.getElem?_set_ne (Ne.symm hkk)] at hk
      exact (hP k q hk).kept (hH q.1 (fun h => hkk (hD.1 k k0 q _ hk he h)))
  have hDn : va_D A (w.set k0 (b, .inr (5, [.ref b, u0.v, sen.v, .null, .null, .int 0, .int 0, .int 0]))) := by
    have key : ∀ (k : Nat) (q : Nat × va_E), (w.set k0 (b, .inr (5, [.ref b, u0.v, sen.v, .null, .null, .int 0, .int 0, .int 0])))[k]? = some q → ∃ q' : Nat × va_E, w[k]? = some q' ∧ q'.1 = q.1 := by
      intro k q hk
      by_cases hkk : k = k0
      · subst hkk
        rw [List.getElem?_set_self hlen0] at hk
        cases hk
        exact ⟨_, he, rfl⟩
      · rw [List.getElem?_set_ne (Ne.symm hkk)] at hk
        exact ⟨q, hk, rfl⟩
    refine ⟨fun i j x y hx hy hxy => ?_, fun k q hk => ?_⟩
    · obtain ⟨x', hx', ex⟩ := key i x hx
      obtain ⟨y', hy', ey⟩ := key j y hy
      exact hD.1 i j x' y' hx' hy' (by rw [ex, ey]; exact hxy)
    · obtain ⟨q', hq', eq⟩ := key k q hk
      rw [← eq]
      exact hD.2 k q' hq'
  have hAb : A b := hD.2 k0 _ he
  have hSn : va_S A s.heap (((U.setVm vm₁).setVm vm₂).setCell b ce).heap (locs ++ [⟨b, g.1.2 5 0⟩, ⟨b, g.1.2 5 1⟩, ⟨b, g.1.2 5 2⟩, ⟨b, g.1.2 5 1⟩]) := by
    refine ⟨by show s.heap.size ≤ (U.heap.setIfInBounds b ce).size; rw [Array.size_setIfInBounds]; exact hS.1, fun q h1 h2 => ?_, fun x hx => ?_⟩
    · exact (hH q (fun h => h2 (by rw [h]; exact hAb))).trans (hS.2.1 q h1 h2)
    · rcases List.mem_append.mp hx with h | h
      · exact hS.2.2 x h
      · simp only [List.mem_cons, List.not_mem_nil, or_false] at h
        rcases h with rfl | rfl | rfl | rfl <;> exact hAb
  obtain ⟨t, a1, b1⟩ := kk u0.v sen.v _ hPn hDn _ rfl hSn _ rfl X₂
  refine ⟨t, st1 _ (fun acts => ?_), b1⟩
  rw [doInvoke_state]
  exact st2 _ a1
end WRONG
