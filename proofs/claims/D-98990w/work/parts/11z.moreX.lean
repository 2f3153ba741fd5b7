/-! more words of the pure form: references, bytes, the texts' row -/
noncomputable def rdq (f : Nat → Option Nat) (n : Nat) (i : Int32) : Option Nat := if i < 0 ∨ n ≤ i.toNatClampNeg then none else f i.toNatClampNeg
theorem rdqs {β : Type} {a : Nat → Option Nat} {n : Nat} {i : Int32} {K : Nat → Option β} {r : β} (h : (rdq a n i).bind K = some r) : ∃ v, a i.toNatClampNeg = some v ∧ vp_in i n ∧ K v = some r := by
  obtain ⟨v, h1, h2⟩ := bs h
  unfold rdq at h1
  split at h1
  · cases h1
  · next q => exact ⟨v, h1, q, h2⟩
noncomputable def wrB (a : Nat → Int32) (n : Nat) (i : Int32) (v : Int32) : Option (Nat → Int32) := if i < 0 ∨ n ≤ i.toNatClampNeg then none else some (upd a i.toNatClampNeg (vp_nar .byte v))
theorem wrBs {β : Type} {a : Nat → Int32} {n : Nat} {i v : Int32} {K : (Nat → Int32) → Option β} {r : β} (h : (wrB a n i v).bind K = some r) : ∃ z, z = upd a i.toNatClampNeg (vp_nar .byte v) ∧ vp_in i n ∧ K z = some r := by
  unfold wrB at h
  split at h
  · cases h
  · next q => exact ⟨_, rfl, q, h⟩
/-- every reference of a row of texts is to a Text that was made -/
def TxRef (tp : va_W) (f : Nat → Option Nat) : Prop := ∀ (i y : Nat), f i = some y → ∃ (k : Nat) (fs : List Value), tp[k]? = some (y, .inr (4, fs))
theorem cell_eqQ {c : ClassId} {n : Nat} {f f2 : Nat → Option Nat} (h : ∀ j, j < n → f j = f2 j) : vp_cell c (n, .inr (.inr (.inr (.inr f)))) = vp_cell c (n, .inr (.inr (.inr (.inr f2)))) := by
  have hl : ∀ q : Nat, (arrV c n (fun j => va_rf (f j))).slots[q]? = (arrV c n (fun j => va_rf (f2 j))).slots[q]? := by
    intro q
    by_cases hq : q < n
    · rw [arrV_read _ _ hq, arrV_read _ _ hq, h q hq]
    · rw [Array.getElem?_eq_none (by rw [arrV_size]; omega), Array.getElem?_eq_none (by rw [arrV_size]; omega)]
  show arrV c n (fun j => va_rf (f j)) = arrV c n (fun j => va_rf (f2 j))
  have h2 : (arrV c n (fun j => va_rf (f j))).slots = (arrV c n (fun j => va_rf (f2 j))).slots := Array.ext_getElem? hl
  unfold arrV at h2 ⊢
  simp only at h2
  rw [h2]
theorem P_cell {g : gG} {H : Heap} {w : va_W} {j b : Nat} {e0 e1 e2 : va_E} (hj : w[j]? = some (b, e0)) (hP : va_P g.1 vwCl (w.set j (b, e1)) H) (h : va_at g.1 vwCl (b, e1) H → va_at g.1 vwCl (b, e2) H) : va_P g.1 vwCl (w.set j (b, e2)) H := by
  have hlt := (List.getElem?_eq_some_iff.mp hj).1
  intro k q hk
  by_cases hkj : j = k
  · subst hkj
    rw [List.getElem?_set_self hlt] at hk
    cases hk
    exact h (hP j _ (List.getElem?_set_self hlt))
  · rw [List.getElem?_set_ne hkj] at hk
    exact hP k q (by rw [List.getElem?_set_ne hkj]; exact hk)
theorem D_cell {A : Nat → Prop} {w : va_W} {j b : Nat} {e0 e1 e2 : va_E} (hj : w[j]? = some (b, e0)) (hD : va_D A (w.set j (b, e1))) : va_D A (w.set j (b, e2)) := by
  have hlt := (List.getElem?_eq_some_iff.mp hj).1
  have h := hD.set (p := j) (a := b) (e0 := e1) (e := e2) (List.getElem?_set_self hlt)
  rwa [List.set_set] at h
theorem nat_ne {k v : Int32} {n : Nat} (h1 : vp_in k n) (h2 : vp_in v n) (e : v = k - 1) : k.toNatClampNeg ≠ v.toNatClampNeg := by
  intro q
  have hk : 0 ≤ k.toInt := by
    have := Int32.not_lt.mp (fun z => h1 (Or.inl z))
    simpa using Int32.le_iff_toInt_le.mp this
  have hv : 0 ≤ v.toInt := by
    have := Int32.not_lt.mp (fun z => h2 (Or.inl z))
    simpa using Int32.le_iff_toInt_le.mp this
  have e1 : k.toInt = v.toInt := by
    have a1 : k.toNatClampNeg = k.toInt.toNat := rfl
    have a2 : v.toNatClampNeg = v.toInt.toNat := rfl
    omega
  have e2 : k = v := Int32.toInt_inj.mp e1
  rw [e2] at e
  have : (1 : Int32) = 0 := by
    have h3 : v - (v - 1) = v - v := by rw [← e]
    have h4 : v - (v - 1) = 1 := by grind
    have h5 : v - v = 0 := by grind
    rw [← h4, h3, h5]
  exact absurd this (by decide)
section CPYT
variable {p : Program} {l : Launch} {e : Env} {R : Room} {s : State} {m : MethodId} {args : Array Value} {below : List Frame} {meth : Method} {c : Code} {H : Heap} {locs : List Loc} {cells slots : Nat} {Q : State → Prop}
variable {A : Nat → Prop} {own : String} {cc : ByteArray} {nL : Nat} {ret : Option FieldType} {g : gG} {z : Nat → Nat} {ls : Array Slot} {st0 rest : List Value} {pc : Nat} {w w2 : va_W} {index : Nat}
/-- the texts' row is copied whole -/
theorem rCpyT (X : Cx p s m meth c args own cc nL ret g A) (hlink : (Cond.methodLink own index arraycopyName) ∈ lw_all) (hl : ls.size = nL) (hP : va_P g.1 vwCl w H) (hD : va_D A w) (hS : va_S A s.heap H locs) (q0 q1 : Nat) {a0 a : Nat} {f f2 : Nat → Option Nat} (ha0 : w[q0]? = some (a0, .inl (g.2 6, 4, .inr (.inr (.inr (.inr f)))))) (ha1 : w[q1]? = some (a, .inl (g.2 6, 4, .inr (.inr (.inr (.inr f2))))))
    (hT : ∀ (i y : Nat), f i = some y → ∃ (k : Nat) (fs : List Value), w[k]? = some (y, .inr (4, fs))) (hset : w.set q1 (a, .inl (g.2 6, 4, .inr (.inr (.inr (.inr f))))) = w2) (hfr : 1 ≤ R.frames ∧ (rest.map fun v => v.category).sum + 18 ≤ R.locals) (hdg : decode cc pc = .ok (.invokestatic index, 3))
    (kk : ∀ (H1 : Heap) (locs1 : List Loc), va_P g.1 vwCl w2 H1 → va_D A w2 → va_S A s.heap H1 locs1 → W p l e R s m args below meth c H1 locs1 cells slots Q (F0 m (pc + 3) ls rest)) : W p l e R s m args below meth c H locs cells slots Q (F0 m pc ls (.int 4 :: .int 0 :: .ref a :: .int 0 :: .ref a0 :: rest)) := by
  subst hset
  have hK := X.2.2.2.2.2.2.2.2
  refine va_copyq (C := "WolfsHead$Text") X.1 X.2.1 (X.2.2.2.2.1.trans hl.symm) X.2.2.2.2.2.1 (X.2.2.2.2.2.2.1 _ hlink) (X.2.2.2.2.2.2.1 _ q254) (X.2.2.2.2.2.2.1 _ q253) (X.2.2.2.2.2.2.1 _ q147) hK hP hD hS q0 q1 6 6 ha0 ha1 rfl rfl (by decide) (by decide) (by decide) (by decide) (by decide) (fun i hi y hy => ?_) (fun comp c0 h1 h2 => ?_) hfr.1 hfr.2 hdg (fun H1 locs1 h1 h2 h3 => ?_)
  · obtain ⟨k, fs, hk⟩ := hT _ y hy
    exact va_recv (ci := 4) hK hP (q := (RX4, TX4, 3)) rfl hk
  · rw [h1] at h2
    cases h2
    exact va_assign (hK.1 4 _ rfl |>.2 |> fun q => by have := q.1; rw [show RX4 = "WolfsHead$Text" from rfl] at this; rw [h1] at this; cases this; exact q)
  · refine kk H1 locs1 (P_cell ha1 h1 (fun q => ?_)) (D_cell ha1 h2) h3
    have q' : H1[a]? = some (vp_cell (g.2 6) (4, .inr (.inr (.inr (.inr (va_cpy f f2 (0 : Int32).toNatClampNeg (0 : Int32).toNatClampNeg (4 : Int32).toNatClampNeg))))))  := q
    show H1[a]? = some (vp_cell (g.2 6) (4, .inr (.inr (.inr (.inr f)))))
    rw [q', cell_eqQ (fun j hj => ?_)]
    have e0 : (0 : Int32).toNatClampNeg = 0 := by decide
    have e4 : (4 : Int32).toNatClampNeg = 4 := by decide
    rw [e0, e4]
    simp [va_cpy, hj]
end CPYT
