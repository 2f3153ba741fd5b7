/-! calls that take some cells of the world alone; copies and fills of arrays of ints -/
theorem apR {α : Type} {l1 l2 : List α} {n k : Nat} (h : l1.length = n) : (l1 ++ l2)[n + k]? = l2[k]? := by
  subst h
  rw [List.getElem?_append_right (Nat.le_add_right _ _), Nat.add_sub_cancel_left]
theorem apL {α : Type} {l1 l2 : List α} {k : Nat} {v : α} (h : l1[k]? = some v) : (l1 ++ l2)[k]? = some v := by
  rw [List.getElem?_append_left (List.getElem?_eq_some_iff.mp h).1]
  exact h
theorem setR {α : Type} {l1 l2 : List α} {n k : Nat} {v : α} (h : l1.length = n) : (l1 ++ l2).set (n + k) v = l1 ++ l2.set k v := by
  subst h
  rw [List.set_append_right _ _ (Nat.le_add_right _ _), Nat.add_sub_cancel_left]
theorem setL {α : Type} {l1 l2 : List α} {k : Nat} {v : α} (h : k < l1.length) : (l1 ++ l2).set k v = l1.set k v ++ l2 := List.set_append_left _ _ h
/-- rows of one length -/
def rowsW (c : ClassId) (n len : Nat) (ra : Nat → Nat) (f : Nat → Nat → Int32) : va_W := (List.range n).map fun k => (ra k, .inl (c, len, .inl (f k)))
theorem rowsW_len {c : ClassId} {n len : Nat} {ra : Nat → Nat} {f : Nat → Nat → Int32} : (rowsW c n len ra f).length = n := by simp [rowsW]
theorem rowsW_at {c : ClassId} {n len k : Nat} {ra : Nat → Nat} {f : Nat → Nat → Int32} (h : k < n) : (rowsW c n len ra f)[k]? = some (ra k, .inl (c, len, .inl (f k))) := by
  simp [rowsW, List.getElem?_range h]
theorem rowsW_set {c : ClassId} {n len k : Nat} {ra : Nat → Nat} {f : Nat → Nat → Int32} {v : Nat → Int32} : (rowsW c n len ra f).set k (ra k, .inl (c, len, .inl v)) = rowsW c n len ra (va_up f k v) := by
  apply List.ext_getElem?
  intro j
  rw [List.getElem?_set]
  by_cases hj : j < n
  · rw [rowsW_len, rowsW_at hj, rowsW_at hj]
    by_cases e : k = j
    · subst e
      simp [va_up, hj]
    · simp [va_up, e, Ne.symm e]
  · rw [rowsW_len]
    have h1 : (rowsW c n len ra f)[j]? = none := by simp [rowsW]; omega
    have h2 : (rowsW c n len ra (va_up f k v))[j]? = none := by simp [rowsW]; omega
    rw [h1, h2]
    by_cases e : k = j
    · subst e
      simp [hj]
    · simp [e]
theorem cell_eq {c : ClassId} {n : Nat} {f f2 : Nat → Int32} (h : ∀ j, j < n → f j = f2 j) : vp_cell c (n, .inl f) = vp_cell c (n, .inl f2) := by
  have e : ∀ q : Nat, q < n → (fun j => Value.int (f j)) q = (fun j => Value.int (f2 j)) q := fun q hq => by show Value.int (f q) = Value.int (f2 q); rw [h q hq]
  have hl : ∀ q : Nat, (arrV c n (fun j => Value.int (f j))).slots[q]? = (arrV c n (fun j => Value.int (f2 j))).slots[q]? := by
    intro q
    by_cases hq : q < n
    · rw [arrV_read _ _ hq, arrV_read _ _ hq, h q hq]
    · rw [Array.getElem?_eq_none (by rw [arrV_size]; omega), Array.getElem?_eq_none (by rw [arrV_size]; omega)]
  show arrV c n (fun j => Value.int (f j)) = arrV c n (fun j => Value.int (f2 j))
  have h2 : (arrV c n (fun j => Value.int (f j))).slots = (arrV c n (fun j => Value.int (f2 j))).slots := Array.ext_getElem? hl
  unfold arrV at h2 ⊢
  simp only at h2
  rw [h2]
noncomputable def acp (f : Nat → Int32) (n0 : Nat) (f2 : Nat → Int32) (n1 : Nat) (sp dp n : Int32) : Option (Nat → Int32) :=
  if (sp < 0 ∨ dp < 0 ∨ n < 0) ∨ (n0 < sp.toNatClampNeg + n.toNatClampNeg ∨ n1 < dp.toNatClampNeg + n.toNatClampNeg) then none else some (va_cpy f f2 sp.toNatClampNeg dp.toNatClampNeg n.toNatClampNeg)
theorem acps {β : Type} {f f2 : Nat → Int32} {n0 n1 : Nat} {sp dp n : Int32} {K : (Nat → Int32) → Option β} {r : β} (h : (acp f n0 f2 n1 sp dp n).bind K = some r) : ∃ z, z = va_cpy f f2 sp.toNatClampNeg dp.toNatClampNeg n.toNatClampNeg ∧ ((¬ sp < 0 ∧ ¬ dp < 0 ∧ ¬ n < 0) ∧ sp.toNatClampNeg + n.toNatClampNeg ≤ n0 ∧ dp.toNatClampNeg + n.toNatClampNeg ≤ n1) ∧ K z = some r := by
  unfold acp at h
  split at h
  · cases h
  · next q => exact ⟨_, rfl, ⟨⟨fun z => q (Or.inl (Or.inl z)), fun z => q (Or.inl (Or.inr (Or.inl z))), fun z => q (Or.inl (Or.inr (Or.inr z)))⟩, Nat.not_lt.mp fun z => q (Or.inr (Or.inl z)), Nat.not_lt.mp fun z => q (Or.inr (Or.inr z))⟩, h⟩
/-- an index in an array of arrays -/
noncomputable def inb {β : Type} (i : Int32) (n : Nat) (K : Option β) : Option β := if i < 0 ∨ n ≤ i.toNatClampNeg then none else K
theorem inbs {β : Type} {i : Int32} {n : Nat} {K : Option β} {r : β} (h : inb i n K = some r) : vp_in i n ∧ K = some r := by
  unfold inb at h
  split at h
  · cases h
  · next q => exact ⟨q, h⟩
theorem vp_lt {i : Int32} {n : Nat} (h : vp_in i n) : i.toNatClampNeg < n := Nat.not_le.mp fun q => h (Or.inr q)
section COPY
variable {p : Program} {l : Launch} {e : Env} {R : Room} {s : State} {m : MethodId} {args : Array Value} {below : List Frame} {meth : Method} {c : Code} {H : Heap} {locs : List Loc} {cells slots : Nat} {Q : State → Prop}
variable {A : Nat → Prop} {own : String} {cc : ByteArray} {nL : Nat} {ret : Option FieldType} {g : gG} {z : Nat → Nat} {ls : Array Slot} {st0 rest : List Value} {pc : Nat} {w w2 wc wc' : va_W} {rv : Option Value} {index mc ms : Nat}
theorem run_sub {av : Array Value} (X : Cx p s m meth c args own cc nL ret g A) (hr : va_Run p l e R s m args below meth c H locs cells slots mc ms (F0 m pc ls st0) rest (QQ g rv wc' (va_A wc H.size) av) (va_A wc H.size)) (hP : va_P g.1 vwCl w H) (hD : va_D A w) (hS : va_S A s.heap H locs)
    (hin : ∀ (k : Nat) (q : Nat × va_E), wc[k]? = some q → ∃ i : Nat, w[i]? = some q)
    (hnew : ∀ (k : Nat) (q : Nat × va_E), w2[k]? = some q → (∃ i : Nat, wc'[i]? = some q) ∨ (w[k]? = some q ∧ ∀ (i : Nat) (q' : Nat × va_E), wc[i]? = some q' → q'.1 ≠ q.1))
    (hadr : ∀ (k : Nat) (q2 : Nat × va_E), w2[k]? = some q2 → ∃ q, w[k]? = some q ∧ q.1 = q2.1)
    (kk : ∀ (H1 : Heap) (locs1 : List Loc), va_P g.1 vwCl w2 H1 → va_D A w2 → va_S A s.heap H1 locs1 → W p l e R s m args below meth c H1 locs1 (cells + mc) (slots + ms) Q (F0 m (pc + 3) ls (rv.toList ++ rest))) : W p l e R s m args below meth c H locs cells slots Q (F0 m pc ls st0) := by
  obtain ⟨-, -, -, -, -, -, -, hA, hK⟩ := X
  have hF : ∀ q : Nat, va_A wc H.size q → A q := by
    intro q h
    rcases h with ⟨k, e, h⟩ | h
    · obtain ⟨i, hi⟩ := hin k _ h
      exact hD.2 i (q, e) hi
    · exact hA q (Nat.le_trans hS.1 h)
  intro T hT X0
  obtain ⟨v, st₀, t, T', L, h0, X', hL, e1, e2, ⟨⟨hv, qP, qK, qD⟩, hz, hk⟩, st⟩ := hr T hT X0
  cases hv
  rw [h0] at hz hk
  have qP1 : va_P g.1 vwCl wc' T'.heap := by rw [e1]; exact qP
  have hS1 : va_S A s.heap T'.heap (locs ++ L) := ⟨Nat.le_trans hS.1 (by rw [e1]; exact hz), fun q h1 h2 => by rw [e1, hk q (Nat.lt_of_lt_of_le h1 hS.1) (fun z => h2 (hF q z))]; exact hS.2.1 q h1 h2, fun q hq => by
      rcases List.mem_append.mp hq with h | h
      · exact hS.2.2 q h
      · exact hF _ (hL q h)⟩
  refine (fun ⟨t2, a1, b1⟩ => ⟨t2, st t2 a1, b1⟩) (kk T'.heap (locs ++ L) ?_ ?_ hS1 T' rfl X')
  · intro k q hq
    rcases hnew k q hq with ⟨i, hi⟩ | ⟨h1, h2⟩
    · exact qP1 i q hi
    · have hlt := (hP k q h1).lt
      refine (hP k q h1).kept ?_
      rw [e1]
      refine hk q.1 hlt fun hz => ?_
      rcases hz with ⟨i, e, hi⟩ | hz
      · exact h2 i _ hi rfl
      · omega
  · refine ⟨fun i j x y hx hy hxy => ?_, fun k q hq => ?_⟩
    · obtain ⟨x', hx', ex⟩ := hadr i x hx
      obtain ⟨y', hy', ey⟩ := hadr j y hy
      exact hD.1 i j x' y' hx' hy' (by rw [ex, ey]; exact hxy)
    · obtain ⟨q', hq', eq'⟩ := hadr k q hq
      rw [← eq']
      exact hD.2 k q' hq'
theorem set_adr {j : Nat} {q0 q1 : Nat × va_E} (h : w[j]? = some q0) (e : q0.1 = q1.1) : ∀ (k : Nat) (q2 : Nat × va_E), (w.set j q1)[k]? = some q2 → ∃ q, w[k]? = some q ∧ q.1 = q2.1 := by
  intro k q2 hk
  by_cases hkj : j = k
  · subst hkj
    rw [List.getElem?_set_self (List.getElem?_eq_some_iff.mp h).1] at hk
    cases hk
    exact ⟨q0, h, e⟩
  · rw [List.getElem?_set_ne hkj] at hk
    exact ⟨q2, hk, rfl⟩
/-- a static call on two cells of the world, the second of which is new behind it -/
theorem two_new {i j ra rb : Nat} {ea eb eb' : va_E} (hD : va_D A w) (hi : w[i]? = some (ra, ea)) (hj : w[j]? = some (rb, eb)) (hij : i ≠ j) : ∀ (k : Nat) (q : Nat × va_E), (w.set j (rb, eb'))[k]? = some q → (∃ x : Nat, ([(ra, ea), (rb, eb')] : va_W)[x]? = some q) ∨ (w[k]? = some q ∧ ∀ (x : Nat) (q' : Nat × va_E), ([(ra, ea), (rb, eb)] : va_W)[x]? = some q' → q'.1 ≠ q.1) := by
  intro k q hk
  by_cases hkj : j = k
  · subst hkj
    rw [List.getElem?_set_self (List.getElem?_eq_some_iff.mp hj).1] at hk
    cases hk
    exact Or.inl ⟨1, rfl⟩
  · rw [List.getElem?_set_ne hkj] at hk
    by_cases hki : i = k
    · subst hki
      rw [hi] at hk
      cases hk
      exact Or.inl ⟨0, rfl⟩
    · refine Or.inr ⟨hk, fun x q' hx => ?_⟩
      match x, hx with
      | 0, hx => cases hx; exact fun e => hki (hD.1 i k _ q hi hk e)
      | 1, hx => cases hx; exact fun e => hkj (hD.1 j k _ q hj hk e)
      | x + 2, hx => simp at hx
theorem one_new {j rb : Nat} {eb eb' : va_E} (hD : va_D A w) (hj : w[j]? = some (rb, eb)) : ∀ (k : Nat) (q : Nat × va_E), (w.set j (rb, eb'))[k]? = some q → (∃ x : Nat, ([(rb, eb')] : va_W)[x]? = some q) ∨ (w[k]? = some q ∧ ∀ (x : Nat) (q' : Nat × va_E), ([(rb, eb)] : va_W)[x]? = some q' → q'.1 ≠ q.1) := by
  intro k q hk
  by_cases hkj : j = k
  · subst hkj
    rw [List.getElem?_set_self (List.getElem?_eq_some_iff.mp hj).1] at hk
    cases hk
    exact Or.inl ⟨0, rfl⟩
  · rw [List.getElem?_set_ne hkj] at hk
    refine Or.inr ⟨hk, fun x q' hx => ?_⟩
    match x, hx with
    | 0, hx => cases hx; exact fun e => hkj (hD.1 j k _ q hj hk e)
    | x + 1, hx => simp at hx
theorem D_two {i j : Nat} {q1 q2 : Nat × va_E} (hD : va_D A w) (hi : w[i]? = some q1) (hj : w[j]? = some q2) (hij : i ≠ j) : va_D A [q1, q2] := by
  refine ⟨fun a b x y hx hy hxy => ?_, fun k q hk => ?_⟩
  · match a, b, hx, hy with
    | 0, 0, _, _ => rfl
    | 1, 1, _, _ => rfl
    | 0, 1, hx, hy => cases hx; cases hy; exact absurd (hD.1 i j _ _ hi hj hxy) hij
    | 1, 0, hx, hy => cases hx; cases hy; exact absurd (hD.1 j i _ _ hj hi hxy) (Ne.symm hij)
    | a + 2, b, hx, hy => simp at hx
    | 0, b + 2, hx, hy => simp at hy
    | 1, b + 2, hx, hy => simp at hy
  · match k, hk with
    | 0, hk => cases hk; exact hD.2 i _ hi
    | 1, hk => cases hk; exact hD.2 j _ hj
    | k + 2, hk => simp at hk
theorem P_two {i j : Nat} {q1 q2 : Nat × va_E} (hP : va_P g.1 vwCl w H) (hi : w[i]? = some q1) (hj : w[j]? = some q2) : va_P g.1 vwCl [q1, q2] H := by
  intro k q hk
  match k, hk with
  | 0, hk => cases hk; exact hP i _ hi
  | 1, hk => cases hk; exact hP j _ hj
  | k + 2, hk => simp at hk
theorem in_two {i j : Nat} {q1 q2 : Nat × va_E} (hi : w[i]? = some q1) (hj : w[j]? = some q2) : ∀ (k : Nat) (q : Nat × va_E), ([q1, q2] : va_W)[k]? = some q → ∃ i : Nat, w[i]? = some q := by
  intro k q hk
  match k, hk with
  | 0, hk => cases hk; exact ⟨i, hi⟩
  | 1, hk => cases hk; exact ⟨j, hj⟩
  | k + 2, hk => simp at hk
theorem D_one {j : Nat} {q2 : Nat × va_E} (hD : va_D A w) (hj : w[j]? = some q2) : va_D A [q2] := by
  refine ⟨fun a b x y hx hy hxy => ?_, fun k q hk => ?_⟩
  · match a, b, hx, hy with
    | 0, 0, _, _ => rfl
    | a + 1, b, hx, hy => simp at hx
    | 0, b + 1, hx, hy => simp at hy
  · match k, hk with
    | 0, hk => cases hk; exact hD.2 j _ hj
    | k + 1, hk => simp at hk
theorem P_one {j : Nat} {q2 : Nat × va_E} (hP : va_P g.1 vwCl w H) (hj : w[j]? = some q2) : va_P g.1 vwCl [q2] H := by
  intro k q hk
  match k, hk with
  | 0, hk => cases hk; exact hP j _ hj
  | k + 1, hk => simp at hk
theorem in_one {j : Nat} {q2 : Nat × va_E} (hj : w[j]? = some q2) : ∀ (k : Nat) (q : Nat × va_E), ([q2] : va_W)[k]? = some q → ∃ i : Nat, w[i]? = some q := by
  intro k q hk
  match k, hk with
  | 0, hk => cases hk; exact ⟨j, hj⟩
  | k + 1, hk => simp at hk
/-- System.arraycopy of ints within the world -/
theorem rCpy (X : Cx p s m meth c args own cc nL ret g A) (hlink : (Cond.methodLink own index arraycopyName) ∈ lw_all) (hl : ls.size = nL) (hP : va_P g.1 vwCl w H) (hD : va_D A w) (hS : va_S A s.heap H locs) (q0 q1 : Nat) {a0 a : Nat} {n0 n1 : Nat} {f f2 f3 : Nat → Int32} (ha0 : w[q0]? = some (a0, .inl (g.2 0, n0, .inl f))) (ha1 : w[q1]? = some (a, .inl (g.2 0, n1, .inl f2)))
    {sp dp n : Int32} (ef : f3 = va_cpy f f2 sp.toNatClampNeg dp.toNatClampNeg n.toNatClampNeg) (hb : ((¬ sp < 0 ∧ ¬ dp < 0 ∧ ¬ n < 0) ∧ sp.toNatClampNeg + n.toNatClampNeg ≤ n0 ∧ dp.toNatClampNeg + n.toNatClampNeg ≤ n1)) (hset : w.set q1 (a, .inl (g.2 0, n1, .inl f3)) = w2) (hfr : 1 ≤ R.frames ∧ (rest.map fun v => v.category).sum + 18 ≤ R.locals) (hdg : decode cc pc = .ok (.invokestatic index, 3))
    (kk : ∀ (H1 : Heap) (locs1 : List Loc), va_P g.1 vwCl w2 H1 → va_D A w2 → va_S A s.heap H1 locs1 → W p l e R s m args below meth c H1 locs1 cells slots Q (F0 m (pc + 3) ls rest)) : W p l e R s m args below meth c H locs cells slots Q (F0 m pc ls (.int n :: .int dp :: .ref a :: .int sp :: .ref a0 :: rest)) := by
  subst hset; subst ef
  exact va_copyi X.1 X.2.1 (X.2.2.2.2.1.trans hl.symm) X.2.2.2.2.2.1 (X.2.2.2.2.2.2.1 _ hlink) (X.2.2.2.2.2.2.1 _ q254) (X.2.2.2.2.2.2.1 _ q253) (X.2.2.2.2.2.2.1 _ q147) X.2.2.2.2.2.2.2.2 hP hD hS q0 q1 0 0 ha0 ha1 rfl rfl rfl hb.1.1 hb.1.2.1 hb.1.2.2 hb.2.1 hb.2.2 (fun _ _ => rfl) hfr.1 hfr.2 hdg kk
end COPY
