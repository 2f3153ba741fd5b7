/-! the parser's pure form -/
def decO (t : TS) : TS := (t.1, t.2.1, t.2.2.1, t.2.2.2.1, t.2.2.2.2.1 - 1, t.2.2.2.2.2)
def incO (t : TS) : TS := (t.1, t.2.1, t.2.2.1, t.2.2.2.1, t.2.2.2.2.1 + 1, t.2.2.2.2.2)
def setK (t : TS) (k : Int32) : TS := (t.1, t.2.1, t.2.2.1, t.2.2.2.1, t.2.2.2.2.1, k)
def capT : Nat → Nat
  | 0 => 0
  | c + 1 => capN c (capT c)
section PURET
variable (nx : TS → Option TS) (φ : Nat)
def pWant (s : Int32) (t : TS) : Rs Unit := if t.2.2.1 = s then (nx t).bind fun t1 => pOk () t1 else pErr 1 t
def pNumber (lo hi : Int32) (t : TS) : Rs Int32 := if t.2.2.1 = 300 then (if t.2.2.2.1 < lo then pErr 2 t else if t.2.2.2.1 ≤ hi then (nx t).bind fun t1 => pOk t.2.2.2.1 t1 else pErr 2 t) else pErr 1 t
def pOpens (t : TS) : Rs Unit := if t.2.2.2.2.1 = 8 then pErr 3 t else (nx (incO t)).bind fun t1 => pOk () t1
def pBehind (w hi : Int32) (t : TS) : Rs Int32 := pB (pWant nx w t) fun _ t1 => pNumber nx 0 hi t1
def pFirst (t : TS) : Rs Int32 := if t.2.2.2.2.2 = 212 then pNumber nx 1 60 t else if t.2.2.2.2.2 = 204 then pNumber nx 0 9 t else if t.2.2.2.2.2 = 205 then pNumber nx 0 7 t else if t.2.2.2.2.2 = 206 then pNumber nx 0 7 t else pNumber nx 0 5 t
def pMore (a : Nat → Int32) (t : TS) : Rs (Nat → Int32) :=
  if t.2.2.2.2.2 = 205 ∨ t.2.2.2.2.2 = 208 then pB (pBehind nx 213 7 t) fun v t1 => pOk (upd a 1 v) t1
  else if t.2.2.2.2.2 = 206 then pB (pBehind nx 216 9 t) fun v1 t1 => pB (pBehind nx 217 9999 t1) fun v2 t2 => pB (pBehind nx 218 9999 t2) fun v3 t3 => pOk (upd (upd (upd a 1 v1) 2 v2) 3 v3) t3
  else if t.2.2.2.2.2 = 207 then pB (pBehind nx 214 7 t) fun v t1 => pOk (upd a 1 v) t1
  else if t.2.2.2.2.2 = 209 ∨ t.2.2.2.2.2 = 210 ∨ t.2.2.2.2.2 = 211 then pB (pBehind nx 215 5 t) fun v t1 => pOk (upd a 1 v) t1
  else pOk a t
def pNumbers (t : TS) : Rs (Nat → Int32) := pC 1 4 (pB (pFirst nx t) fun v t1 => pMore nx (upd (fun _ => 0) 0 v) t1)
/-- a chain of like rank -/
def pCLoop (s1 s2 : Int32) (sub : TS → Rs EvS) : Nat → EvS → Nat → (Nat → EvS) → (Nat → Int32) → TS → Rs EvS
  | 0, _, _, _, _, _ => none
  | f + 1, e, c, es, sg, t => if t.2.2.1 = s1 ∨ t.2.2.1 = s2 then (nx t).bind fun t1 => pB (sub t1) fun x t2 => pC (addK c (capT c) + addK c (capT c)) (addS c (capT c) + addS c (capT c)) (pCLoop s1 s2 sub f e (c + 1) (va_up es c x) (va_up sg c t.2.2.1) t2)
      else pOk (if c = 0 then e else evChain e c es sg) t
def pChain (s1 s2 : Int32) (sub : TS → Rs EvS) (t : TS) : Rs EvS := pC 1 3 (pB (sub t) fun e t1 => pC 2 6 (pCLoop nx s1 s2 sub 250 e 0 (fun _ => e) (fun _ => 0) t1))
def pSum (one : TS → Rs EvS) (t : TS) : Rs EvS := pChain nx 43 45 (pChain nx 42 47 one) t
/-- all, or one, of some askings -/
def pALoop (op flag : Int32) (sub : TS → Rs EvA) : Nat → Nat → (Nat → EvA) → TS → Rs EvA
  | 0, _, _, _ => none
  | f + 1, c, bs, t => if t.2.2.1 = op then (nx t).bind fun t1 => pB (sub t1) fun x t2 => pC (addK c (capT c)) (addS c (capT c)) (pALoop op flag sub f (c + 1) (va_up bs c x) t2)
      else if c = 1 then pOk (bs 0) t else pC 1 2 (pOk (evAll flag c bs) t)
def pAll (op flag : Int32) (sub : TS → Rs EvA) (t : TS) : Rs EvA := pC 1 3 (pB (sub t) fun b t1 => pC 1 10 (pALoop nx op flag sub 250 1 (fun _ => b) t1))
def pEither (ask : TS → Rs EvA) (t : TS) : Rs EvA := pAll nx 225 0 (pAll nx 226 1 ask) t
abbrev isCmp (s : Int32) : Prop := s = 60 ∨ s = 62 ∨ s = 61 ∨ s = 35 ∨ s = 303 ∨ s = 304
def pAsk1 (ask : TS → Rs EvA) (sum : TS → Rs EvS) (t : TS) : Rs EvA :=
  if t.2.2.1 = 227 then pB (pOpens nx t) fun _ t1 => pC 1 1 (pB (ask t1) fun b t2 => pOk (evNot b) (decO t2))
  else pB (sum t) fun a t1 => if isCmp t1.2.2.1 then (nx t1).bind fun t2 => pC 1 3 (pB (sum t2) fun b t3 => pOk (evCompared t1.2.2.1 a b) t3) else pErr 1 t1
def pChoice (either : TS → Rs EvA) (sum : TS → Rs EvS) (t : TS) : Rs EvS :=
  pB (pOpens nx t) fun _ t1 => pB (either t1) fun b t2 => pB (pWant nx 222 t2) fun _ t3 => pB (sum t3) fun y t4 => pB (pWant nx 223 t4) fun _ t5 => pB (sum t5) fun n t6 => pB (pWant nx 224 t6) fun _ t7 => pC 1 3 (pOk (evIf b y n) (decO t7))
def sgE (s : Int32) (x : EvS) : EvS := if s = 219 then evOnes x else if s = 220 then evFears x else evMinus x
noncomputable def pOne1 (one sum choice : TS → Rs EvS) (t : TS) : Rs EvS :=
  if t.2.2.1 = 300 then pC 1 1 (pB (pNumber nx 0 9999 t) fun v t1 => pOk (evPlain v) t1)
  else if t.2.2.1 = 221 then choice t
  else (T_nameNow φ t.2.2.1).bind fun nm =>
    if nm = -1 then
      (if t.2.2.1 = 40 then pB (pOpens nx t) fun _ t1 => pB (sum t1) fun x t2 => pB (pWant nx 41 t2) fun _ t3 => pOk x (decO t3)
      else if t.2.2.1 = 45 ∨ t.2.2.1 = 219 ∨ t.2.2.1 = 220 then pB (pOpens nx t) fun _ t1 => pB (one t1) fun x t2 => pC 1 1 (pOk (sgE t.2.2.1 x) (decO t2))
      else pErr 1 t)
    else (T_mayName t.2.2.2.2.2 nm).bind fun m => if m = 0 then pErr 5 t else (nx t).bind fun t1 => inb nm 16 (pC 1 1 (pOk (evName nm) t1))
noncomputable def pOA : Nat → (TS → Rs EvS) × (TS → Rs EvA)
  | 0 => (fun _ => none, fun _ => none)
  | d + 1 =>
    (pOne1 nx φ (pOA d).1 (pSum nx (pOA d).1) (pChoice nx (pEither nx (pOA d).2) (pSum nx (pOA d).1)),
      pAsk1 nx (pOA d).2 (pSum nx (pOne1 nx φ (pOA d).1 (pSum nx (pOA d).1) (pChoice nx (pEither nx (pOA d).2) (pSum nx (pOA d).1)))))
/-- a text: its four laws, its clauses, its doings -/
abbrev TX : Type := (Nat → Option EvS) × Nat × Nat × (Nat → DoE)
noncomputable def pRLoop (sum : TS → Rs EvS) : Nat → TX → TS → Rs TX
  | 0, _, _ => none
  | f + 1, (lw, cl, dc, ds), t =>
    if t.2.2.1 = 301 then pOk (lw, cl, dc, ds) t
    else if t.2.2.1 < 200 then pErr 1 t
    else if 212 < t.2.2.1 then pErr 1 t
    else if t.2.2.1 ≤ 203 ∧ lw (t.2.2.1 - 200).toNatClampNeg ≠ none then pErr 4 (setK t t.2.2.1)
    else if cl = 24 then pErr 6 (setK t t.2.2.1)
    else (nx (setK t t.2.2.1)).bind fun t1 =>
      if t1.2.2.2.2.2 ≤ 203 then inb (t1.2.2.2.2.2 - 200) 4 (pB (sum t1) fun x t2 => pB (pWant nx 59 t2) fun _ t3 => pRLoop sum f (va_up lw (t1.2.2.2.2.2 - 200).toNatClampNeg (some x), cl + 1, dc, ds) t3)
      else pC 1 3 (pB (pNumbers nx t1) fun a t2 => pC (addK dc (capT dc)) (addS dc (capT dc)) (pB (pWant nx 59 t2) fun _ t3 => pRLoop sum f (lw, cl + 1, dc + 1, va_up ds dc (t1.2.2.2.2.2, a, nI cl)) t3))
noncomputable def pRead (sum : TS → Rs EvS) (t : TS) : Rs TX := pC 3 10 ((nx t).bind fun t1 => pRLoop nx sum 30 (fun _ => none, 0, 0, fun _ => (0, fun _ => 0, 0)) t1)
end PURET
theorem rP_le (g : gG) (z : Nat → Nat) (w : va_W) : ∀ d : Nat, (∀ (r : Nat) (ev : EvS), (rP g z w d).1 r ev → (rP g z w (d + 1)).1 r ev) ∧ (∀ (r : Nat) (ev : EvA), (rP g z w d).2 r ev → (rP g z w (d + 1)).2 r ev) := by
  intro d
  induction d with
  | zero => exact ⟨fun _ _ h => h.elim, fun _ _ h => h.elim⟩
  | succ d ih =>
    obtain ⟨ih1, ih2⟩ := ih
    refine ⟨fun r ev h => ?_, fun r ev h => ?_⟩
    · rcases h with h | h | ⟨k, c, e, hk, hc, e9⟩ | ⟨k, c, e, hk, hc, e9⟩ | ⟨k, c, e, hk, hc, e9⟩ | ⟨k, c0, c1, c2, b, e1, e2, hk, h0, h1, h2, e9⟩ | ⟨k, c, la, ln, e, n, es, sg, f1, f2, hk, hc, hl1, hl2, he1, he2, e9⟩
      · exact Or.inl h
      · exact Or.inr (Or.inl h)
      · exact Or.inr (Or.inr (Or.inl ⟨k, c, e, hk, ih1 _ _ hc, e9⟩))
      · exact Or.inr (Or.inr (Or.inr (Or.inl ⟨k, c, e, hk, ih1 _ _ hc, e9⟩)))
      · exact Or.inr (Or.inr (Or.inr (Or.inr (Or.inl ⟨k, c, e, hk, ih1 _ _ hc, e9⟩))))
      · exact Or.inr (Or.inr (Or.inr (Or.inr (Or.inr (Or.inl ⟨k, c0, c1, c2, b, e1, e2, hk, ih2 _ _ h0, ih1 _ _ h1, ih1 _ _ h2, e9⟩)))))
      · exact Or.inr (Or.inr (Or.inr (Or.inr (Or.inr (Or.inr ⟨k, c, la, ln, e, n, es, sg, f1, f2, hk, ih1 _ _ hc, hl1, hl2, fun i hi => by obtain ⟨y, q1, q2⟩ := he1 i hi; exact ⟨y, q1, ih1 _ _ q2⟩, he2, e9⟩)))))
    · rcases h with ⟨k, c1, c2, s, e1, e2, hk, h1, h2, e9⟩ | ⟨k, c, b, hk, hc, e9⟩ | ⟨k, la, f, n, bs, f1, hk, hl1, he1, e9⟩
      · exact Or.inl ⟨k, c1, c2, s, e1, e2, hk, ih1 _ _ h1, ih1 _ _ h2, e9⟩
      · exact Or.inr (Or.inl ⟨k, c, b, hk, ih2 _ _ hc, e9⟩)
      · exact Or.inr (Or.inr ⟨k, la, f, n, bs, f1, hk, hl1, fun i hi => by obtain ⟨y, q1, q2⟩ := he1 i hi; exact ⟨y, q1, ih2 _ _ q2⟩, e9⟩)
theorem rP_up (g : gG) (z : Nat → Nat) {w w' : va_W} (hs : ∀ q ∈ w, q ∈ w') {d d' : Nat} (hd : d ≤ d') : (∀ (r : Nat) (ev : EvS), (rP g z w d).1 r ev → (rP g z w' d').1 r ev) ∧ (∀ (r : Nat) (ev : EvA), (rP g z w d).2 r ev → (rP g z w' d').2 r ev) := by
  have h1 := rP_mono g z (w := w) (w' := w') (fun k q hk => by obtain ⟨j, hj⟩ := List.mem_iff_getElem?.mp (hs q (List.mem_of_getElem? hk)); exact ⟨j, hj⟩) d
  obtain ⟨n, rfl⟩ := Nat.exists_eq_add_of_le hd
  induction n with
  | zero => exact h1
  | succ n ih =>
    have h2 := ih (Nat.le_add_right d n)
    exact ⟨fun r ev h => (rP_le g z w' (d + n)).1 r ev (h2.1 r ev h), fun r ev h => (rP_le g z w' (d + n)).2 r ev (h2.2 r ev h)⟩
