/-! the parser's constructor, read -/
def TXW (g : gG) (z : Nat → Nat) (we : va_W) (D tx : Nat) (x : TX) (W : va_W) : Prop := ∃ (la dl : Nat) (f fl : Nat → Option Nat) (w1 : va_W), W = (tx, .inr (4, [.ref la, .int (nI x.2.1), .ref dl])) :: (la, .inl (g.2 7, 4, .inr (.inr (.inr (.inr f))))) :: (w1 ++ we) ∧ LsW g z dl x.2.2.1 (capT x.2.2.1) fl w1 ∧ (∀ i : Nat, i < 4 → (f i = none ∧ x.1 i = none) ∨ ∃ (r : Nat) (ev : EvS), f i = some r ∧ x.1 i = some ev ∧ (rP g z we D).1 r ev) ∧ ∀ i : Nat, i < x.2.2.1 → ∃ y : Nat, fl i = some y ∧ DoAt g we y (x.2.2.2 i).1 (x.2.2.2 i).2.1 (x.2.2.2 i).2.2
theorem DoAt.up {g : gG} {w w' : va_W} {r : Nat} {so nu : Int32} {of : Nat → Int32} (h : DoAt g w r so of nu) (hs : ∀ q ∈ w, q ∈ w') : DoAt g w' r so of nu := by
  obtain ⟨k, j, oa, h1, h2⟩ := h
  obtain ⟨k', hk'⟩ := List.mem_iff_getElem?.mp (hs _ (List.mem_of_getElem? h1))
  obtain ⟨j', hj'⟩ := List.mem_iff_getElem?.mp (hs _ (List.mem_of_getElem? h2))
  exact ⟨k', j', oa, hk', hj'⟩
theorem TXW.grow {g : gG} {z : Nat → Nat} {we new : va_W} {D tx : Nat} {x : TX} {W : va_W} (h : TXW g z we D tx x W) : TXW g z (we ++ new) D tx x (W ++ new) := by
  obtain ⟨la, dl, f, fl, w1, rfl, h1, h2, h3⟩ := h
  have hs : ∀ q ∈ we, q ∈ we ++ new := fun q hq => List.mem_append_left _ hq
  refine ⟨la, dl, f, fl, w1, by simp, h1, fun i hi => ?_, fun i hi => ?_⟩
  · rcases h2 i hi with h | ⟨r, ev, q1, q2, q3⟩
    · exact Or.inl h
    · exact Or.inr ⟨r, ev, q1, q2, (rP_up g z hs (Nat.le_refl D)).1 _ _ q3⟩
  · obtain ⟨y, q1, q2⟩ := h3 i hi
    exact ⟨y, q1, q2.up hs⟩
section YIN
variable {p : Program} {l : Launch} {e : Env} {R : Room} {s : State} {m : MethodId} {args : Array Value} {below : List Frame} {meth : Method} {c : Code} {H : Heap} {locs : List Loc} {cells slots : Nat} {Q : State → Prop}
variable {A : Nat → Prop} {own : String} {cc : ByteArray} {nL : Nat} {ret : Option FieldType} {g : gG} {z : Nat → Nat} {ls : Array Slot} {st0 rest : List Value} {pc : Nat}
variable {y : MethodName} {cy : ByteArray} {nLy : Nat} {rety : Option FieldType} {rmy : Room} {b : Nat} {As : List Value} {w w' wf : va_W} {rv : Option Value} {C : String} {index n : Nat} {mc ms : Nat}
variable {MC MS : Nat} {po : Option Value → va_W → Prop} {px : Nat → va_W → Prop} {po9 : Option Value → va_W → Prop} {px9 : Nat → va_W → Prop}
/-- a nest mate's constructor that makes cells -/
theorem yIN (X : Cy p s m meth c args own cc nL ret g z A) (j : Nat) (hM : CY l y (ws_ y cy nLy none) rmy g z (.ref b :: As) w po px mc ms) (hG : GoodIn lw_all (ws_ y cy nLy none)) (hi : Cond.initialized y.cls ∈ lw_all) {host : String} (hlk : xNest[j]? = some (Cond.methodLinkNest own index y host)) (hin : Cond.instanceMethod y ∈ lw_all) (hd : Dy y C n ∧ y.name = "<init>") (hR : Ry rmy R nLy mc ms) (hf : cells + mc ≤ R.cells ∧ slots + ms ≤ R.slots) (hP : va_P g.1 vwCl (w ++ wf) H) (hD : va_D A (w ++ wf)) (hS : va_S A s.heap H locs) (hn : As.length = n) (hsz : ls.size = nL) (hst : st0 = As.reverse ++ .ref b :: rest) (hw : (rest.map fun v => v.category).sum ≤ 8) (hdg : decode cc pc = .ok (.invokespecial index, 3))
    (hm : cells + mc ≤ MC ∧ slots + ms ≤ MS) (hx : ∀ q w1, px q w1 → px9 q (w1 ++ wf))
    (kk : ∀ (rv : Option Value) (w1 : va_W) (H1 : Heap) (locs1 : List Loc), po rv w1 → va_P g.1 vwCl (w1 ++ wf) H1 → va_D A (w1 ++ wf) → va_S A s.heap H1 locs1 → W p l e R s m args below meth c H1 locs1 (cells + mc) (slots + ms) (vx_MQ below (QYr g po9 A) (XYr g px9 A) args s MC MS A) (F0 m (pc + 3) ls (rv.toList ++ rest))) : W p l e R s m args below meth c H locs cells slots (vx_MQ below (QYr g po9 A) (XYr g px9 A) args s MC MS A) (F0 m pc ls st0) :=
  yrun_on X.1 (vx_runIN ⟨X.1.1, X.1.2.1, X.1.2.2.2.2.1, X.1.2.2.2.2.2.1, X.1.2.2.2.2.2.2.1⟩ (hM H.size) ⟨va_cnB n X.1.2.2.2.2.2.2.1 hG rfl hR.1.1 hR.1.2 (X.2.1.1.1 _ (List.mem_of_getElem? hlk)) (X.1.2.2.2.2.2.2.1 _ hi) hd.1.2 hR.2, hd.2, X.1.2.2.2.2.2.2.1 _ hin⟩ ⟨PreY.blind, CY.hp X.1 X.2.1 (P_left hP) (D_left hD) hS⟩ rfl hn hsz hst (lv_room hw) hdg hf) hP hD hS
    (fun q ce w1 H1 locs1 h1 h2 h3 h4 h5 h6 h7 => yLeave X (hx q w1 h1) h2 h3 h4 h5 h6 h7 hm.1 hm.2) kk
end YIN
theorem met_X3_init {l : Launch} {g : gG} {b ta : Nat} {sz : Int32} : CC l yX3_init (ws_ yX3_init cX3_init 3 none) ({ frames := 1, cells := 0, slots := 0, locals := 30 } : Room) g [.ref b, .ref ta, .int sz] [(b, .inr (3, [.null, .int 0, .int 0, .int 0, .int 0, .int 0, .int 0, .int 0]))] none [(b, .inr (3, [.ref ta, .int sz, .int 0, .int 0, .int 0, .int 0, .int 0, .int 0]))] 0 0 := by
  refine CC.ofI RX3 rfl plain_X3 (Nat.le_of_ble_eq_true rfl) (fun p e s m below meth c A ls hnm X hP hD hS hl => ?_)
  have hx := X.1
  have hb := X.2.1
  have hown := X.2.2.2.2.2.1
  have hts := X.2.2.2.2.2.2.1
  have hl : lv_has ls 3 [(0, .ref b), (1, .ref ta), (2, .int sz)] := hl
  refine lv_aload_n hx hb dX3_init_0 rfl (lv_at hl 0 rfl) ?_
  refine rObj (rest := []) X hl.1 q351 ⟨Nat.le_of_ble_eq_true rfl, Nat.le_of_ble_eq_true rfl⟩ dX3_init_1 ?_
  refine lv_aload_n hx hb dX3_init_4 rfl (lv_at hl 0 rfl) ?_
  refine lv_aload_n hx hb dX3_init_5 rfl (lv_at hl 1 rfl) ?_
  refine pFF (w' := [(b, .inr (3, [.ref ta, .int 0, .int 0, .int 0, .int 0, .int 0, .int 0, .int 0]))]) X hnm in_X3 tyX3 tyX3_ok nmX3 hP hD hS 0 rfl rfl 0 (by decide) q352 rfl rfl rfl rfl (Nat.le_of_ble_eq_true rfl) rfl dX3_init_6 (fun H locs hP hD hS => ?_)
  refine lv_aload_n hx hb dX3_init_9 rfl (lv_at hl 0 rfl) ?_
  refine lv_iload_n hx hb dX3_init_10 rfl (lv_at hl 2 rfl) ?_
  refine pFF (w' := [(b, .inr (3, [.ref ta, .int sz, .int 0, .int 0, .int 0, .int 0, .int 0, .int 0]))]) X hnm in_X3 tyX3 tyX3_ok nmX3 hP hD hS 0 rfl rfl 1 (by decide) q353 rfl rfl rfl rfl (Nat.le_of_ble_eq_true rfl) rfl dX3_init_11 (fun H locs hP hD hS => ?_)
  exact rV X hP hD hS dX3_init_14
def repT (g : gG) (z : Nat → Nat) (D : Nat) : va_W → Option Value → TX → Prop := fun new rv x => ∃ (tx : Nat) (we : va_W), rv = some (.ref tx) ∧ TXW g z we D tx x new
theorem rP_castS {g : gG} {z : Nat → Nat} {w : va_W} {d r : Nat} {ev : EvS} (h : (rP g z w d).1 r ev) : ∃ (k ci : Nat) (fs : List Value) (C : String) (T : u_T) (N : Nat), w[k]? = some (r, .inr (ci, fs)) ∧ vwCl[ci]? = some (C, T, N) ∧ (C, "WolfsHead$Sum") ∈ xCast := by
  cases d with
  | zero => exact h.elim
  | succ d =>
    rcases h with ⟨k, n, hk, e⟩ | ⟨k, i, hk, hi, e⟩ | ⟨k, c, e, hk, hc, e9⟩ | ⟨k, c, e, hk, hc, e9⟩ | ⟨k, c, e, hk, hc, e9⟩ | ⟨k, c0, c1, c2, b, e1, e2, hk, h0, h1, h2, e9⟩ | ⟨k, c, la, ln, e, n, es, sg, f1, f2, hk, hc, hl1, hl2, he1, he2, e9⟩
    all_goals exact ⟨k, _, _, _, _, _, hk, rfl, by decide +kernel⟩
theorem clau (n : Nat) (h : n < 100) : (nI n = 24) ↔ n = 24 := nI_eq (b := 24) (by omega) (by omega)
theorem pm9 (a b : Nat × va_E) (T N w1 we : va_W) : List.Perm (T ++ (N ++ (a :: b :: (w1 ++ we)))) (T ++ (a :: b :: (w1 ++ (we ++ N)))) := by
  refine List.Perm.append_left T ?_
  have h : List.Perm (N ++ (a :: b :: (w1 ++ we))) ((a :: b :: (w1 ++ we)) ++ N) := List.perm_append_comm
  rw [show (a :: b :: (w1 ++ we)) ++ N = a :: b :: (w1 ++ (we ++ N)) by simp] at h
  exact h
theorem pm10 (a b d : Nat × va_E) (T w1 we : va_W) : List.Perm ([d] ++ (T ++ (a :: b :: (w1 ++ we)))) ((w1 ++ (we ++ [d])) ++ (T ++ [a, b])) := by
  have h1 : List.Perm ([d] ++ (T ++ (a :: b :: (w1 ++ we)))) ((T ++ ([a, b] ++ (w1 ++ we))) ++ [d]) := List.perm_append_comm
  have h2 : (T ++ ([a, b] ++ (w1 ++ we))) ++ [d] = (T ++ [a, b]) ++ (w1 ++ (we ++ [d])) := by simp
  rw [h2] at h1
  exact h1.trans List.perm_append_comm
theorem pm12 (a b o q : Nat × va_E) (T w1 we : va_W) : List.Perm (T ++ (a :: b :: (w1 ++ ((we ++ [o]) ++ [q])))) ([o] ++ (T ++ (a :: b :: (w1 ++ (we ++ [q]))))) := by
  have h1 : T ++ (a :: b :: (w1 ++ ((we ++ [o]) ++ [q]))) = (T ++ (a :: b :: (w1 ++ we))) ++ (o :: [q]) := by simp
  have h2 : [o] ++ (T ++ (a :: b :: (w1 ++ (we ++ [q])))) = o :: ((T ++ (a :: b :: (w1 ++ we))) ++ [q]) := by simp
  rw [h1, h2]
  exact List.perm_middle
theorem pm11 (a b : Nat × va_E) (T w1 we : va_W) : List.Perm ((w1 ++ we) ++ (T ++ [a, b])) (T ++ (a :: b :: (w1 ++ we))) := by
  have h1 : List.Perm ((w1 ++ we) ++ (T ++ [a, b])) ((T ++ [a, b]) ++ (w1 ++ we)) := List.perm_append_comm
  rw [show (T ++ [a, b]) ++ (w1 ++ we) = T ++ (a :: b :: (w1 ++ we)) by simp] at h1
  exact h1
theorem dyi_X4_init : Dy yX4_init RX4 0 ∧ yX4_init.name = "<init>" := ⟨by decide +kernel, rfl⟩
theorem gw_X3_X3_numbers : GoodIn lw_all (wsV RX3 103 RX3 yX3_numbers (ws_ yX3_numbers cX3_numbers 2 (some (.array .int)))) := lw_V q858 q860 qs22 q149 q861
theorem dy_X3_numbers : Dy yX3_numbers RX3 0 := by decide +kernel
theorem dyi_X16_init : Dy yX16_init RX16 3 ∧ yX16_init.name = "<init>" := ⟨by decide +kernel, rfl⟩
theorem law_in {k : Int32} (h0 : 200 ≤ k) (h1 : k ≤ 203) : vp_in (k - 200) 4 := by
  obtain ⟨j, hj, rfl⟩ := nI_of2 (M := 203) (n := 203) rfl (fun h => absurd (Int32.lt_of_lt_of_le h (show (0 : Int32) ≤ 200 by decide)) (fun h2 => absurd h0 (Int32.not_le.mpr h2))) h1
  have h2 : 200 ≤ j := by rw [show (200 : Int32) = nI 200 from rfl] at h0; rw [nI_leI (by omega) (by omega)] at h0; exact h0
  have h3 : ∀ j : Nat, j < 204 → 200 ≤ j → vp_in (nI j - 200) 4 := by unfold vp_in; decide +kernel
  exact h3 j (by omega) h2
section IFN
variable {p : Program} {l : Launch} {e : Env} {R : Room} {s : State} {m : MethodId} {args : Array Value} {below : List Frame} {meth : Method} {c : Code} {H : Heap} {locs : List Loc} {cells slots : Nat} {Q : State → Prop}
variable {A : Nat → Prop} {own : String} {cc : ByteArray} {nL : Nat} {ret : Option FieldType} {g : gG} {z : Nat → Nat} {ls : Array Slot} {st0 rest : List Value} {pc : Nat}
variable {y : MethodName} {cy : ByteArray} {nLy : Nat} {rety : Option FieldType} {rmy : Room} {b : Nat} {As : List Value} {w w' wf : va_W} {rv : Option Value} {C : String} {index n : Nat} {mc ms : Nat}
theorem lv_ifnullN' (hx : p.tables.exec = Jvm.exec) (hb : c.code = cc) {v : Option Nat} (hv : v = none) (hdg : decode cc pc = .ok (.ifnull 9, 3)) (k : W p l e R s m args below meth c H locs cells slots Q (F0 m (pc + 9) ls rest)) : W p l e R s m args below meth c H locs cells slots Q (F0 m pc ls (va_rf v :: rest)) := by
  subst hv
  exact lv_ifnullN hx hb hdg (by omega) k
theorem lv_ifnullR' (hx : p.tables.exec = Jvm.exec) (hb : c.code = cc) {v : Option Nat} {x : Nat} (hv : v = some x) (hdg : decode cc pc = .ok (.ifnull 9, 3)) (k : W p l e R s m args below meth c H locs cells slots Q (F0 m (pc + 3) ls rest)) : W p l e R s m args below meth c H locs cells slots Q (F0 m pc ls (va_rf v :: rest)) := by
  subst hv
  exact lv_ifnull hx hb hdg k
end IFN
theorem met_read {l : Launch} (hl0 : l.stackTraces = false) {g : gG} {z : Nat → Nat} {r0 ta : Nat} {cT : Nat → Int32} {sz : Int32} {φ : Nat} {t : TS} {sum : TS → Rs EvS} {F1 L1 D : Nat} (hF : 14 ≤ F1) (hL : 600 ≤ L1) (hsum : ∀ t : TS, CP l yX3_sum (ws_ yX3_sum cX3_sum 3 (some (.object "WolfsHead$Sum"))) F1 L1 g z r0 ta cT sz [] t (sum t) (repS g z D)) : CP l yX3_read (ws_ yX3_read cX3_read 2 (some (.object "WolfsHead$Text"))) (F1 + 1) (L1 + 40) g z r0 ta cT sz [] t (pRead (tkNext φ cT sz) sum t) (repT g z D) := by
  intro r t' k n0 hf
  refine CY.of RX3 rfl plain_X3 (Nat.le_of_ble_eq_true rfl) (fun p e s m below meth cd A ls X hP hD hS hl => ?_)
  have hx := X.1.1
  have hb := X.1.2.1
  have hown := X.1.2.2.2.2.2.1
  have hts := X.1.2.2.2.2.2.2.1
  have hl : lv_has ls 2 [(0, .ref r0)] := hl
  have hP : va_P g.1 vwCl (tkw g r0 ta cT sz t ++ []) s.heap := by rw [List.append_nil]; exact hP
  have hD : va_D A (tkw g r0 ta cT sz t ++ []) := by rw [List.append_nil]; exact hD
  unfold pRead at hf
  obtain ⟨k0, m0, hf, ek0, en0⟩ := pCs hf
  obtain ⟨t1, hn_t1, hf⟩ := bs hf
  refine rNew X.1 in_X4 tyX4 tyX4_ok q381 q382 q150 hP hD hS (ci := 4) rfl [.null, .int 0, .null] (by decide) (by first | omega | (dsimp only; omega)) (by first | omega | (dsimp only; omega)) dX3_read_0 (fun tx H hP hD hS => ?_)
  obtain ⟨hP, hD⟩ := w_perm (b := [(tx, .inr (4, [.null, .int 0, .null]))] ++ (tkw g r0 ta cT sz t ++ [])) hP hD List.perm_append_comm
  refine lv_dup hx hb dX3_read_3 rfl ?_
  refine yIN (rest := [.ref tx]) X 11 (met_X4_init (px := fun _ _ => False)) (lw_meth q385) q150 rfl q384 dyi_X4_init ⟨⟨rfl, rfl⟩, by dsimp only; omega, by dsimp only; omega⟩ ⟨by first | omega | (dsimp only; omega), by first | omega | (dsimp only; omega)⟩ hP hD hS rfl hl.1 rfl (Nat.le_of_ble_eq_true rfl) dX3_read_4 ⟨by first | omega | (dsimp only; omega), by first | omega | (dsimp only; omega)⟩ (fun _ _ h => h.elim) (fun rv w9 H locs hpo hP hD hS => ?_)
  obtain ⟨la, dl, rfl, rfl⟩ := hpo
  obtain ⟨hP, hD⟩ := w_perm hP hD (pm4 _ _ _ (tkw g r0 ta cT sz t) [])
  refine lv_astore_n (lv' := [(1, .ref tx), (0, .ref r0)]) hx hb dX3_read_7 rfl hl (by decide) rfl (fun ls hl => ?_)
  refine lv_aload_n hx hb dX3_read_8 rfl (lv_at hl 1 rfl) ?_
  refine yNx (rest := []) X hn_t1 ⟨by first | omega | (dsimp only; omega), by first | omega | (dsimp only; omega)⟩ ⟨by first | omega | (dsimp only; omega), by first | omega | (dsimp only; omega)⟩ hP hD hS hl.1 (Nat.le_of_ble_eq_true rfl) dX3_read_9 (fun H locs hP hD hS => ?_)
  have hloop : ∀ (f : Nat) (x : TX) (t : TS) (we Wc : va_W) (kk nn k2 n2 : Nat) (H : Heap) (locs : List Loc) (ls : Array Slot), pRLoop (tkNext φ cT sz) sum f x t = some (r, t', k2, n2) → x.2.1 + f = 30 → x.2.2.1 ≤ x.2.1 → TXW g z we D tx x Wc → kk + k2 = k → nn + n2 = n0 → va_P g.1 vwCl (tkw g r0 ta cT sz t ++ Wc) H → va_D A (tkw g r0 ta cT sz t ++ Wc) → va_S A s.heap H locs → lv_has ls 2 [(1, .ref tx), (0, .ref r0)] → W p l e ({ frames := F1 + 1, cells := k, slots := n0, locals := L1 + 40 } : Room) s m ([.ref r0] : List Value).toArray below meth cd H locs (kk) (nn) (vx_MQ below (QYr g (fun rv w' => ∃ a new, r = .inr a ∧ w' = tkw g r0 ta cT sz t' ++ new ∧ (repT g z D) new rv a) A) (XYr g (pxT g r0 ta cT sz r t') A) ([.ref r0] : List Value).toArray s k n0 A) (F0 m 12 ls []) := by
    intro f
    induction f with
    | zero =>
      intro x t we Wc kk nn k2 n2 H locs ls hf
      exact nn9 hf
    | succ f ih =>
      intro x t we Wc kk nn k2 n2 H locs ls hf hcf hdc hTX ek en hP hD hS hl
      obtain ⟨lw, cl, dc, ds⟩ := x
      dsimp only at hcf hdc
      unfold pRLoop at hf
      refine lv_aload_n hx hb dX3_read_12 rfl (lv_at hl 1 rfl) ?_
      refine gT_sort X.1 hP dX3_read_13 ?_
      refine lv_sipush (v := 301) hx hb dX3_read_16 (by decide) ?_
      refine lv_icmp_eq (tgt := 184) hx hb dX3_read_19 (by decide) (fun q => ?_) (fun q => ?_)
      · rw [if_pos q] at hf
        refine lv_aload_n hx hb dX3_read_184 rfl (lv_at hl 0 rfl) ?_
        cases hf
        exact yRr X ⟨_, _, rfl, rfl, tx, we, rfl, hTX⟩ hP hD hS ⟨by first | omega | (dsimp only; omega), by first | omega | (dsimp only; omega)⟩ dX3_read_185
      · rw [if_neg q] at hf
        refine lv_aload_n hx hb dX3_read_22 rfl (lv_at hl 1 rfl) ?_
        refine gT_sort X.1 hP dX3_read_23 ?_
        refine lv_sipush (v := 200) hx hb dX3_read_26 (by decide) ?_
        refine lv_icmp_lt (tgt := 42) hx hb dX3_read_29 (by decide) (fun q => ?_) (fun q => ?_)
        · rw [if_pos q] at hf
          refine lv_aload_n hx hb dX3_read_42 rfl (lv_at hl 1 rfl) ?_
          refine lv_iconst (v := 1) hx hb dX3_read_43 (by decide) ?_
          exact yErr hl0 X hf ⟨by first | omega | (dsimp only; omega), by first | omega | (dsimp only; omega)⟩ ⟨by first | omega | (dsimp only; omega), by first | omega | (dsimp only; omega)⟩ ⟨by first | omega | (dsimp only; omega), by first | omega | (dsimp only; omega)⟩ hP hD hS hl.1 dX3_read_44 dX3_read_47
        · rw [if_neg q] at hf
          refine lv_aload_n hx hb dX3_read_32 rfl (lv_at hl 1 rfl) ?_
          refine gT_sort X.1 hP dX3_read_33 ?_
          refine lv_sipush (v := 212) hx hb dX3_read_36 (by decide) ?_
          refine lv_icmp_le (tgt := 48) hx hb dX3_read_39 (by decide) (fun q2 => ?_) (fun q2 => ?_)
          · rw [if_neg (Int32.not_lt.mpr q2)] at hf
            refine lv_aload_n hx hb dX3_read_48 rfl (lv_at hl 1 rfl) ?_
            refine lv_aload_n hx hb dX3_read_49 rfl (lv_at hl 1 rfl) ?_
            refine gT_sort X.1 hP dX3_read_50 ?_
            refine pT_kind X.1 hP hD hS dX3_read_53 (fun H locs hP hD hS => ?_)
            have hP : va_P g.1 vwCl (tkw g r0 ta cT sz (setK t t.2.2.1) ++ Wc) H := hP
            have hD : va_D A (tkw g r0 ta cT sz (setK t t.2.2.1) ++ Wc) := hD
            obtain ⟨la, dl, f9, fl, w1, rfl, hls, hlw, hds⟩ := hTX
            dsimp only at hls hlw hds hP hD
            have hcl9 : cl < 100 := by omega
            have hcheck : (t.2.2.1 ≤ 203 ∧ lw (t.2.2.1 - 200).toNatClampNeg ≠ none → W p l e ({ frames := F1 + 1, cells := k, slots := n0, locals := L1 + 40 } : Room) s m ([.ref r0] : List Value).toArray below meth cd H locs (kk) (nn) (vx_MQ below (QYr g (fun rv w' => ∃ a new, r = .inr a ∧ w' = tkw g r0 ta cT sz t' ++ new ∧ (repT g z D) new rv a) A) (XYr g (pxT g r0 ta cT sz r t') A) ([.ref r0] : List Value).toArray s k n0 A) (F0 m 82 ls [])) → (¬ (t.2.2.1 ≤ 203 ∧ lw (t.2.2.1 - 200).toNatClampNeg ≠ none) → W p l e ({ frames := F1 + 1, cells := k, slots := n0, locals := L1 + 40 } : Room) s m ([.ref r0] : List Value).toArray below meth cd H locs (kk) (nn) (vx_MQ below (QYr g (fun rv w' => ∃ a new, r = .inr a ∧ w' = tkw g r0 ta cT sz t' ++ new ∧ (repT g z D) new rv a) A) (XYr g (pxT g r0 ta cT sz r t') A) ([.ref r0] : List Value).toArray s k n0 A) (F0 m 88 ls [])) → W p l e ({ frames := F1 + 1, cells := k, slots := n0, locals := L1 + 40 } : Room) s m ([.ref r0] : List Value).toArray below meth cd H locs (kk) (nn) (vx_MQ below (QYr g (fun rv w' => ∃ a new, r = .inr a ∧ w' = tkw g r0 ta cT sz t' ++ new ∧ (repT g z D) new rv a) A) (XYr g (pxT g r0 ta cT sz r t') A) ([.ref r0] : List Value).toArray s k n0 A) (F0 m 56 ls []) := by
              intro hA hB
              refine lv_aload_n hx hb dX3_read_56 rfl (lv_at hl 1 rfl) ?_
              refine gT_kind X.1 hP dX3_read_57 ?_
              refine lv_sipush (v := 203) hx hb dX3_read_60 (by decide) ?_
              refine lv_icmp_gt (tgt := 88) hx hb dX3_read_63 (by decide) (fun q5 => hB (fun h => absurd q5 (Int32.not_lt.mpr h.1))) (fun q5 => ?_)
              have q6 : t.2.2.1 ≤ 203 := Int32.not_lt.mp q5
              have hin := law_in (Int32.not_lt.mp q) q6
              refine lv_aload_n hx hb dX3_read_66 rfl (lv_at hl 0 rfl) ?_
              refine gN X.1 X.2.1.1 in_X4 hP 2 rfl rfl 0 (by decide) 12 rfl rfl dX3_read_67 ?_
              refine lv_aload_n hx hb dX3_read_70 rfl (lv_at hl 1 rfl) ?_
              refine gT_kind X.1 hP dX3_read_71 ?_
              refine lv_sipush (v := 200) hx hb dX3_read_74 (by decide) ?_
              refine lv_isub hx hb dX3_read_77 ?_
              refine va_aldq hx hb X.1.2.2.2.2.2.2.2.2 hP 3 7 rfl rfl hin dX3_read_78 ?_
              rcases hlw _ (vp_lt hin) with ⟨e1, e2⟩ | ⟨r9, ev9, e1, e2, -⟩
              · refine lv_ifnullN' hx hb e1 dX3_read_79 (hB (fun h => h.2 e2))
              · refine lv_ifnullR' hx hb e1 dX3_read_79 (hA ⟨q6, fun h => by rw [e2] at h; cases h⟩)
            refine hcheck (fun qq => ?_) (fun qq => ?_)
            · rw [if_pos qq] at hf
              refine lv_aload_n hx hb dX3_read_82 rfl (lv_at hl 1 rfl) ?_
              refine lv_iconst (v := 4) hx hb dX3_read_83 (by decide) ?_
              exact yErr hl0 X hf ⟨by first | omega | (dsimp only; omega), by first | omega | (dsimp only; omega)⟩ ⟨by first | omega | (dsimp only; omega), by first | omega | (dsimp only; omega)⟩ ⟨by first | omega | (dsimp only; omega), by first | omega | (dsimp only; omega)⟩ hP hD hS hl.1 dX3_read_84 dX3_read_87
            · rw [if_neg qq] at hf
              refine lv_aload_n hx hb dX3_read_88 rfl (lv_at hl 0 rfl) ?_
              refine gN X.1 X.2.1.1 in_X4 hP 2 rfl rfl 1 (by decide) 14 rfl rfl dX3_read_89 ?_
              refine lv_bipush (v := 24) hx hb dX3_read_92 (by decide) ?_
              refine lv_icmp_ne (tgt := 104) hx hb dX3_read_94 (by decide) (fun q7 => ?_) (fun q7 => ?_)
              · rw [if_neg (fun h => q7 ((clau cl hcl9).mpr h))] at hf
                refine lv_aload_n hx hb dX3_read_104 rfl (lv_at hl 1 rfl) ?_
                obtain ⟨t2, hn_t2, hf⟩ := bs hf
                refine yNx (rest := []) X hn_t2 ⟨by first | omega | (dsimp only; omega), by first | omega | (dsimp only; omega)⟩ ⟨by first | omega | (dsimp only; omega), by first | omega | (dsimp only; omega)⟩ hP hD hS hl.1 (Nat.le_of_ble_eq_true rfl) dX3_read_105 (fun H locs hP hD hS => ?_)
                refine lv_aload_n hx hb dX3_read_108 rfl (lv_at hl 1 rfl) ?_
                refine gT_kind X.1 hP dX3_read_109 ?_
                refine lv_sipush (v := 203) hx hb dX3_read_112 (by decide) ?_
                refine lv_icmp_gt (tgt := 138) hx hb dX3_read_115 (by decide) (fun q8 => ?_) (fun q8 => ?_)
                · rw [if_neg (Int32.not_le.mpr q8)] at hf
                  obtain ⟨k6, m6, hf, ek6, en6⟩ := pCs hf
                  refine lv_aload_n hx hb dX3_read_138 rfl (lv_at hl 0 rfl) ?_
                  refine gN X.1 X.2.1.1 in_X4 hP 2 rfl rfl 2 (by decide) 15 rfl rfl dX3_read_139 ?_
                  refine rNew X.1 in_X16 tyX16 tyX16_ok q856 q857 q179 hP hD hS (ci := 16) rfl [.int 0, .null, .int 0] (by decide) (by first | omega | (dsimp only; omega)) (by first | omega | (dsimp only; omega)) dX3_read_142 (fun o9 H hP hD hS => ?_)
                  have hP : va_P g.1 vwCl (tkw g r0 ta cT sz t2 ++ ((tx, .inr (4, [.ref la, .int (nI cl), .ref dl])) :: (la, .inl (g.2 7, 4, .inr (.inr (.inr (.inr f9))))) :: (w1 ++ (we ++ [(o9, .inr (16, [.int 0, .null, .int 0]))])))) H := by have h := hP; simp only [List.append_assoc, List.cons_append] at h; exact h
                  have hD : va_D A (tkw g r0 ta cT sz t2 ++ ((tx, .inr (4, [.ref la, .int (nI cl), .ref dl])) :: (la, .inl (g.2 7, 4, .inr (.inr (.inr (.inr f9))))) :: (w1 ++ (we ++ [(o9, .inr (16, [.int 0, .null, .int 0]))])))) := by have h := hD; simp only [List.append_assoc, List.cons_append] at h; exact h
                  refine lv_dup hx hb dX3_read_145 rfl ?_
                  refine lv_aload_n hx hb dX3_read_146 rfl (lv_at hl 1 rfl) ?_
                  refine gT_kind X.1 hP dX3_read_147 ?_
                  refine lv_aload_n hx hb dX3_read_150 rfl (lv_at hl 1 rfl) ?_
                  refine yP (rest := [.int t2.2.2.2.2.2, .ref o9, .ref o9, .ref dl]) X hf (met_numbers hl0) gw_X3_X3_numbers dy_X3_numbers ⟨by first | omega | (dsimp only; omega), by first | omega | (dsimp only; omega)⟩ ⟨by first | omega | (dsimp only; omega), by first | omega | (dsimp only; omega)⟩ ⟨by first | omega | (dsimp only; omega), by first | omega | (dsimp only; omega)⟩ hP hD hS rfl hl.1 rfl (Nat.le_of_ble_eq_true rfl) dX3_read_151 (fun a3 t3 k3 n3 j3 i3 new3 rv H locs hf ek3 en3 hrep3 hP hD hS => ?_)
                  obtain ⟨q3, rfl, hq3⟩ := hrep3
                  subst hq3
                  obtain ⟨k7, m7, hf, ek7, en7⟩ := pCs hf
                  obtain ⟨hP, hD⟩ := w_perm hP hD (pm9 _ _ (tkw g r0 ta cT sz t3) [(q3, .inl (g.2 0, 4, .inl a3))] w1 (we ++ [(o9, .inr (16, [.int 0, .null, .int 0]))]))
                  refine lv_aload_n hx hb dX3_read_154 rfl (lv_at hl 0 rfl) ?_
                  refine gN X.1 X.2.1.1 in_X4 hP 2 rfl rfl 1 (by decide) 14 rfl rfl dX3_read_155 ?_
                  obtain ⟨hP, hD⟩ := w_perm hP hD (pm12 _ _ (o9, .inr (16, [.int 0, .null, .int 0])) (q3, .inl (g.2 0, 4, .inl a3)) (tkw g r0 ta cT sz t3) w1 we)
                  refine cIN (rest := [.ref o9, .ref dl]) X.1 X.2.1.1 28 (met_X16_init (g := g)) (lw_meth q868) q179 rfl q867 dyi_X16_init ⟨⟨rfl, rfl⟩, by dsimp only; omega, by dsimp only; omega⟩ ⟨by first | omega | (dsimp only; omega), by first | omega | (dsimp only; omega)⟩ hP hD hS rfl hl.1 rfl (Nat.le_of_ble_eq_true rfl) dX3_read_158 (fun H locs hP hD hS => ?_)
                  obtain ⟨hP, hD⟩ := w_perm hP hD (pm10 (tx, .inr (4, [.ref la, .int (nI cl), .ref dl])) (la, .inl (g.2 7, 4, .inr (.inr (.inr (.inr f9))))) (o9, .inr (16, [.int t2.2.2.2.2.2, .ref q3, .int (nI cl)])) (tkw g r0 ta cT sz t3) w1 (we ++ [(q3, .inl (g.2 0, 4, .inl a3))]))
                  refine yV (rest := []) (wf := tkw g r0 ta cT sz t3 ++ [(tx, .inr (4, [.ref la, .int (nI cl), .ref dl])), (la, .inl (g.2 7, 4, .inr (.inr (.inr (.inr f9)))))]) X (met_add (px := fun _ _ => False) (we := (we ++ [(q3, .inl (g.2 0, 4, .inl a3))]) ++ [(o9, .inr (16, [.int t2.2.2.2.2.2, .ref q3, .int (nI cl)]))]) hls (by first | omega | (dsimp only; omega)) (fun i y hi hy => by obtain ⟨y2, p1, p2⟩ := hds i hi; cases hy.symm.trans p1; obtain ⟨kk9, jj9, oo9, h1, h2⟩ := p2; exact ElOK.mono (Or.inl ⟨kk9, 16, _, _, _, _, h1, rfl, by decide +kernel⟩) (fun q hq => by simp [hq])) (ElOK.mono (w := [(o9, .inr (16, [.int t2.2.2.2.2.2, .ref q3, .int (nI cl)]))]) (Or.inl ⟨0, 16, _, _, _, _, rfl, rfl, by decide +kernel⟩) (fun q hq => List.mem_append_right _ hq))) gw_X3_J2_add dy_J2_add ⟨⟨rfl, rfl⟩, by dsimp only; omega, by dsimp only; omega⟩ ⟨by first | omega | (dsimp only; omega), by first | omega | (dsimp only; omega)⟩ hP hD hS (by obtain ⟨mc, ea, tail, rfl, -⟩ := hls; exact ⟨0, 17, _, _, _, rfl, rfl⟩) rfl hl.1 rfl (Nat.le_of_ble_eq_true rfl) dX3_read_161 ⟨by first | omega | (dsimp only; omega), by first | omega | (dsimp only; omega)⟩ (fun _ _ h => h.elim) (fun rv w9 H locs hpo hP hD hS => ?_)
                  obtain ⟨w1', fl', rfl, rfl, hls', hf0, hf1⟩ := hpo
                  obtain ⟨hP, hD⟩ := w_perm hP hD (pm11 (tx, .inr (4, [.ref la, .int (nI cl), .ref dl])) (la, .inl (g.2 7, 4, .inr (.inr (.inr (.inr f9))))) (tkw g r0 ta cT sz t3) w1' ((we ++ [(q3, .inl (g.2 0, 4, .inl a3))]) ++ [(o9, .inr (16, [.int t2.2.2.2.2.2, .ref q3, .int (nI cl)]))]))
                  refine lv_pop hx hb dX3_read_164 rfl ?_
                  refine lv_aload_n hx hb dX3_read_165 rfl (lv_at hl 1 rfl) ?_
                  refine lv_bipush (v := 59) hx hb dX3_read_166 (by decide) ?_
                  refine yP (rest := []) X hf (met_want hl0) gw_X3_X3_want dy_X3_want ⟨by first | omega | (dsimp only; omega), by first | omega | (dsimp only; omega)⟩ ⟨by first | omega | (dsimp only; omega), by first | omega | (dsimp only; omega)⟩ ⟨by first | omega | (dsimp only; omega), by first | omega | (dsimp only; omega)⟩ hP hD hS rfl hl.1 rfl (Nat.le_of_ble_eq_true rfl) dX3_read_168 (fun a5 t5 k5 n5 j5 i5 new5 rv H locs hf ek5 en5 hrep5 hP hD hS => ?_)
                  obtain ⟨rfl, rfl⟩ := hrep5
                  refine lv_aload_n hx hb dX3_read_171 rfl (lv_at hl 0 rfl) ?_
                  refine lv_dup hx hb dX3_read_172 rfl ?_
                  refine gN X.1 X.2.1.1 in_X4 hP 2 rfl rfl 1 (by decide) 14 rfl rfl dX3_read_173 ?_
                  refine lv_iconst (v := 1) hx hb dX3_read_176 (by decide) ?_
                  refine lv_iadd hx hb dX3_read_177 ?_
                  refine tpi (y := nI (cl + 1)) (nI_add cl 1).symm ?_
                  refine va_putN hx hb hts in_X4 tyX4 tyX4_ok nmX4 hown X.1.2.2.2.2.2.2.2.2 hP hD hS 2 rfl rfl 1 (by decide) (X.2.1.1.1.use 14 rfl) (fun _ h9 => h9) rfl (tyX4_ok 1 (by decide)) rfl rfl (Nat.le_of_ble_eq_true rfl) dX3_read_178 (fun H locs hP hD hS => ?_)
                  have hP : va_P g.1 vwCl (tkw g r0 ta cT sz t5 ++ ((tx, .inr (4, [.ref la, .int (nI (cl + 1)), .ref dl])) :: (la, .inl (g.2 7, 4, .inr (.inr (.inr (.inr f9))))) :: (w1' ++ ((we ++ [(q3, .inl (g.2 0, 4, .inl a3))]) ++ [(o9, .inr (16, [.int t2.2.2.2.2.2, .ref q3, .int (nI cl)]))])))) H := hP
                  have hD : va_D A (tkw g r0 ta cT sz t5 ++ ((tx, .inr (4, [.ref la, .int (nI (cl + 1)), .ref dl])) :: (la, .inl (g.2 7, 4, .inr (.inr (.inr (.inr f9))))) :: (w1' ++ ((we ++ [(q3, .inl (g.2 0, 4, .inl a3))]) ++ [(o9, .inr (16, [.int t2.2.2.2.2.2, .ref q3, .int (nI cl)]))])))) := hD
                  refine lv_goto (tgt := 12) hx hb dX3_read_181 (by decide) ?_
                  refine ih _ _ ((we ++ [(q3, .inl (g.2 0, 4, .inl a3))]) ++ [(o9, .inr (16, [.int t2.2.2.2.2.2, .ref q3, .int (nI cl)]))]) _ _ _ _ _ _ _ _ hf (by first | omega | (dsimp only; omega)) (by first | omega | (dsimp only; omega)) ⟨la, dl, f9, fl', w1', rfl, hls', fun i hi => ?_, fun i hi => ?_⟩ (by omega) (by omega) hP hD hS (lv_sub hl [0, 1] rfl)
                  · rcases hlw i hi with h | ⟨r9, ev9, e1, e2, e3⟩
                    · exact Or.inl h
                    · exact Or.inr ⟨r9, ev9, e1, e2, (rP_up g z (fun q hq => by simp [hq]) (Nat.le_refl D)).1 _ _ e3⟩
                  · dsimp only at hi ⊢
                    rcases Nat.lt_or_ge i dc with hlt | hge
                    · obtain ⟨y, p1, p2⟩ := hds i hlt
                      exact ⟨y, by rw [hf0 i hlt]; exact p1, by rw [up_ne (by omega)]; exact p2.up (fun q hq => by simp [hq])⟩
                    · have e : i = dc := by omega
                      subst e
                      refine ⟨o9, hf1, ?_⟩
                      rw [va_up_eq]
                      exact DoAt.up (w := [(q3, .inl (g.2 0, 4, .inl a3)), (o9, .inr (16, [.int t2.2.2.2.2.2, .ref q3, .int (nI cl)]))]) ⟨1, 0, q3, rfl, rfl⟩ (fun q hq => by simp at hq ⊢; exact Or.inr hq)
                · rw [if_pos (Int32.not_lt.mp q8)] at hf
                  obtain ⟨bk, hf⟩ := inbs hf
                  refine lv_aload_n hx hb dX3_read_118 rfl (lv_at hl 0 rfl) ?_
                  refine gN X.1 X.2.1.1 in_X4 hP 2 rfl rfl 0 (by decide) 12 rfl rfl dX3_read_119 ?_
                  refine lv_aload_n hx hb dX3_read_122 rfl (lv_at hl 1 rfl) ?_
                  refine gT_kind X.1 hP dX3_read_123 ?_
                  refine lv_sipush (v := 200) hx hb dX3_read_126 (by decide) ?_
                  refine lv_isub hx hb dX3_read_129 ?_
                  refine lv_aload_n hx hb dX3_read_130 rfl (lv_at hl 1 rfl) ?_
                  refine yP (rest := [.int (t2.2.2.2.2.2 - 200), .ref la]) X hf (hsum _) gw_X3_X3_sum dy_X3_sum ⟨by first | omega | (dsimp only; omega), by first | omega | (dsimp only; omega)⟩ ⟨by first | omega | (dsimp only; omega), by first | omega | (dsimp only; omega)⟩ ⟨by first | omega | (dsimp only; omega), by first | omega | (dsimp only; omega)⟩ hP hD hS rfl hl.1 rfl (Nat.le_of_ble_eq_true rfl) dX3_read_131 (fun a3 t3 k3 n3 j3 i3 new3 rv H locs hf ek3 en3 hrep3 hP hD hS => ?_)
                  obtain ⟨q3, rfl, hq3⟩ := hrep3
                  obtain ⟨hP, hD⟩ := w_perm hP hD (pm9 _ _ (tkw g r0 ta cT sz t3) new3 w1 we)
                  obtain ⟨k9, ci9, fs9, C9, T9, N9, hk9, hcl0, hcast9⟩ := rP_castS hq3
                  obtain ⟨j9, hj9⟩ := mem_end (a := tkw g r0 ta cT sz t3) (b := (tx, .inr (4, [.ref la, .int (nI cl), .ref dl])) :: (la, .inl (g.2 7, 4, .inr (.inr (.inr (.inr f9))))) :: (w1 ++ (we ++ new3))) hk9 (fun x hx => by simp [hx])
                  refine va_astqM (E := "WolfsHead$Sum") hx hb X.1.2.2.2.2.2.2.2.2 hP hD hS 3 7 rfl rfl (va_rAny X.1.2.2.2.2.2.2.2.2 hP hj9 hcl0 (cast_any (X.2.1.1.2.2.1 _ hcast9))) bk dX3_read_134 (fun H locs hP hD hS => ?_)
                  have hP : va_P g.1 vwCl (tkw g r0 ta cT sz t3 ++ ((tx, .inr (4, [.ref la, .int (nI cl), .ref dl])) :: (la, .inl (g.2 7, 4, .inr (.inr (.inr (.inr (va_up f9 (t2.2.2.2.2.2 - 200).toNatClampNeg (some q3))))))) :: (w1 ++ (we ++ new3)))) H := hP
                  have hD : va_D A (tkw g r0 ta cT sz t3 ++ ((tx, .inr (4, [.ref la, .int (nI cl), .ref dl])) :: (la, .inl (g.2 7, 4, .inr (.inr (.inr (.inr (va_up f9 (t2.2.2.2.2.2 - 200).toNatClampNeg (some q3))))))) :: (w1 ++ (we ++ new3)))) := hD
                  refine lv_goto (tgt := 165) hx hb dX3_read_135 (by decide) ?_
                  refine lv_aload_n hx hb dX3_read_165 rfl (lv_at hl 1 rfl) ?_
                  refine lv_bipush (v := 59) hx hb dX3_read_166 (by decide) ?_
                  refine yP (rest := []) X hf (met_want hl0) gw_X3_X3_want dy_X3_want ⟨by first | omega | (dsimp only; omega), by first | omega | (dsimp only; omega)⟩ ⟨by first | omega | (dsimp only; omega), by first | omega | (dsimp only; omega)⟩ ⟨by first | omega | (dsimp only; omega), by first | omega | (dsimp only; omega)⟩ hP hD hS rfl hl.1 rfl (Nat.le_of_ble_eq_true rfl) dX3_read_168 (fun a5 t5 k5 n5 j5 i5 new5 rv H locs hf ek5 en5 hrep5 hP hD hS => ?_)
                  obtain ⟨rfl, rfl⟩ := hrep5
                  refine lv_aload_n hx hb dX3_read_171 rfl (lv_at hl 0 rfl) ?_
                  refine lv_dup hx hb dX3_read_172 rfl ?_
                  refine gN X.1 X.2.1.1 in_X4 hP 2 rfl rfl 1 (by decide) 14 rfl rfl dX3_read_173 ?_
                  refine lv_iconst (v := 1) hx hb dX3_read_176 (by decide) ?_
                  refine lv_iadd hx hb dX3_read_177 ?_
                  refine tpi (y := nI (cl + 1)) (nI_add cl 1).symm ?_
                  refine va_putN hx hb hts in_X4 tyX4 tyX4_ok nmX4 hown X.1.2.2.2.2.2.2.2.2 hP hD hS 2 rfl rfl 1 (by decide) (X.2.1.1.1.use 14 rfl) (fun _ h9 => h9) rfl (tyX4_ok 1 (by decide)) rfl rfl (Nat.le_of_ble_eq_true rfl) dX3_read_178 (fun H locs hP hD hS => ?_)
                  have hP : va_P g.1 vwCl (tkw g r0 ta cT sz t5 ++ ((tx, .inr (4, [.ref la, .int (nI (cl + 1)), .ref dl])) :: (la, .inl (g.2 7, 4, .inr (.inr (.inr (.inr (va_up f9 (t2.2.2.2.2.2 - 200).toNatClampNeg (some q3))))))) :: (w1 ++ (we ++ new3)))) H := hP
                  have hD : va_D A (tkw g r0 ta cT sz t5 ++ ((tx, .inr (4, [.ref la, .int (nI (cl + 1)), .ref dl])) :: (la, .inl (g.2 7, 4, .inr (.inr (.inr (.inr (va_up f9 (t2.2.2.2.2.2 - 200).toNatClampNeg (some q3))))))) :: (w1 ++ (we ++ new3)))) := hD
                  refine lv_goto (tgt := 12) hx hb dX3_read_181 (by decide) ?_
                  refine ih _ _ (we ++ new3) _ _ _ _ _ _ _ _ hf (by first | omega | (dsimp only; omega)) (by first | omega | (dsimp only; omega)) ⟨la, dl, _, fl, w1, rfl, hls, fun i hi => ?_, fun i hi => ?_⟩ (by omega) (by omega) hP hD hS (lv_sub hl [0, 1] rfl)
                  · by_cases hik : i = (t2.2.2.2.2.2 - 200).toNatClampNeg
                    · subst hik
                      exact Or.inr ⟨q3, a3, va_up_eq, va_up_eq, (rP_up g z (fun q hq => List.mem_append_right _ hq) (Nat.le_refl D)).1 _ _ hq3⟩
                    · rcases hlw i hi with ⟨e1, e2⟩ | ⟨r9, ev9, e1, e2, e3⟩
                      · exact Or.inl ⟨by rw [up_ne hik]; exact e1, by dsimp only; rw [up_ne hik]; exact e2⟩
                      · exact Or.inr ⟨r9, ev9, by rw [up_ne hik]; exact e1, by dsimp only; rw [up_ne hik]; exact e2, (rP_up g z (fun q hq => List.mem_append_left _ hq) (Nat.le_refl D)).1 _ _ e3⟩
                  · obtain ⟨y, p1, p2⟩ := hds i hi
                    exact ⟨y, p1, p2.up (fun q hq => List.mem_append_left _ hq)⟩
              · rw [if_pos ((clau cl hcl9).mp q7)] at hf
                refine lv_aload_n hx hb dX3_read_97 rfl (lv_at hl 1 rfl) ?_
                refine lv_bipush (v := 6) hx hb dX3_read_98 (by decide) ?_
                exact yErr hl0 X hf ⟨by first | omega | (dsimp only; omega), by first | omega | (dsimp only; omega)⟩ ⟨by first | omega | (dsimp only; omega), by first | omega | (dsimp only; omega)⟩ ⟨by first | omega | (dsimp only; omega), by first | omega | (dsimp only; omega)⟩ hP hD hS hl.1 dX3_read_100 dX3_read_103
          · rw [if_pos (Int32.not_le.mp q2)] at hf
            refine lv_aload_n hx hb dX3_read_42 rfl (lv_at hl 1 rfl) ?_
            refine lv_iconst (v := 1) hx hb dX3_read_43 (by decide) ?_
            exact yErr hl0 X hf ⟨by first | omega | (dsimp only; omega), by first | omega | (dsimp only; omega)⟩ ⟨by first | omega | (dsimp only; omega), by first | omega | (dsimp only; omega)⟩ ⟨by first | omega | (dsimp only; omega), by first | omega | (dsimp only; omega)⟩ hP hD hS hl.1 dX3_read_44 dX3_read_47
  refine hloop 30 _ t1 [] _ _ _ _ _ H locs _ hf rfl (Nat.le_refl _) ⟨la, dl, fun _ => none, fun _ => none, [(dl, .inr (17, [.int 0, .ref (z 4), .int 0]))], rfl, ⟨0, z 4, [], rfl, Or.inl ⟨rfl, rfl, rfl⟩⟩, fun i hi => Or.inl ⟨rfl, rfl⟩, fun i hi => absurd hi (Nat.not_lt_zero i)⟩ (by omega) (by omega) hP hD hS (lv_sub hl [0, 1] rfl)
