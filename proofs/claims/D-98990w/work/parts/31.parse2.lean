/-! both, either, ask, choice, one -/
def LA (g : gG) (z : Nat → Nat) (we : va_W) (D la c n : Nat) (bs : Nat → EvA) (W : va_W) : Prop := ∃ (f : Nat → Option Nat) (w1 : va_W), W = w1 ++ we ∧ LsW g z la c n f w1 ∧ ∀ i : Nat, i < c → ∃ y : Nat, f i = some y ∧ (rP g z we D).2 y (bs i)
theorem LA.grow {g : gG} {z : Nat → Nat} {we new : va_W} {D la c n : Nat} {bs : Nat → EvA} {W : va_W} (h : LA g z we D la c n bs W) : LA g z (we ++ new) D la c n bs (W ++ new) := by
  obtain ⟨f, w1, rfl, h1, h2⟩ := h
  refine ⟨f, w1, by simp, h1, fun i hi => ?_⟩
  obtain ⟨y, q1, q2⟩ := h2 i hi
  exact ⟨y, q1, (rP_up g z (fun q hq => List.mem_append_left _ hq) (Nat.le_refl D)).2 _ _ q2⟩
theorem LA.done {g : gG} {z : Nat → Nat} {we : va_W} {D la c n o9 : Nat} {fl : Int32} {bs : Nat → EvA} {W : va_W} (h : LA g z we D la c n bs W) (hc : 0 < c) : (rP g z ((o9, .inr (10, [.int fl, .ref la])) :: W) (D + 1)).2 o9 (evAll fl c bs) := by
  obtain ⟨f, w1, rfl, h1, h2⟩ := h
  refine Or.inr (Or.inr ⟨0, la, fl, c, bs, f, rfl, h1.ok hc (fun q hq => List.mem_cons_of_mem _ (List.mem_append_left _ hq)), fun i hi => ?_, rfl⟩)
  obtain ⟨y, q1, q2⟩ := h2 i hi
  exact ⟨y, q1, (rP_up g z (fun q hq => List.mem_cons_of_mem _ (List.mem_append_right _ hq)) (Nat.le_refl D)).2 _ _ q2⟩
theorem rP_cast {g : gG} {z : Nat → Nat} {w : va_W} {d r : Nat} {ev : EvA} (h : (rP g z w d).2 r ev) : ∃ (k ci : Nat) (fs : List Value) (C : String) (T : u_T) (N : Nat), w[k]? = some (r, .inr (ci, fs)) ∧ vwCl[ci]? = some (C, T, N) ∧ (C, "WolfsHead$Asked") ∈ xCast := by
  cases d with
  | zero => exact h.elim
  | succ d =>
    rcases h with ⟨k, c1, c2, s, e1, e2, hk, h1, h2, e9⟩ | ⟨k, c, b, hk, hc, e9⟩ | ⟨k, la, f, n, bs, f1, hk, hl1, he1, e9⟩
    all_goals exact ⟨k, _, _, _, _, _, hk, rfl, by decide +kernel⟩
theorem mem_end {w : va_W} {k : Nat} {q : Nat × va_E} {a b : va_W} (h : w[k]? = some q) (hs : ∀ x ∈ w, x ∈ a ++ b) : ∃ j : Nat, (a ++ b)[j]? = some q := List.mem_iff_getElem?.mp (hs _ (List.mem_of_getElem? h))
theorem ea00 : addK 0 0 = 1 := rfl
theorem es00 : addS 0 0 = 10 := rfl
theorem pm7 (a : Nat × va_E) (T W : va_W) : List.Perm ((T ++ W) ++ [a]) ([a] ++ (T ++ W)) := List.perm_append_comm
theorem pm8 (a : Nat × va_E) (T W : va_W) : List.Perm ([a] ++ (T ++ W)) (T ++ (a :: W)) := by
  show List.Perm (a :: (T ++ W)) (T ++ (a :: W))
  exact List.perm_middle.symm
theorem gw_X3_X3_ask : GoodIn lw_all (wsV RX3 143 RX3 yX3_ask (ws_ yX3_ask cX3_ask 3 (some (.object "WolfsHead$Asked")))) := lw_V q615 q617 qs15 q149 q618
theorem dy_X3_ask : Dy yX3_ask RX3 0 := by decide +kernel
theorem gw_X3_J2_add : GoodIn lw_all (wsV RX3 110 RJ2 yJ2_add (ws_ yJ2_add cJ2_add 2 (some .boolean))) := lw_V q645 q646 q647 q153 q648
theorem gw_X3_J2_size : GoodIn lw_all (wsV RX3 130 RJ2 yJ2_size (ws_ yJ2_size cJ2_size 1 (some .int))) := lw_V q707 q708 q709 q153 q710
theorem dyi_X10_init : Dy yX10_init RX10 2 ∧ yX10_init.name = "<init>" := ⟨by decide +kernel, rfl⟩
theorem gw_X3_J2_get : GoodIn lw_all (wsV RX3 132 RJ2 yJ2_get (ws_ yJ2_get cJ2_get 2 (some (.object "java/lang/Object")))) := lw_V q711 q712 q713 q153 q714
theorem met_both {l : Launch} (hl0 : l.stackTraces = false) {g : gG} {z : Nat → Nat} {r0 ta : Nat} {cT : Nat → Int32} {sz : Int32} {φ : Nat} {t : TS} {sub : TS → Rs EvA} {Fs Ls D : Nat} (hFs : 12 ≤ Fs) (hLs : 600 ≤ Ls) (hsub : ∀ t : TS, CP l yX3_ask (ws_ yX3_ask cX3_ask 3 (some (.object "WolfsHead$Asked"))) Fs Ls g z r0 ta cT sz [] t (sub t) (repA g z D)) : CP l yX3_both (ws_ yX3_both cX3_both 2 (some (.object "WolfsHead$Asked"))) (Fs + 1) (Ls + 40) g z r0 ta cT sz [] t (pAll (tkNext φ cT sz) 226 1 sub t) (repA g z (D + 1)) := by
  intro r t' k n0 hf
  refine CY.of RX3 rfl plain_X3 (Nat.le_of_ble_eq_true rfl) (fun p e s m below meth cd A ls X hP hD hS hl => ?_)
  have hx := X.1.1
  have hb := X.1.2.1
  have hown := X.1.2.2.2.2.2.1
  have hts := X.1.2.2.2.2.2.2.1
  have hl : lv_has ls 2 [(0, .ref r0)] := hl
  have hP : va_P g.1 vwCl (tkw g r0 ta cT sz t ++ []) s.heap := by rw [List.append_nil]; exact hP
  have hD : va_D A (tkw g r0 ta cT sz t ++ []) := by rw [List.append_nil]; exact hD
  unfold pAll at hf
  obtain ⟨k0, m0, hf, ek0, en0⟩ := pCs hf
  have ea := ea00
  have es := es00
  refine rNew X.1 in_J2 tyJ2 tyJ2_ok q609 q390 q153 hP hD hS (ci := 17) rfl [.int 0, .null, .int 0] (by decide) (by dsimp only; omega) (by dsimp only; omega) dX3_both_0 (fun la H hP hD hS => ?_)
  refine lv_dup hx hb dX3_both_3 rfl ?_
  obtain ⟨hP, hD⟩ := w_perm (b := [(la, .inr (17, [.int 0, .null, .int 0]))] ++ (tkw g r0 ta cT sz t ++ [])) hP hD (List.perm_append_comm)
  refine zI (rest := [.ref la]) X.1 X.2.1 (met_J2_init (g := g)) (lw_meth q393) q153 q610 q392 dyi_J2_init ⟨⟨rfl, rfl⟩, by dsimp only; omega, by dsimp only; omega⟩ ⟨by first | omega | (dsimp only; omega), by first | omega | (dsimp only; omega)⟩ hP hD hS rfl hl.1 rfl (Nat.le_of_ble_eq_true rfl) dX3_both_4 (fun H locs hP hD hS => ?_)
  obtain ⟨hP, hD⟩ := w_perm (b := tkw g r0 ta cT sz t ++ [(la, .inr (17, [.int 0, .ref (z 4), .int 0]))]) hP hD (pm8 (la, .inr (17, [.int 0, .ref (z 4), .int 0])) (tkw g r0 ta cT sz t) [])
  refine lv_astore_n (lv' := [(1, .ref la), (0, .ref r0)]) hx hb dX3_both_7 rfl hl (by decide) rfl (fun ls hl => ?_)
  refine lv_aload_n hx hb dX3_both_8 rfl (lv_at hl 0 rfl) ?_
  refine lv_aload_n hx hb dX3_both_9 rfl (lv_at hl 1 rfl) ?_
  refine yP (rest := [.ref la]) X hf (hsub _) gw_X3_X3_ask dy_X3_ask ⟨by first | omega | (dsimp only; omega), by first | omega | (dsimp only; omega)⟩ ⟨by first | omega | (dsimp only; omega), by first | omega | (dsimp only; omega)⟩ ⟨by first | omega | (dsimp only; omega), by first | omega | (dsimp only; omega)⟩ hP hD hS rfl hl.1 rfl (Nat.le_of_ble_eq_true rfl) dX3_both_10 (fun a1 t1 k1 n1 j1 i1 new1 rv H locs hf ek1 en1 hrep1 hP hD hS => ?_)
  obtain ⟨q1, rfl, hq1⟩ := hrep1
  obtain ⟨k3, m3, hf, ek3, en3⟩ := pCs hf
  obtain ⟨hP, hD⟩ := w_perm hP hD (pm6 (tkw g r0 ta cT sz t1) new1 [(la, .inr (17, [.int 0, .ref (z 4), .int 0]))])
  have hL0 : LsW g z la 0 0 (fun _ => none) [(la, .inr (17, [.int 0, .ref (z 4), .int 0]))] := ⟨0, z 4, [], rfl, Or.inl ⟨rfl, rfl, rfl⟩⟩
  refine yV (rest := []) (wf := (tkw g r0 ta cT sz t1)) X (met_add (px := fun _ _ => False) (we := new1) hL0 (Nat.zero_le _) (fun i y hi hy => absurd hi (Nat.not_lt_zero i)) (rP_el.2 _ _ hq1)) gw_X3_J2_add dy_J2_add ⟨⟨rfl, rfl⟩, by dsimp only; omega, by dsimp only; omega⟩ ⟨by first | omega | (dsimp only; omega), by first | omega | (dsimp only; omega)⟩ hP hD hS ⟨0, 17, _, _, _, rfl, rfl⟩ rfl hl.1 rfl (Nat.le_of_ble_eq_true rfl) dX3_both_13 ⟨by first | omega | (dsimp only; omega), by first | omega | (dsimp only; omega)⟩ (fun _ _ h => h.elim) (fun rv w9 H locs hpo hP hD hS => ?_)
  obtain ⟨w1, f1, rfl, rfl, hL1, -, hf1⟩ := hpo
  obtain ⟨hP, hD⟩ := w_perm (b := tkw g r0 ta cT sz t1 ++ (w1 ++ new1)) hP hD List.perm_append_comm
  have hLA1 : LA g z new1 D la 1 (capT 1) (fun _ => a1) (w1 ++ new1) := ⟨f1, w1, rfl, hL1, fun i hi => ⟨q1, by rw [show i = 0 by omega]; exact hf1, hq1⟩⟩
  refine lv_pop hx hb dX3_both_16 rfl ?_
  have hloop : ∀ (f c : Nat) (bz : Nat → EvA) (t : TS) (we Wc : va_W) (kk nn k2 n2 : Nat) (H : Heap) (locs : List Loc) (ls : Array Slot), pALoop (tkNext φ cT sz) 226 1 sub f c bz t = some (r, t', k2, n2) → c + f = 251 → 0 < c → LA g z we D la c (capT c) bz Wc → kk + k2 = k → nn + n2 = n0 → va_P g.1 vwCl (tkw g r0 ta cT sz t ++ Wc) H → va_D A (tkw g r0 ta cT sz t ++ Wc) → va_S A s.heap H locs → lv_has ls 2 [(1, .ref la), (0, .ref r0)] → W p l e ({ frames := Fs + 1, cells := k, slots := n0, locals := Ls + 40 } : Room) s m ([.ref r0] : List Value).toArray below meth cd H locs (kk) (nn) (vx_MQ below (QYr g (fun rv w' => ∃ a new, r = .inr a ∧ w' = tkw g r0 ta cT sz t' ++ new ∧ (repA g z (D + 1)) new rv a) A) (XYr g (pxT g r0 ta cT sz r t') A) ([.ref r0] : List Value).toArray s k n0 A) (F0 m 17 ls []) := by
    intro f
    induction f with
    | zero =>
      intro c bz t we Wc kk nn k2 n2 H locs ls hf
      exact nn9 hf
    | succ f ih =>
      intro c bz t we Wc kk nn k2 n2 H locs ls hf hcf hc hLA ek en hP hD hS hl
      unfold pALoop at hf
      refine lv_aload_n hx hb dX3_both_17 rfl (lv_at hl 1 rfl) ?_
      refine gT_sort X.1 hP dX3_both_18 ?_
      refine lv_sipush (v := 226) hx hb dX3_both_21 (by decide) ?_
      refine lv_icmp_ne (tgt := 43) hx hb dX3_both_24 (by decide) (fun q => ?_) (fun q => ?_)
      · rw [if_neg q] at hf
        have hLA9 := hLA
        obtain ⟨fx, wx, rfl, ⟨mc, ea9, tail, rfl, hcase⟩, hall⟩ := hLA9
        rcases hcase with ⟨h0, -, -⟩ | ⟨h0, h1, h2, h3, gar, rfl⟩
        · omega
        refine lv_aload_n hx hb dX3_both_43 rfl (lv_at hl 0 rfl) ?_
        refine cVi (rest := []) X.1 (met_size (g := g) (k := 2) rfl) gw_X3_J2_size dy_J2_size ⟨⟨rfl, rfl⟩, by dsimp only; omega, by dsimp only; omega⟩ hP hD hS hl.1 ⟨2, 17, _, _, _, rfl, rfl⟩ rfl rfl ⟨by first | omega | (dsimp only; omega), by first | omega | (dsimp only; omega)⟩ (Nat.le_of_ble_eq_true rfl) dX3_both_44 (fun H locs hP hD hS => ?_)
        refine lv_iconst (v := 1) hx hb dX3_both_47 (by decide) ?_
        refine lv_icmp_ne (tgt := 62) hx hb dX3_both_48 (by decide) (fun q2 => ?_) (fun q2 => ?_)
        · have hc1 : ¬ c = 1 := fun h => by subst h; exact absurd rfl q2
          rw [if_neg hc1] at hf
          obtain ⟨k5, m5, hf, ek5, en5⟩ := pCs hf
          cases hf
          refine rNew X.1 in_X10 tyX10 tyX10_ok q724 q725 q170 hP hD hS (ci := 10) rfl [.int 0, .null] (by decide) (by first | omega | (dsimp only; omega)) (by first | omega | (dsimp only; omega)) dX3_both_62 (fun o9 H hP hD hS => ?_)
          obtain ⟨hP, hD⟩ := w_perm hP hD (pm7 _ (tkw g r0 ta cT sz _) _)
          refine lv_dup hx hb dX3_both_65 rfl ?_
          refine lv_iconst (v := 1) hx hb dX3_both_66 (by decide) ?_
          refine lv_aload_n hx hb dX3_both_67 rfl (lv_at hl 0 rfl) ?_
          refine cIN (rest := [.ref o9]) X.1 X.2.1.1 22 (met_X10_init (g := g) (Or.inr rfl)) (lw_meth q728) q170 rfl q727 dyi_X10_init ⟨⟨rfl, rfl⟩, by dsimp only; omega, by dsimp only; omega⟩ ⟨by first | omega | (dsimp only; omega), by first | omega | (dsimp only; omega)⟩ hP hD hS rfl hl.1 rfl (Nat.le_of_ble_eq_true rfl) dX3_both_68 (fun H locs hP hD hS => ?_)
          obtain ⟨hP, hD⟩ := w_perm hP hD (pm8 _ (tkw g r0 ta cT sz _) _)
          exact yRr X ⟨_, _, rfl, rfl, o9, rfl, hLA.done hc⟩ hP hD hS ⟨by first | omega | (dsimp only; omega), by first | omega | (dsimp only; omega)⟩ dX3_both_71
        · have hc1 : c = 1 := (nI_eq (by omega) (by omega)).mp q2
          rw [if_pos hc1] at hf
          subst hc1
          cases hf
          obtain ⟨y9, hy1, hy2⟩ := hall 0 (by decide)
          refine lv_aload_n hx hb dX3_both_51 rfl (lv_at hl 0 rfl) ?_
          refine lv_iconst (v := 0) hx hb dX3_both_52 (by decide) ?_
          refine cVr (rest := []) X.1 (met_get (g := g) (k := 2) (j := 3) rfl rfl (by decide) (by decide) (vp_in_nI (n := 0) (by omega) (by omega)) hy1) gw_X3_J2_get dy_J2_get ⟨⟨rfl, rfl⟩, by dsimp only; omega, by dsimp only; omega⟩ hP hD hS hl.1 ⟨2, 17, _, _, _, rfl, rfl⟩ rfl rfl ⟨by first | omega | (dsimp only; omega), by first | omega | (dsimp only; omega)⟩ (Nat.le_of_ble_eq_true rfl) dX3_both_53 (fun H locs hP hD hS => ?_)
          obtain ⟨k9, ci9, fs9, C9, T9, N9, hk9, hcl9, hcast9⟩ := rP_cast hy2
          obtain ⟨j9, hj9⟩ := mem_end (a := tkw g r0 ta cT sz t') (b := (la, .inr (17, [.int mc, .ref ea9, .int (nI 1)])) :: (ea9, .inl (g.2 4, capT 1, .inr (.inr (.inr (.inr fx))))) :: gar ++ we) hk9 (fun x hx => List.mem_append_right _ (List.mem_append_right _ hx))
          refine va_castY hx hb hown (hts _ q723) (X.2.1.1.2.2.1 _ hcast9) (va_recv X.1.2.2.2.2.2.2.2.2 hP hcl9 hj9) dX3_both_56 ?_
          refine lv_goto (tgt := 71) hx hb dX3_both_59 (by decide) ?_
          exact yRr X ⟨_, _, rfl, rfl, y9, rfl, (rP_up g z (fun q hq => List.mem_append_right _ hq) (Nat.le_succ D)).2 _ _ hy2⟩ hP hD hS ⟨by first | omega | (dsimp only; omega), by first | omega | (dsimp only; omega)⟩ dX3_both_71
      · rw [if_pos q] at hf
        refine lv_aload_n hx hb dX3_both_27 rfl (lv_at hl 1 rfl) ?_
        obtain ⟨t2, hn_t2, hf⟩ := bs hf
        refine yNx (rest := []) X hn_t2 ⟨by first | omega | (dsimp only; omega), by first | omega | (dsimp only; omega)⟩ ⟨by first | omega | (dsimp only; omega), by first | omega | (dsimp only; omega)⟩ hP hD hS hl.1 (Nat.le_of_ble_eq_true rfl) dX3_both_28 (fun H locs hP hD hS => ?_)
        refine lv_aload_n hx hb dX3_both_31 rfl (lv_at hl 0 rfl) ?_
        refine lv_aload_n hx hb dX3_both_32 rfl (lv_at hl 1 rfl) ?_
        refine yP (rest := [.ref la]) X hf (hsub _) gw_X3_X3_ask dy_X3_ask ⟨by first | omega | (dsimp only; omega), by first | omega | (dsimp only; omega)⟩ ⟨by first | omega | (dsimp only; omega), by first | omega | (dsimp only; omega)⟩ ⟨by first | omega | (dsimp only; omega), by first | omega | (dsimp only; omega)⟩ hP hD hS rfl hl.1 rfl (Nat.le_of_ble_eq_true rfl) dX3_both_33 (fun a3 t3 k3 n3 j3 i3 new3 rv H locs hf ek3 en3 hrep3 hP hD hS => ?_)
        obtain ⟨q3, rfl, hq3⟩ := hrep3
        obtain ⟨k4, m4, hf, ek4, en4⟩ := pCs hf
        obtain ⟨hP, hD⟩ := w_perm hP hD (pm6 (tkw g r0 ta cT sz t3) new3 Wc)
        have hb9 := (rP_up g z (w := new3) (w' := we ++ new3) (fun q hq => List.mem_append_right _ hq) (Nat.le_refl D)).2 _ _ hq3
        obtain ⟨fx, wx, e9, hLx, hall⟩ := hLA.grow (new := new3)
        rw [e9] at hP hD
        refine yV (rest := []) (wf := (tkw g r0 ta cT sz t3)) X (met_add (px := fun _ _ => False) (we := (we ++ new3)) hLx (by omega) (fun i y hi hy => by obtain ⟨y2, p1, p2⟩ := hall i hi; cases hy.symm.trans p1; exact rP_el.2 _ _ p2) (rP_el.2 _ _ hb9)) gw_X3_J2_add dy_J2_add ⟨⟨rfl, rfl⟩, by dsimp only; omega, by dsimp only; omega⟩ ⟨by first | omega | (dsimp only; omega), by first | omega | (dsimp only; omega)⟩ hP hD hS (by obtain ⟨mc, ea, tail, rfl, -⟩ := hLx; exact ⟨0, 17, _, _, _, rfl, rfl⟩) rfl hl.1 rfl (Nat.le_of_ble_eq_true rfl) dX3_both_36 ⟨by first | omega | (dsimp only; omega), by first | omega | (dsimp only; omega)⟩ (fun _ _ h => h.elim) (fun rv w9 H locs hpo hP hD hS => ?_)
        obtain ⟨w1', f1', rfl, rfl, hL1', hf0, hf1'⟩ := hpo
        obtain ⟨hP, hD⟩ := w_perm (b := tkw g r0 ta cT sz t3 ++ (w1' ++ (we ++ new3))) hP hD List.perm_append_comm
        refine lv_pop hx hb dX3_both_39 rfl ?_
        refine lv_goto (tgt := 17) hx hb dX3_both_40 (by decide) ?_
        refine ih (c + 1) _ _ (we ++ new3) _ _ _ _ _ _ _ _ hf (by omega) (by omega) ⟨f1', w1', rfl, hL1', fun i hi => ?_⟩ (by omega) (by omega) hP hD hS (lv_sub hl [0, 1] rfl)
        rcases Nat.lt_or_ge i c with hlt | hge
        · obtain ⟨y, p1, p2⟩ := hall i hlt
          exact ⟨y, by rw [hf0 i hlt]; exact p1, by rw [up_ne (by omega)]; exact p2⟩
        · have e : i = c := by omega
          subst e
          exact ⟨q3, hf1', by rw [va_up_eq]; exact hb9⟩
  exact hloop 250 1 _ t1 new1 _ _ _ _ _ H locs _ hf rfl (by decide) hLA1 (by omega) (by omega) hP hD hS (lv_sub hl [0, 1] rfl)
theorem gw_X3_X3_both : GoodIn lw_all (wsV RX3 126 RX3 yX3_both (ws_ yX3_both cX3_both 2 (some (.object "WolfsHead$Asked")))) := lw_V q611 q613 qs14 q149 q614
theorem dy_X3_both : Dy yX3_both RX3 0 := by decide +kernel
theorem met_either {l : Launch} (hl0 : l.stackTraces = false) {g : gG} {z : Nat → Nat} {r0 ta : Nat} {cT : Nat → Int32} {sz : Int32} {φ : Nat} {t : TS} {sub : TS → Rs EvA} {Fs Ls D : Nat} (hFs : 12 ≤ Fs) (hLs : 600 ≤ Ls) (hsub : ∀ t : TS, CP l yX3_both (ws_ yX3_both cX3_both 2 (some (.object "WolfsHead$Asked"))) Fs Ls g z r0 ta cT sz [] t (sub t) (repA g z D)) : CP l yX3_either (ws_ yX3_either cX3_either 2 (some (.object "WolfsHead$Asked"))) (Fs + 1) (Ls + 40) g z r0 ta cT sz [] t (pAll (tkNext φ cT sz) 225 0 sub t) (repA g z (D + 1)) := by
  intro r t' k n0 hf
  refine CY.of RX3 rfl plain_X3 (Nat.le_of_ble_eq_true rfl) (fun p e s m below meth cd A ls X hP hD hS hl => ?_)
  have hx := X.1.1
  have hb := X.1.2.1
  have hown := X.1.2.2.2.2.2.1
  have hts := X.1.2.2.2.2.2.2.1
  have hl : lv_has ls 2 [(0, .ref r0)] := hl
  have hP : va_P g.1 vwCl (tkw g r0 ta cT sz t ++ []) s.heap := by rw [List.append_nil]; exact hP
  have hD : va_D A (tkw g r0 ta cT sz t ++ []) := by rw [List.append_nil]; exact hD
  unfold pAll at hf
  obtain ⟨k0, m0, hf, ek0, en0⟩ := pCs hf
  have ea := ea00
  have es := es00
  refine rNew X.1 in_J2 tyJ2 tyJ2_ok q609 q390 q153 hP hD hS (ci := 17) rfl [.int 0, .null, .int 0] (by decide) (by dsimp only; omega) (by dsimp only; omega) dX3_either_0 (fun la H hP hD hS => ?_)
  refine lv_dup hx hb dX3_either_3 rfl ?_
  obtain ⟨hP, hD⟩ := w_perm (b := [(la, .inr (17, [.int 0, .null, .int 0]))] ++ (tkw g r0 ta cT sz t ++ [])) hP hD (List.perm_append_comm)
  refine zI (rest := [.ref la]) X.1 X.2.1 (met_J2_init (g := g)) (lw_meth q393) q153 q610 q392 dyi_J2_init ⟨⟨rfl, rfl⟩, by dsimp only; omega, by dsimp only; omega⟩ ⟨by first | omega | (dsimp only; omega), by first | omega | (dsimp only; omega)⟩ hP hD hS rfl hl.1 rfl (Nat.le_of_ble_eq_true rfl) dX3_either_4 (fun H locs hP hD hS => ?_)
  obtain ⟨hP, hD⟩ := w_perm (b := tkw g r0 ta cT sz t ++ [(la, .inr (17, [.int 0, .ref (z 4), .int 0]))]) hP hD (pm8 (la, .inr (17, [.int 0, .ref (z 4), .int 0])) (tkw g r0 ta cT sz t) [])
  refine lv_astore_n (lv' := [(1, .ref la), (0, .ref r0)]) hx hb dX3_either_7 rfl hl (by decide) rfl (fun ls hl => ?_)
  refine lv_aload_n hx hb dX3_either_8 rfl (lv_at hl 0 rfl) ?_
  refine lv_aload_n hx hb dX3_either_9 rfl (lv_at hl 1 rfl) ?_
  refine yP (rest := [.ref la]) X hf (hsub _) gw_X3_X3_both dy_X3_both ⟨by first | omega | (dsimp only; omega), by first | omega | (dsimp only; omega)⟩ ⟨by first | omega | (dsimp only; omega), by first | omega | (dsimp only; omega)⟩ ⟨by first | omega | (dsimp only; omega), by first | omega | (dsimp only; omega)⟩ hP hD hS rfl hl.1 rfl (Nat.le_of_ble_eq_true rfl) dX3_either_10 (fun a1 t1 k1 n1 j1 i1 new1 rv H locs hf ek1 en1 hrep1 hP hD hS => ?_)
  obtain ⟨q1, rfl, hq1⟩ := hrep1
  obtain ⟨k3, m3, hf, ek3, en3⟩ := pCs hf
  obtain ⟨hP, hD⟩ := w_perm hP hD (pm6 (tkw g r0 ta cT sz t1) new1 [(la, .inr (17, [.int 0, .ref (z 4), .int 0]))])
  have hL0 : LsW g z la 0 0 (fun _ => none) [(la, .inr (17, [.int 0, .ref (z 4), .int 0]))] := ⟨0, z 4, [], rfl, Or.inl ⟨rfl, rfl, rfl⟩⟩
  refine yV (rest := []) (wf := (tkw g r0 ta cT sz t1)) X (met_add (px := fun _ _ => False) (we := new1) hL0 (Nat.zero_le _) (fun i y hi hy => absurd hi (Nat.not_lt_zero i)) (rP_el.2 _ _ hq1)) gw_X3_J2_add dy_J2_add ⟨⟨rfl, rfl⟩, by dsimp only; omega, by dsimp only; omega⟩ ⟨by first | omega | (dsimp only; omega), by first | omega | (dsimp only; omega)⟩ hP hD hS ⟨0, 17, _, _, _, rfl, rfl⟩ rfl hl.1 rfl (Nat.le_of_ble_eq_true rfl) dX3_either_13 ⟨by first | omega | (dsimp only; omega), by first | omega | (dsimp only; omega)⟩ (fun _ _ h => h.elim) (fun rv w9 H locs hpo hP hD hS => ?_)
  obtain ⟨w1, f1, rfl, rfl, hL1, -, hf1⟩ := hpo
  obtain ⟨hP, hD⟩ := w_perm (b := tkw g r0 ta cT sz t1 ++ (w1 ++ new1)) hP hD List.perm_append_comm
  have hLA1 : LA g z new1 D la 1 (capT 1) (fun _ => a1) (w1 ++ new1) := ⟨f1, w1, rfl, hL1, fun i hi => ⟨q1, by rw [show i = 0 by omega]; exact hf1, hq1⟩⟩
  refine lv_pop hx hb dX3_either_16 rfl ?_
  have hloop : ∀ (f c : Nat) (bz : Nat → EvA) (t : TS) (we Wc : va_W) (kk nn k2 n2 : Nat) (H : Heap) (locs : List Loc) (ls : Array Slot), pALoop (tkNext φ cT sz) 225 0 sub f c bz t = some (r, t', k2, n2) → c + f = 251 → 0 < c → LA g z we D la c (capT c) bz Wc → kk + k2 = k → nn + n2 = n0 → va_P g.1 vwCl (tkw g r0 ta cT sz t ++ Wc) H → va_D A (tkw g r0 ta cT sz t ++ Wc) → va_S A s.heap H locs → lv_has ls 2 [(1, .ref la), (0, .ref r0)] → W p l e ({ frames := Fs + 1, cells := k, slots := n0, locals := Ls + 40 } : Room) s m ([.ref r0] : List Value).toArray below meth cd H locs (kk) (nn) (vx_MQ below (QYr g (fun rv w' => ∃ a new, r = .inr a ∧ w' = tkw g r0 ta cT sz t' ++ new ∧ (repA g z (D + 1)) new rv a) A) (XYr g (pxT g r0 ta cT sz r t') A) ([.ref r0] : List Value).toArray s k n0 A) (F0 m 17 ls []) := by
    intro f
    induction f with
    | zero =>
      intro c bz t we Wc kk nn k2 n2 H locs ls hf
      exact nn9 hf
    | succ f ih =>
      intro c bz t we Wc kk nn k2 n2 H locs ls hf hcf hc hLA ek en hP hD hS hl
      unfold pALoop at hf
      refine lv_aload_n hx hb dX3_either_17 rfl (lv_at hl 1 rfl) ?_
      refine gT_sort X.1 hP dX3_either_18 ?_
      refine lv_sipush (v := 225) hx hb dX3_either_21 (by decide) ?_
      refine lv_icmp_ne (tgt := 43) hx hb dX3_either_24 (by decide) (fun q => ?_) (fun q => ?_)
      · rw [if_neg q] at hf
        have hLA9 := hLA
        obtain ⟨fx, wx, rfl, ⟨mc, ea9, tail, rfl, hcase⟩, hall⟩ := hLA9
        rcases hcase with ⟨h0, -, -⟩ | ⟨h0, h1, h2, h3, gar, rfl⟩
        · omega
        refine lv_aload_n hx hb dX3_either_43 rfl (lv_at hl 0 rfl) ?_
        refine cVi (rest := []) X.1 (met_size (g := g) (k := 2) rfl) gw_X3_J2_size dy_J2_size ⟨⟨rfl, rfl⟩, by dsimp only; omega, by dsimp only; omega⟩ hP hD hS hl.1 ⟨2, 17, _, _, _, rfl, rfl⟩ rfl rfl ⟨by first | omega | (dsimp only; omega), by first | omega | (dsimp only; omega)⟩ (Nat.le_of_ble_eq_true rfl) dX3_either_44 (fun H locs hP hD hS => ?_)
        refine lv_iconst (v := 1) hx hb dX3_either_47 (by decide) ?_
        refine lv_icmp_ne (tgt := 62) hx hb dX3_either_48 (by decide) (fun q2 => ?_) (fun q2 => ?_)
        · have hc1 : ¬ c = 1 := fun h => by subst h; exact absurd rfl q2
          rw [if_neg hc1] at hf
          obtain ⟨k5, m5, hf, ek5, en5⟩ := pCs hf
          cases hf
          refine rNew X.1 in_X10 tyX10 tyX10_ok q724 q725 q170 hP hD hS (ci := 10) rfl [.int 0, .null] (by decide) (by first | omega | (dsimp only; omega)) (by first | omega | (dsimp only; omega)) dX3_either_62 (fun o9 H hP hD hS => ?_)
          obtain ⟨hP, hD⟩ := w_perm hP hD (pm7 _ (tkw g r0 ta cT sz _) _)
          refine lv_dup hx hb dX3_either_65 rfl ?_
          refine lv_iconst (v := 0) hx hb dX3_either_66 (by decide) ?_
          refine lv_aload_n hx hb dX3_either_67 rfl (lv_at hl 0 rfl) ?_
          refine cIN (rest := [.ref o9]) X.1 X.2.1.1 22 (met_X10_init (g := g) (Or.inl rfl)) (lw_meth q728) q170 rfl q727 dyi_X10_init ⟨⟨rfl, rfl⟩, by dsimp only; omega, by dsimp only; omega⟩ ⟨by first | omega | (dsimp only; omega), by first | omega | (dsimp only; omega)⟩ hP hD hS rfl hl.1 rfl (Nat.le_of_ble_eq_true rfl) dX3_either_68 (fun H locs hP hD hS => ?_)
          obtain ⟨hP, hD⟩ := w_perm hP hD (pm8 _ (tkw g r0 ta cT sz _) _)
          exact yRr X ⟨_, _, rfl, rfl, o9, rfl, hLA.done hc⟩ hP hD hS ⟨by first | omega | (dsimp only; omega), by first | omega | (dsimp only; omega)⟩ dX3_either_71
        · have hc1 : c = 1 := (nI_eq (by omega) (by omega)).mp q2
          rw [if_pos hc1] at hf
          subst hc1
          cases hf
          obtain ⟨y9, hy1, hy2⟩ := hall 0 (by decide)
          refine lv_aload_n hx hb dX3_either_51 rfl (lv_at hl 0 rfl) ?_
          refine lv_iconst (v := 0) hx hb dX3_either_52 (by decide) ?_
          refine cVr (rest := []) X.1 (met_get (g := g) (k := 2) (j := 3) rfl rfl (by decide) (by decide) (vp_in_nI (n := 0) (by omega) (by omega)) hy1) gw_X3_J2_get dy_J2_get ⟨⟨rfl, rfl⟩, by dsimp only; omega, by dsimp only; omega⟩ hP hD hS hl.1 ⟨2, 17, _, _, _, rfl, rfl⟩ rfl rfl ⟨by first | omega | (dsimp only; omega), by first | omega | (dsimp only; omega)⟩ (Nat.le_of_ble_eq_true rfl) dX3_either_53 (fun H locs hP hD hS => ?_)
          obtain ⟨k9, ci9, fs9, C9, T9, N9, hk9, hcl9, hcast9⟩ := rP_cast hy2
          obtain ⟨j9, hj9⟩ := mem_end (a := tkw g r0 ta cT sz t') (b := (la, .inr (17, [.int mc, .ref ea9, .int (nI 1)])) :: (ea9, .inl (g.2 4, capT 1, .inr (.inr (.inr (.inr fx))))) :: gar ++ we) hk9 (fun x hx => List.mem_append_right _ (List.mem_append_right _ hx))
          refine va_castY hx hb hown (hts _ q723) (X.2.1.1.2.2.1 _ hcast9) (va_recv X.1.2.2.2.2.2.2.2.2 hP hcl9 hj9) dX3_either_56 ?_
          refine lv_goto (tgt := 71) hx hb dX3_either_59 (by decide) ?_
          exact yRr X ⟨_, _, rfl, rfl, y9, rfl, (rP_up g z (fun q hq => List.mem_append_right _ hq) (Nat.le_succ D)).2 _ _ hy2⟩ hP hD hS ⟨by first | omega | (dsimp only; omega), by first | omega | (dsimp only; omega)⟩ dX3_either_71
      · rw [if_pos q] at hf
        refine lv_aload_n hx hb dX3_either_27 rfl (lv_at hl 1 rfl) ?_
        obtain ⟨t2, hn_t2, hf⟩ := bs hf
        refine yNx (rest := []) X hn_t2 ⟨by first | omega | (dsimp only; omega), by first | omega | (dsimp only; omega)⟩ ⟨by first | omega | (dsimp only; omega), by first | omega | (dsimp only; omega)⟩ hP hD hS hl.1 (Nat.le_of_ble_eq_true rfl) dX3_either_28 (fun H locs hP hD hS => ?_)
        refine lv_aload_n hx hb dX3_either_31 rfl (lv_at hl 0 rfl) ?_
        refine lv_aload_n hx hb dX3_either_32 rfl (lv_at hl 1 rfl) ?_
        refine yP (rest := [.ref la]) X hf (hsub _) gw_X3_X3_both dy_X3_both ⟨by first | omega | (dsimp only; omega), by first | omega | (dsimp only; omega)⟩ ⟨by first | omega | (dsimp only; omega), by first | omega | (dsimp only; omega)⟩ ⟨by first | omega | (dsimp only; omega), by first | omega | (dsimp only; omega)⟩ hP hD hS rfl hl.1 rfl (Nat.le_of_ble_eq_true rfl) dX3_either_33 (fun a3 t3 k3 n3 j3 i3 new3 rv H locs hf ek3 en3 hrep3 hP hD hS => ?_)
        obtain ⟨q3, rfl, hq3⟩ := hrep3
        obtain ⟨k4, m4, hf, ek4, en4⟩ := pCs hf
        obtain ⟨hP, hD⟩ := w_perm hP hD (pm6 (tkw g r0 ta cT sz t3) new3 Wc)
        have hb9 := (rP_up g z (w := new3) (w' := we ++ new3) (fun q hq => List.mem_append_right _ hq) (Nat.le_refl D)).2 _ _ hq3
        obtain ⟨fx, wx, e9, hLx, hall⟩ := hLA.grow (new := new3)
        rw [e9] at hP hD
        refine yV (rest := []) (wf := (tkw g r0 ta cT sz t3)) X (met_add (px := fun _ _ => False) (we := (we ++ new3)) hLx (by omega) (fun i y hi hy => by obtain ⟨y2, p1, p2⟩ := hall i hi; cases hy.symm.trans p1; exact rP_el.2 _ _ p2) (rP_el.2 _ _ hb9)) gw_X3_J2_add dy_J2_add ⟨⟨rfl, rfl⟩, by dsimp only; omega, by dsimp only; omega⟩ ⟨by first | omega | (dsimp only; omega), by first | omega | (dsimp only; omega)⟩ hP hD hS (by obtain ⟨mc, ea, tail, rfl, -⟩ := hLx; exact ⟨0, 17, _, _, _, rfl, rfl⟩) rfl hl.1 rfl (Nat.le_of_ble_eq_true rfl) dX3_either_36 ⟨by first | omega | (dsimp only; omega), by first | omega | (dsimp only; omega)⟩ (fun _ _ h => h.elim) (fun rv w9 H locs hpo hP hD hS => ?_)
        obtain ⟨w1', f1', rfl, rfl, hL1', hf0, hf1'⟩ := hpo
        obtain ⟨hP, hD⟩ := w_perm (b := tkw g r0 ta cT sz t3 ++ (w1' ++ (we ++ new3))) hP hD List.perm_append_comm
        refine lv_pop hx hb dX3_either_39 rfl ?_
        refine lv_goto (tgt := 17) hx hb dX3_either_40 (by decide) ?_
        refine ih (c + 1) _ _ (we ++ new3) _ _ _ _ _ _ _ _ hf (by omega) (by omega) ⟨f1', w1', rfl, hL1', fun i hi => ?_⟩ (by omega) (by omega) hP hD hS (lv_sub hl [0, 1] rfl)
        rcases Nat.lt_or_ge i c with hlt | hge
        · obtain ⟨y, p1, p2⟩ := hall i hlt
          exact ⟨y, by rw [hf0 i hlt]; exact p1, by rw [up_ne (by omega)]; exact p2⟩
        · have e : i = c := by omega
          subst e
          exact ⟨q3, hf1', by rw [va_up_eq]; exact hb9⟩
  exact hloop 250 1 _ t1 new1 _ _ _ _ _ H locs _ hf rfl (by decide) hLA1 (by omega) (by omega) hP hD hS (lv_sub hl [0, 1] rfl)
