/-! product, sum, both, either, ask, choice, one -/
def repS (g : gG) (z : Nat → Nat) (D : Nat) : va_W → Option Value → EvS → Prop := fun new rv a => ∃ q : Nat, rv = some (.ref q) ∧ (rP g z new D).1 q a
def repA (g : gG) (z : Nat → Nat) (D : Nat) : va_W → Option Value → EvA → Prop := fun new rv a => ∃ q : Nat, rv = some (.ref q) ∧ (rP g z new D).2 q a
theorem pm4 (a b c : Nat × va_E) (T N : va_W) : List.Perm ([a, b, c] ++ (T ++ N)) (T ++ (a :: ([b] ++ ([c] ++ N)))) := by
  show List.Perm ([a, b, c] ++ (T ++ N)) (T ++ ([a, b, c] ++ N))
  rw [← List.append_assoc, ← List.append_assoc]
  exact List.perm_append_comm.append_right N
theorem pm5 (a : Nat × va_E) (T N : va_W) : List.Perm (T ++ (N ++ [a])) ([a] ++ (T ++ N)) := by
  rw [← List.append_assoc]
  exact List.perm_append_comm
theorem pm6 (T N W : va_W) : List.Perm (T ++ (N ++ W)) ((W ++ N) ++ T) := (List.perm_append_comm).trans (List.perm_append_comm.append_right T)
theorem vb_43 : ∃ k : Nat, k < 256 ∧ (43 : Int32) = vb_c k := ⟨171, by decide, by decide⟩
theorem vb_45 : ∃ k : Nat, k < 256 ∧ (45 : Int32) = vb_c k := ⟨173, by decide, by decide⟩
theorem vb_42 : ∃ k : Nat, k < 256 ∧ (42 : Int32) = vb_c k := ⟨170, by decide, by decide⟩
theorem vb_47 : ∃ k : Nat, k < 256 ∧ (47 : Int32) = vb_c k := ⟨175, by decide, by decide⟩
theorem oc_lt {h : Nat} (hb : h < 250) : h ≤ 250 := by omega
theorem CH.one {g : gG} {z : Nat → Nat} {we : va_W} {D rc fr l1 l2 : Nat} {e0 : EvS} {es : Nat → EvS} {sg : Nat → Int32} (h : (rP g z we D).1 fr e0) : CH g z we D rc e0 0 (capT 0) es sg ((rc, .inr (6, [.ref fr, .ref l1, .ref l2])) :: ([(l1, .inr (17, [.int 0, .ref (z 4), .int 0]))] ++ ([(l2, .inr (17, [.int 0, .ref (z 4), .int 0]))] ++ we))) :=
  ⟨fr, l1, l2, fun _ => none, fun _ => none, _, _, rfl, h, ⟨0, z 4, [], rfl, Or.inl ⟨rfl, rfl, rfl⟩⟩, ⟨0, z 4, [], rfl, Or.inl ⟨rfl, rfl, rfl⟩⟩, fun i hi => absurd hi (Nat.not_lt_zero i), fun i hi => absurd hi (Nat.not_lt_zero i)⟩
theorem nn9 {α : Type} {r : α} {P : Prop} (h : (none : Option α) = some r) : P := by cases h
theorem gw_X3_X3_one : GoodIn lw_all (wsV RX3 173 RX3 yX3_one (ws_ yX3_one cX3_one 5 (some (.object "WolfsHead$Sum")))) := lw_V q576 q578 qs9 q149 q579
theorem dy_X3_one : Dy yX3_one RX3 0 := by decide +kernel
theorem dyi_X6_init : Dy yX6_init RX6 1 ∧ yX6_init.name = "<init>" := ⟨by decide +kernel, rfl⟩
theorem dy_X6_add : Dy yX6_add RX6 2 := by decide +kernel
theorem gw_X3_X6_add : GoodIn lw_all (wsV RX3 167 RX6 yX6_add (ws_ yX6_add cX6_add 3 none)) := lw_V q823 q824 q825 q162 q826
theorem dy_X6_itself : Dy yX6_itself RX6 0 := by decide +kernel
theorem gw_X3_X6_itself : GoodIn lw_all (wsV RX3 170 RX6 yX6_itself (ws_ yX6_itself cX6_itself 1 (some (.object "WolfsHead$Sum")))) := lw_V q848 q849 q850 q162 q851
theorem met_product {l : Launch} (hl0 : l.stackTraces = false) {g : gG} {z : Nat → Nat} {r0 ta : Nat} {cT : Nat → Int32} {sz : Int32} {φ : Nat} {t : TS} {sub : TS → Rs EvS} {Fs Ls D : Nat} (hFs : 12 ≤ Fs) (hLs : 600 ≤ Ls) (hsub : ∀ t : TS, CP l yX3_one (ws_ yX3_one cX3_one 5 (some (.object "WolfsHead$Sum"))) Fs Ls g z r0 ta cT sz [] t (sub t) (repS g z D)) : CP l yX3_product (ws_ yX3_product cX3_product 3 (some (.object "WolfsHead$Sum"))) (Fs + 1) (Ls + 40) g z r0 ta cT sz [] t (pChain (tkNext φ cT sz) 42 47 sub t) (repS g z (D + 1)) := by
  intro r t' k n0 hf
  refine CY.of RX3 rfl plain_X3 (Nat.le_of_ble_eq_true rfl) (fun p e s m below meth cd A ls X hP hD hS hl => ?_)
  have hx := X.1.1
  have hb := X.1.2.1
  have hown := X.1.2.2.2.2.2.1
  have hts := X.1.2.2.2.2.2.2.1
  have hl : lv_has ls 3 [(0, .ref r0)] := hl
  have hP : va_P g.1 vwCl (tkw g r0 ta cT sz t ++ []) s.heap := by rw [List.append_nil]; exact hP
  have hD : va_D A (tkw g r0 ta cT sz t ++ []) := by rw [List.append_nil]; exact hD
  unfold pChain at hf
  obtain ⟨k0, m0, hf, ek0, en0⟩ := pCs hf
  refine rNew X.1 in_X6 tyX6 tyX6_ok q570 q571 q162 hP hD hS (ci := 6) rfl [.null, .null, .null] (by decide) (by first | omega | (dsimp only; omega)) (by first | omega | (dsimp only; omega)) dX3_product_0 (fun rc H hP hD hS => ?_)
  have hP : va_P g.1 vwCl (tkw g r0 ta cT sz t ++ [(rc, .inr (6, [.null, .null, .null]))]) H := hP
  have hD : va_D A (tkw g r0 ta cT sz t ++ [(rc, .inr (6, [.null, .null, .null]))]) := hD
  refine lv_dup hx hb dX3_product_3 rfl ?_
  refine lv_aload_n hx hb dX3_product_4 rfl (lv_at hl 0 rfl) ?_
  refine yP (rest := [.ref rc, .ref rc]) X hf (hsub _) gw_X3_X3_one dy_X3_one ⟨by first | omega | (dsimp only; omega), by first | omega | (dsimp only; omega)⟩ ⟨by first | omega | (dsimp only; omega), by first | omega | (dsimp only; omega)⟩ ⟨by first | omega | (dsimp only; omega), by first | omega | (dsimp only; omega)⟩ hP hD hS rfl hl.1 rfl (Nat.le_of_ble_eq_true rfl) dX3_product_5 (fun a1 t1 k1 n1 j1 i1 new1 rv H locs hf ek1 en1 hrep1 hP hD hS => ?_)
  obtain ⟨q1, rfl, hq1⟩ := hrep1
  obtain ⟨k3, m3, hf, ek3, en3⟩ := pCs hf
  obtain ⟨hP, hD⟩ := w_perm hP hD (pm5 (rc, .inr (6, [.null, .null, .null])) (tkw g r0 ta cT sz t1) new1)
  refine yI (rest := [.ref rc]) X (met_X6_init (px := fun _ _ => False)) (lw_meth q809) q162 q807 q808 dyi_X6_init ⟨⟨rfl, rfl⟩, by dsimp only; omega, by dsimp only; omega⟩ ⟨by first | omega | (dsimp only; omega), by first | omega | (dsimp only; omega)⟩ hP hD hS rfl hl.1 rfl (Nat.le_of_ble_eq_true rfl) dX3_product_8 ⟨by first | omega | (dsimp only; omega), by first | omega | (dsimp only; omega)⟩ (fun _ _ h => h.elim) (fun rv w9 H locs hpo hP hD hS => ?_)
  obtain ⟨l1, l2, rfl, rfl⟩ := hpo
  obtain ⟨hP, hD⟩ := w_perm hP hD (pm4 _ _ _ (tkw g r0 ta cT sz t1) new1)
  refine lv_astore_n (lv' := [(1, .ref rc), (0, .ref r0)]) hx hb dX3_product_11 rfl hl (by decide) rfl (fun ls hl => ?_)
  have hloop : ∀ (f c : Nat) (es : Nat → EvS) (sg : Nat → Int32) (t : TS) (we Wc : va_W) (kk nn k2 n2 : Nat) (H : Heap) (locs : List Loc) (ls : Array Slot), pCLoop (tkNext φ cT sz) 42 47 sub f a1 c es sg t = some (r, t', k2, n2) → c + f = 250 → CH g z we D rc a1 c (capT c) es sg Wc → kk + k2 = k → nn + n2 = n0 → va_P g.1 vwCl (tkw g r0 ta cT sz t ++ Wc) H → va_D A (tkw g r0 ta cT sz t ++ Wc) → va_S A s.heap H locs → lv_has ls 3 [(1, .ref rc), (0, .ref r0)] → W p l e ({ frames := Fs + 1, cells := k, slots := n0, locals := Ls + 40 } : Room) s m ([.ref r0] : List Value).toArray below meth cd H locs (kk) (nn) (vx_MQ below (QYr g (fun rv w' => ∃ a new, r = .inr a ∧ w' = tkw g r0 ta cT sz t' ++ new ∧ (repS g z (D + 1)) new rv a) A) (XYr g (pxT g r0 ta cT sz r t') A) ([.ref r0] : List Value).toArray s k n0 A) (F0 m 12 ls []) := by
    intro f
    induction f with
    | zero =>
      intro c es sg t we Wc kk nn k2 n2 H locs ls hf
      exact nn9 hf
    | succ f ih =>
      intro c es sg t we Wc kk nn k2 n2 H locs ls hf hcf hCH ek en hP hD hS hl
      unfold pCLoop at hf
      by_cases hq : t.2.2.1 = 42 ∨ t.2.2.1 = 47
      · rw [if_pos hq] at hf
        have hbody : W p l e ({ frames := Fs + 1, cells := k, slots := n0, locals := Ls + 40 } : Room) s m ([.ref r0] : List Value).toArray below meth cd H locs (kk) (nn) (vx_MQ below (QYr g (fun rv w' => ∃ a new, r = .inr a ∧ w' = tkw g r0 ta cT sz t' ++ new ∧ (repS g z (D + 1)) new rv a) A) (XYr g (pxT g r0 ta cT sz r t') A) ([.ref r0] : List Value).toArray s k n0 A) (F0 m 30 ls []) := by
          obtain ⟨k9, hk9, hv⟩ : ∃ k : Nat, k < 256 ∧ t.2.2.1 = vb_c k := by
            rcases hq with h | h
            · rw [h]; exact vb_42
            · rw [h]; exact vb_47
          refine lv_aload_n hx hb dX3_product_30 rfl (lv_at hl 1 rfl) ?_
          refine gT_sort X.1 hP dX3_product_31 ?_
          refine tpi (y := vb_c k9) hv.symm ?_
          rw [hv] at hf
          refine lv_istore_n (lv' := [(2, .int (vb_c k9)), (1, .ref rc), (0, .ref r0)]) hx hb dX3_product_34 rfl hl (by decide) rfl (fun ls hl => ?_)
          refine lv_aload_n hx hb dX3_product_35 rfl (lv_at hl 2 rfl) ?_
          obtain ⟨t2, hn_t2, hf⟩ := bs hf
          refine yNx (rest := []) X hn_t2 ⟨by first | omega | (dsimp only; omega), by first | omega | (dsimp only; omega)⟩ ⟨by first | omega | (dsimp only; omega), by first | omega | (dsimp only; omega)⟩ hP hD hS hl.1 (Nat.le_of_ble_eq_true rfl) dX3_product_36 (fun H locs hP hD hS => ?_)
          refine lv_aload_n hx hb dX3_product_39 rfl (lv_at hl 1 rfl) ?_
          refine lv_iload_n hx hb dX3_product_40 rfl (lv_at hl 0 rfl) ?_
          refine lv_aload_n hx hb dX3_product_41 rfl (lv_at hl 2 rfl) ?_
          refine yP (rest := [.int (vb_c k9), .ref rc]) X hf (hsub _) gw_X3_X3_one dy_X3_one ⟨by first | omega | (dsimp only; omega), by first | omega | (dsimp only; omega)⟩ ⟨by first | omega | (dsimp only; omega), by first | omega | (dsimp only; omega)⟩ ⟨by first | omega | (dsimp only; omega), by first | omega | (dsimp only; omega)⟩ hP hD hS rfl hl.1 rfl (Nat.le_of_ble_eq_true rfl) dX3_product_42 (fun a3 t3 k3 n3 j3 i3 new3 rv H locs hf ek3 en3 hrep3 hP hD hS => ?_)
          obtain ⟨q3, rfl, hq3⟩ := hrep3
          obtain ⟨k4, m4, hf, ek4, en4⟩ := pCs hf
          obtain ⟨hP, hD⟩ := w_perm hP hD (pm6 (tkw g r0 ta cT sz t3) new3 Wc)
          have hCH2 := hCH.grow (new := new3)
          have hx9 := (rP_up g z (w := new3) (w' := we ++ new3) (fun q hq => List.mem_append_right _ hq) (Nat.le_refl D)).1 _ _ hq3
          refine yV (rest := []) (wf := tkw g r0 ta cT sz t3) X (met_chadd (px := fun _ _ => False) hCH2 (by omega) hk9 hx9) gw_X3_X6_add dy_X6_add ⟨⟨rfl, rfl⟩, by dsimp only; omega, by dsimp only; omega⟩ ⟨by first | omega | (dsimp only; omega), by first | omega | (dsimp only; omega)⟩ hP hD hS (by obtain ⟨fr, l1, l2, f1, f2, w1, w2, e9, -⟩ := hCH2; rw [e9]; exact ⟨0, 6, _, _, _, rfl, rfl⟩) rfl hl.1 rfl (Nat.le_of_ble_eq_true rfl) dX3_product_45 ⟨by first | omega | (dsimp only; omega), by first | omega | (dsimp only; omega)⟩ (fun _ _ h => h.elim) (fun rv w9 H locs hpo hP hD hS => ?_)
          obtain ⟨rfl, hCH3⟩ := hpo
          obtain ⟨hP, hD⟩ := w_perm (b := tkw g r0 ta cT sz t3 ++ w9) hP hD List.perm_append_comm
          refine lv_goto (tgt := 12) hx hb dX3_product_48 (by decide) ?_
          exact ih (c + 1) _ _ _ _ _ _ _ _ _ _ _ _ hf (by omega) hCH3 (by omega) (by omega) hP hD hS (lv_sub hl [1, 2] rfl)
        refine lv_aload_n hx hb dX3_product_12 rfl (lv_at hl 1 rfl) ?_
        refine gT_sort X.1 hP dX3_product_13 ?_
        refine lv_bipush (v := 42) hx hb dX3_product_16 (by decide) ?_
        refine lv_icmp_eq (tgt := 30) hx hb dX3_product_18 (by decide) (fun q => ?_) (fun q => ?_)
        · exact hbody
        · refine lv_aload_n hx hb dX3_product_21 rfl (lv_at hl 1 rfl) ?_
          refine gT_sort X.1 hP dX3_product_22 ?_
          refine lv_bipush (v := 47) hx hb dX3_product_25 (by decide) ?_
          refine lv_icmp_ne (tgt := 51) hx hb dX3_product_27 (by decide) (fun q2 => absurd hq (fun h => h.elim q q2)) (fun _ => hbody)
      · rw [if_neg hq] at hf
        unfold pOk at hf
        cases hf
        refine lv_aload_n hx hb dX3_product_12 rfl (lv_at hl 1 rfl) ?_
        refine gT_sort X.1 hP dX3_product_13 ?_
        refine lv_bipush (v := 42) hx hb dX3_product_16 (by decide) ?_
        refine lv_icmp_eq (tgt := 30) hx hb dX3_product_18 (by decide) (fun q => absurd (Or.inl q) hq) (fun _ => ?_)
        refine lv_aload_n hx hb dX3_product_21 rfl (lv_at hl 1 rfl) ?_
        refine gT_sort X.1 hP dX3_product_22 ?_
        refine lv_bipush (v := 47) hx hb dX3_product_25 (by decide) ?_
        refine lv_icmp_ne (tgt := 51) hx hb dX3_product_27 (by decide) (fun _ => ?_) (fun q => absurd (Or.inr q) hq)
        refine lv_aload_n hx hb dX3_product_51 rfl (lv_at hl 0 rfl) ?_
        have hCH9 := hCH
        obtain ⟨fr, l1, l2, f1, f2, w1, w2, e9, h1, ⟨mc, ea, tail, rfl, hcase⟩, -, -, -⟩ := hCH9
        subst e9
        refine cVr (rest := []) X.1 (met_itself (g := g) (k := 2) (j := 3) rfl rfl (by omega)) gw_X3_X6_itself dy_X6_itself ⟨⟨rfl, rfl⟩, by dsimp only; omega, by dsimp only; omega⟩ hP hD hS hl.1 ⟨2, 6, _, _, _, rfl, rfl⟩ rfl rfl ⟨by first | omega | (dsimp only; omega), by first | omega | (dsimp only; omega)⟩ (Nat.le_of_ble_eq_true rfl) dX3_product_52 (fun H locs hP hD hS => ?_)
        refine yRr X ⟨_, _, rfl, rfl, _, rfl, ?_⟩ hP hD hS ⟨by first | omega | (dsimp only; omega), by first | omega | (dsimp only; omega)⟩ dX3_product_55
        by_cases hc0 : c = 0
        · rw [if_pos hc0, if_pos hc0]
          exact (rP_up g z (fun q hq => List.mem_cons_of_mem _ (List.mem_append_right _ (List.mem_append_right _ hq))) (Nat.le_succ D)).1 _ _ h1
        · rw [if_neg hc0, if_neg hc0]
          exact hCH.done (by omega)
  exact hloop 250 0 _ _ t1 new1 _ _ _ _ _ H locs _ hf rfl (CH.one hq1) (by omega) (by omega) hP hD hS (lv_sub hl [0, 1] rfl)
theorem gw_X3_X3_product : GoodIn lw_all (wsV RX3 161 RX3 yX3_product (ws_ yX3_product cX3_product 3 (some (.object "WolfsHead$Sum")))) := lw_V q572 q574 qs8 q149 q575
theorem dy_X3_product : Dy yX3_product RX3 0 := by decide +kernel
theorem met_sum {l : Launch} (hl0 : l.stackTraces = false) {g : gG} {z : Nat → Nat} {r0 ta : Nat} {cT : Nat → Int32} {sz : Int32} {φ : Nat} {t : TS} {sub : TS → Rs EvS} {Fs Ls D : Nat} (hFs : 12 ≤ Fs) (hLs : 600 ≤ Ls) (hsub : ∀ t : TS, CP l yX3_product (ws_ yX3_product cX3_product 3 (some (.object "WolfsHead$Sum"))) Fs Ls g z r0 ta cT sz [] t (sub t) (repS g z D)) : CP l yX3_sum (ws_ yX3_sum cX3_sum 3 (some (.object "WolfsHead$Sum"))) (Fs + 1) (Ls + 40) g z r0 ta cT sz [] t (pChain (tkNext φ cT sz) 43 45 sub t) (repS g z (D + 1)) := by
  intro r t' k n0 hf
  refine CY.of RX3 rfl plain_X3 (Nat.le_of_ble_eq_true rfl) (fun p e s m below meth cd A ls X hP hD hS hl => ?_)
  have hx := X.1.1
  have hb := X.1.2.1
  have hown := X.1.2.2.2.2.2.1
  have hts := X.1.2.2.2.2.2.2.1
  have hl : lv_has ls 3 [(0, .ref r0)] := hl
  have hP : va_P g.1 vwCl (tkw g r0 ta cT sz t ++ []) s.heap := by rw [List.append_nil]; exact hP
  have hD : va_D A (tkw g r0 ta cT sz t ++ []) := by rw [List.append_nil]; exact hD
  unfold pChain at hf
  obtain ⟨k0, m0, hf, ek0, en0⟩ := pCs hf
  refine rNew X.1 in_X6 tyX6 tyX6_ok q570 q571 q162 hP hD hS (ci := 6) rfl [.null, .null, .null] (by decide) (by first | omega | (dsimp only; omega)) (by first | omega | (dsimp only; omega)) dX3_sum_0 (fun rc H hP hD hS => ?_)
  have hP : va_P g.1 vwCl (tkw g r0 ta cT sz t ++ [(rc, .inr (6, [.null, .null, .null]))]) H := hP
  have hD : va_D A (tkw g r0 ta cT sz t ++ [(rc, .inr (6, [.null, .null, .null]))]) := hD
  refine lv_dup hx hb dX3_sum_3 rfl ?_
  refine lv_aload_n hx hb dX3_sum_4 rfl (lv_at hl 0 rfl) ?_
  refine yP (rest := [.ref rc, .ref rc]) X hf (hsub _) gw_X3_X3_product dy_X3_product ⟨by first | omega | (dsimp only; omega), by first | omega | (dsimp only; omega)⟩ ⟨by first | omega | (dsimp only; omega), by first | omega | (dsimp only; omega)⟩ ⟨by first | omega | (dsimp only; omega), by first | omega | (dsimp only; omega)⟩ hP hD hS rfl hl.1 rfl (Nat.le_of_ble_eq_true rfl) dX3_sum_5 (fun a1 t1 k1 n1 j1 i1 new1 rv H locs hf ek1 en1 hrep1 hP hD hS => ?_)
  obtain ⟨q1, rfl, hq1⟩ := hrep1
  obtain ⟨k3, m3, hf, ek3, en3⟩ := pCs hf
  obtain ⟨hP, hD⟩ := w_perm hP hD (pm5 (rc, .inr (6, [.null, .null, .null])) (tkw g r0 ta cT sz t1) new1)
  refine yI (rest := [.ref rc]) X (met_X6_init (px := fun _ _ => False)) (lw_meth q809) q162 q807 q808 dyi_X6_init ⟨⟨rfl, rfl⟩, by dsimp only; omega, by dsimp only; omega⟩ ⟨by first | omega | (dsimp only; omega), by first | omega | (dsimp only; omega)⟩ hP hD hS rfl hl.1 rfl (Nat.le_of_ble_eq_true rfl) dX3_sum_8 ⟨by first | omega | (dsimp only; omega), by first | omega | (dsimp only; omega)⟩ (fun _ _ h => h.elim) (fun rv w9 H locs hpo hP hD hS => ?_)
  obtain ⟨l1, l2, rfl, rfl⟩ := hpo
  obtain ⟨hP, hD⟩ := w_perm hP hD (pm4 _ _ _ (tkw g r0 ta cT sz t1) new1)
  refine lv_astore_n (lv' := [(1, .ref rc), (0, .ref r0)]) hx hb dX3_sum_11 rfl hl (by decide) rfl (fun ls hl => ?_)
  have hloop : ∀ (f c : Nat) (es : Nat → EvS) (sg : Nat → Int32) (t : TS) (we Wc : va_W) (kk nn k2 n2 : Nat) (H : Heap) (locs : List Loc) (ls : Array Slot), pCLoop (tkNext φ cT sz) 43 45 sub f a1 c es sg t = some (r, t', k2, n2) → c + f = 250 → CH g z we D rc a1 c (capT c) es sg Wc → kk + k2 = k → nn + n2 = n0 → va_P g.1 vwCl (tkw g r0 ta cT sz t ++ Wc) H → va_D A (tkw g r0 ta cT sz t ++ Wc) → va_S A s.heap H locs → lv_has ls 3 [(1, .ref rc), (0, .ref r0)] → W p l e ({ frames := Fs + 1, cells := k, slots := n0, locals := Ls + 40 } : Room) s m ([.ref r0] : List Value).toArray below meth cd H locs (kk) (nn) (vx_MQ below (QYr g (fun rv w' => ∃ a new, r = .inr a ∧ w' = tkw g r0 ta cT sz t' ++ new ∧ (repS g z (D + 1)) new rv a) A) (XYr g (pxT g r0 ta cT sz r t') A) ([.ref r0] : List Value).toArray s k n0 A) (F0 m 12 ls []) := by
    intro f
    induction f with
    | zero =>
      intro c es sg t we Wc kk nn k2 n2 H locs ls hf
      exact nn9 hf
    | succ f ih =>
      intro c es sg t we Wc kk nn k2 n2 H locs ls hf hcf hCH ek en hP hD hS hl
      unfold pCLoop at hf
      by_cases hq : t.2.2.1 = 43 ∨ t.2.2.1 = 45
      · rw [if_pos hq] at hf
        have hbody : W p l e ({ frames := Fs + 1, cells := k, slots := n0, locals := Ls + 40 } : Room) s m ([.ref r0] : List Value).toArray below meth cd H locs (kk) (nn) (vx_MQ below (QYr g (fun rv w' => ∃ a new, r = .inr a ∧ w' = tkw g r0 ta cT sz t' ++ new ∧ (repS g z (D + 1)) new rv a) A) (XYr g (pxT g r0 ta cT sz r t') A) ([.ref r0] : List Value).toArray s k n0 A) (F0 m 30 ls []) := by
          obtain ⟨k9, hk9, hv⟩ : ∃ k : Nat, k < 256 ∧ t.2.2.1 = vb_c k := by
            rcases hq with h | h
            · rw [h]; exact vb_43
            · rw [h]; exact vb_45
          refine lv_aload_n hx hb dX3_sum_30 rfl (lv_at hl 1 rfl) ?_
          refine gT_sort X.1 hP dX3_sum_31 ?_
          refine tpi (y := vb_c k9) hv.symm ?_
          rw [hv] at hf
          refine lv_istore_n (lv' := [(2, .int (vb_c k9)), (1, .ref rc), (0, .ref r0)]) hx hb dX3_sum_34 rfl hl (by decide) rfl (fun ls hl => ?_)
          refine lv_aload_n hx hb dX3_sum_35 rfl (lv_at hl 2 rfl) ?_
          obtain ⟨t2, hn_t2, hf⟩ := bs hf
          refine yNx (rest := []) X hn_t2 ⟨by first | omega | (dsimp only; omega), by first | omega | (dsimp only; omega)⟩ ⟨by first | omega | (dsimp only; omega), by first | omega | (dsimp only; omega)⟩ hP hD hS hl.1 (Nat.le_of_ble_eq_true rfl) dX3_sum_36 (fun H locs hP hD hS => ?_)
          refine lv_aload_n hx hb dX3_sum_39 rfl (lv_at hl 1 rfl) ?_
          refine lv_iload_n hx hb dX3_sum_40 rfl (lv_at hl 0 rfl) ?_
          refine lv_aload_n hx hb dX3_sum_41 rfl (lv_at hl 2 rfl) ?_
          refine yP (rest := [.int (vb_c k9), .ref rc]) X hf (hsub _) gw_X3_X3_product dy_X3_product ⟨by first | omega | (dsimp only; omega), by first | omega | (dsimp only; omega)⟩ ⟨by first | omega | (dsimp only; omega), by first | omega | (dsimp only; omega)⟩ ⟨by first | omega | (dsimp only; omega), by first | omega | (dsimp only; omega)⟩ hP hD hS rfl hl.1 rfl (Nat.le_of_ble_eq_true rfl) dX3_sum_42 (fun a3 t3 k3 n3 j3 i3 new3 rv H locs hf ek3 en3 hrep3 hP hD hS => ?_)
          obtain ⟨q3, rfl, hq3⟩ := hrep3
          obtain ⟨k4, m4, hf, ek4, en4⟩ := pCs hf
          obtain ⟨hP, hD⟩ := w_perm hP hD (pm6 (tkw g r0 ta cT sz t3) new3 Wc)
          have hCH2 := hCH.grow (new := new3)
          have hx9 := (rP_up g z (w := new3) (w' := we ++ new3) (fun q hq => List.mem_append_right _ hq) (Nat.le_refl D)).1 _ _ hq3
          refine yV (rest := []) (wf := tkw g r0 ta cT sz t3) X (met_chadd (px := fun _ _ => False) hCH2 (by omega) hk9 hx9) gw_X3_X6_add dy_X6_add ⟨⟨rfl, rfl⟩, by dsimp only; omega, by dsimp only; omega⟩ ⟨by first | omega | (dsimp only; omega), by first | omega | (dsimp only; omega)⟩ hP hD hS (by obtain ⟨fr, l1, l2, f1, f2, w1, w2, e9, -⟩ := hCH2; rw [e9]; exact ⟨0, 6, _, _, _, rfl, rfl⟩) rfl hl.1 rfl (Nat.le_of_ble_eq_true rfl) dX3_sum_45 ⟨by first | omega | (dsimp only; omega), by first | omega | (dsimp only; omega)⟩ (fun _ _ h => h.elim) (fun rv w9 H locs hpo hP hD hS => ?_)
          obtain ⟨rfl, hCH3⟩ := hpo
          obtain ⟨hP, hD⟩ := w_perm (b := tkw g r0 ta cT sz t3 ++ w9) hP hD List.perm_append_comm
          refine lv_goto (tgt := 12) hx hb dX3_sum_48 (by decide) ?_
          exact ih (c + 1) _ _ _ _ _ _ _ _ _ _ _ _ hf (by omega) hCH3 (by omega) (by omega) hP hD hS (lv_sub hl [1, 2] rfl)
        refine lv_aload_n hx hb dX3_sum_12 rfl (lv_at hl 1 rfl) ?_
        refine gT_sort X.1 hP dX3_sum_13 ?_
        refine lv_bipush (v := 43) hx hb dX3_sum_16 (by decide) ?_
        refine lv_icmp_eq (tgt := 30) hx hb dX3_sum_18 (by decide) (fun q => ?_) (fun q => ?_)
        · exact hbody
        · refine lv_aload_n hx hb dX3_sum_21 rfl (lv_at hl 1 rfl) ?_
          refine gT_sort X.1 hP dX3_sum_22 ?_
          refine lv_bipush (v := 45) hx hb dX3_sum_25 (by decide) ?_
          refine lv_icmp_ne (tgt := 51) hx hb dX3_sum_27 (by decide) (fun q2 => absurd hq (fun h => h.elim q q2)) (fun _ => hbody)
      · rw [if_neg hq] at hf
        unfold pOk at hf
        cases hf
        refine lv_aload_n hx hb dX3_sum_12 rfl (lv_at hl 1 rfl) ?_
        refine gT_sort X.1 hP dX3_sum_13 ?_
        refine lv_bipush (v := 43) hx hb dX3_sum_16 (by decide) ?_
        refine lv_icmp_eq (tgt := 30) hx hb dX3_sum_18 (by decide) (fun q => absurd (Or.inl q) hq) (fun _ => ?_)
        refine lv_aload_n hx hb dX3_sum_21 rfl (lv_at hl 1 rfl) ?_
        refine gT_sort X.1 hP dX3_sum_22 ?_
        refine lv_bipush (v := 45) hx hb dX3_sum_25 (by decide) ?_
        refine lv_icmp_ne (tgt := 51) hx hb dX3_sum_27 (by decide) (fun _ => ?_) (fun q => absurd (Or.inr q) hq)
        refine lv_aload_n hx hb dX3_sum_51 rfl (lv_at hl 0 rfl) ?_
        have hCH9 := hCH
        obtain ⟨fr, l1, l2, f1, f2, w1, w2, e9, h1, ⟨mc, ea, tail, rfl, hcase⟩, -, -, -⟩ := hCH9
        subst e9
        refine cVr (rest := []) X.1 (met_itself (g := g) (k := 2) (j := 3) rfl rfl (by omega)) gw_X3_X6_itself dy_X6_itself ⟨⟨rfl, rfl⟩, by dsimp only; omega, by dsimp only; omega⟩ hP hD hS hl.1 ⟨2, 6, _, _, _, rfl, rfl⟩ rfl rfl ⟨by first | omega | (dsimp only; omega), by first | omega | (dsimp only; omega)⟩ (Nat.le_of_ble_eq_true rfl) dX3_sum_52 (fun H locs hP hD hS => ?_)
        refine yRr X ⟨_, _, rfl, rfl, _, rfl, ?_⟩ hP hD hS ⟨by first | omega | (dsimp only; omega), by first | omega | (dsimp only; omega)⟩ dX3_sum_55
        by_cases hc0 : c = 0
        · rw [if_pos hc0, if_pos hc0]
          exact (rP_up g z (fun q hq => List.mem_cons_of_mem _ (List.mem_append_right _ (List.mem_append_right _ hq))) (Nat.le_succ D)).1 _ _ h1
        · rw [if_neg hc0, if_neg hc0]
          exact hCH.done (by omega)
  exact hloop 250 0 _ _ t1 new1 _ _ _ _ _ H locs _ hf rfl (CH.one hq1) (by omega) (by omega) hP hD hS (lv_sub hl [0, 1] rfl)
