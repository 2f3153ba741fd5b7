/-! a chain under way: its object, its two lists, and behind them what is finished -/
theorem plain_X4 : plainName RX4 = true := by decide +kernel
def CH (g : gG) (z : Nat → Nat) (we : va_W) (D : Nat) (rc : Nat) (e0 : EvS) (c n : Nat) (es : Nat → EvS) (sg : Nat → Int32) (W : va_W) : Prop := ∃ (fr l1 l2 : Nat) (f1 f2 : Nat → Option Nat) (w1 w2 : va_W), W = (rc, .inr (6, [.ref fr, .ref l1, .ref l2])) :: (w1 ++ (w2 ++ we)) ∧ (rP g z we D).1 fr e0 ∧ LsW g z l1 c n f1 w1 ∧ LsW g z l2 c n f2 w2 ∧ (∀ i : Nat, i < c → ∃ y : Nat, f1 i = some y ∧ (rP g z we D).1 y (es i)) ∧ (∀ i : Nat, i < c → ∃ y : Nat, f2 i = some y ∧ BoxOK z y (sg i))
theorem CH.grow {g : gG} {z : Nat → Nat} {we new : va_W} {D rc : Nat} {e0 : EvS} {c n : Nat} {es : Nat → EvS} {sg : Nat → Int32} {W : va_W} (h : CH g z we D rc e0 c n es sg W) : CH g z (we ++ new) D rc e0 c n es sg (W ++ new) := by
  obtain ⟨fr, l1, l2, f1, f2, w1, w2, rfl, h1, h2, h3, h4, h5⟩ := h
  have hs : ∀ q ∈ we, q ∈ we ++ new := fun q hq => List.mem_append_left _ hq
  refine ⟨fr, l1, l2, f1, f2, w1, w2, by simp, (rP_up g z hs (Nat.le_refl D)).1 _ _ h1, h2, h3, fun i hi => ?_, h5⟩
  obtain ⟨y, q1, q2⟩ := h4 i hi
  exact ⟨y, q1, (rP_up g z hs (Nat.le_refl D)).1 _ _ q2⟩
theorem rP_el {g : gG} {z : Nat → Nat} {w : va_W} {d : Nat} : (∀ (r : Nat) (ev : EvS), (rP g z w d).1 r ev → ElOK z w r) ∧ (∀ (r : Nat) (ev : EvA), (rP g z w d).2 r ev → ElOK z w r) := by
  cases d with
  | zero => exact ⟨fun _ _ h => h.elim, fun _ _ h => h.elim⟩
  | succ d =>
    refine ⟨fun r ev h => ?_, fun r ev h => ?_⟩
    · rcases h with ⟨k, n, hk, e⟩ | ⟨k, i, hk, hi, e⟩ | ⟨k, c, e, hk, hc, e9⟩ | ⟨k, c, e, hk, hc, e9⟩ | ⟨k, c, e, hk, hc, e9⟩ | ⟨k, c0, c1, c2, b, e1, e2, hk, h0, h1, h2, e9⟩ | ⟨k, c, la, ln, e, n, es, sg, f1, f2, hk, hc, hl1, hl2, he1, he2, e9⟩
      all_goals exact Or.inl ⟨k, _, _, _, _, _, hk, rfl, by decide +kernel⟩
    · rcases h with ⟨k, c1, c2, s, e1, e2, hk, h1, h2, e9⟩ | ⟨k, c, b, hk, hc, e9⟩ | ⟨k, la, f, n, bs, f1, hk, hl1, he1, e9⟩
      all_goals exact Or.inl ⟨k, _, _, _, _, _, hk, rfl, by decide +kernel⟩
theorem LsW.ok {g : gG} {z : Nat → Nat} {la c n : Nat} {f : Nat → Option Nat} {w : va_W} (h : LsW g z la c n f w) (hc : 0 < c) {w' : va_W} (hs : ∀ q ∈ w, q ∈ w') : ListOK g w' la c f := by
  obtain ⟨mc, ea, tail, rfl, ⟨h0, -, -⟩ | ⟨h0, h1, h2, h3, gar, rfl⟩⟩ := h
  · omega
  · obtain ⟨k, hk⟩ := List.mem_iff_getElem?.mp (hs _ List.mem_cons_self)
    obtain ⟨j, hj⟩ := List.mem_iff_getElem?.mp (hs _ (List.mem_cons_of_mem _ List.mem_cons_self))
    exact ⟨k, j, ea, n, mc, hk, hj, h1, by omega⟩
theorem CH.done {g : gG} {z : Nat → Nat} {we : va_W} {D rc : Nat} {e0 : EvS} {c n : Nat} {es : Nat → EvS} {sg : Nat → Int32} {W : va_W} (h : CH g z we D rc e0 c n es sg W) (hc : 0 < c) : (rP g z W (D + 1)).1 rc (evChain e0 c es sg) := by
  obtain ⟨fr, l1, l2, f1, f2, w1, w2, rfl, h1, h2, h3, h4, h5⟩ := h
  have hs : ∀ q ∈ we, q ∈ (rc, .inr (6, [.ref fr, .ref l1, .ref l2])) :: (w1 ++ (w2 ++ we)) := fun q hq => List.mem_cons_of_mem _ (List.mem_append_right _ (List.mem_append_right _ hq))
  have hup := (rP_up g z hs (Nat.le_refl D)).1
  refine Or.inr (Or.inr (Or.inr (Or.inr (Or.inr (Or.inr ⟨0, fr, l1, l2, e0, c, es, sg, f1, f2, rfl, hup _ _ h1, h2.ok hc (fun q hq => List.mem_cons_of_mem _ (List.mem_append_left _ hq)), h3.ok hc (fun q hq => List.mem_cons_of_mem _ (List.mem_append_right _ (List.mem_append_left _ hq))), fun i hi => ?_, h5, rfl⟩)))))
  obtain ⟨y, q1, q2⟩ := h4 i hi
  exact ⟨y, q1, hup _ _ q2⟩
theorem pmr (a b c : Nat × va_E) : List.Perm ([a] ++ (b :: [c])) (b :: [c, a]) := List.perm_append_comm (l₁ := [a]) (l₂ := [b, c])
theorem pm1 (a : Nat × va_E) (w1 w2 we : va_W) : (a :: (w1 ++ (w2 ++ we))).Perm ((w2 ++ []) ++ (a :: (w1 ++ we))) := by
  rw [List.append_nil]
  have h : (w1 ++ (w2 ++ we)).Perm (w2 ++ (w1 ++ we)) := by rw [← List.append_assoc, ← List.append_assoc]; exact List.perm_append_comm.append_right we
  exact (h.cons a).trans List.perm_middle.symm
theorem pm2 (a : Nat × va_E) (w1 w2 we : va_W) : ((w2 ++ []) ++ (a :: (w1 ++ we))).Perm ((w1 ++ we) ++ (a :: w2)) := by
  rw [List.append_nil]
  exact List.perm_append_comm.trans List.perm_middle.symm
theorem pm3 (a : Nat × va_E) (w1 w2 we : va_W) : ((w1 ++ we) ++ (a :: w2)).Perm (a :: (w1 ++ (w2 ++ we))) := by
  refine List.perm_middle.trans (List.Perm.cons a ?_)
  rw [List.append_assoc]
  exact List.perm_append_comm.append_left w1
theorem dyi_J2_init : Dy yJ2_init RJ2 0 ∧ yJ2_init.name = "<init>" := ⟨by decide +kernel, rfl⟩
theorem met_X6_init {l : Launch} {g : gG} {z : Nat → Nat} {rc fr : Nat} {px : Nat → va_W → Prop} : CY l yX6_init (ws_ yX6_init cX6_init 2 none) ({ frames := 5, cells := 2, slots := 6, locals := 200 } : Room) g z [.ref rc, .ref fr] [(rc, .inr (6, [.null, .null, .null]))] (fun rv w' => ∃ l1 l2 : Nat, rv = none ∧ w' = [(rc, .inr (6, [.ref fr, .ref l1, .ref l2])), (l1, .inr (17, [.int 0, .ref (z 4), .int 0])), (l2, .inr (17, [.int 0, .ref (z 4), .int 0]))]) px 2 6 := by
  refine CY.ofI RX6 rfl plain_X6 (Nat.le_of_ble_eq_true rfl) (fun p e s m below meth cd A ls hnm X hP hD hS hl => ?_)
  have hx := X.1.1
  have hb := X.1.2.1
  have hown := X.1.2.2.2.2.2.1
  have hts := X.1.2.2.2.2.2.2.1
  have hl : lv_has ls 2 [(0, .ref rc), (1, .ref fr)] := hl
  refine lv_aload_n hx hb dX6_init_0 rfl (lv_at hl 0 rfl) ?_
  refine rObj (rest := []) X.1 hl.1 q810 ⟨Nat.le_of_ble_eq_true rfl, Nat.le_of_ble_eq_true rfl⟩ dX6_init_1 ?_
  refine lv_aload_n hx hb dX6_init_4 rfl (lv_at hl 0 rfl) ?_
  refine rNew X.1 in_J2 tyJ2 tyJ2_ok q811 q390 q153 hP hD hS (ci := 17) rfl [.int 0, .null, .int 0] (by decide) (by dsimp only; omega) (by dsimp only; omega) dX6_init_5 (fun l1 H hP hD hS => ?_)
  refine lv_dup hx hb dX6_init_8 rfl ?_
  obtain ⟨hP, hD⟩ := w_perm (b := [(l1, .inr (17, [.int 0, .null, .int 0]))] ++ [(rc, .inr (6, [.null, .null, .null]))]) hP hD (List.perm_append_comm)
  refine zI (rest := [.ref l1, .ref rc]) X.1 X.2.1 (met_J2_init (g := g)) (lw_meth q393) q153 q812 q392 dyi_J2_init ⟨⟨rfl, rfl⟩, Nat.le_of_ble_eq_true rfl, Nat.le_of_ble_eq_true rfl⟩ ⟨by first | omega | (dsimp only; omega), by first | omega | (dsimp only; omega)⟩ hP hD hS rfl hl.1 rfl (Nat.le_of_ble_eq_true rfl) dX6_init_9 (fun H locs hP hD hS => ?_)
  obtain ⟨hP, hD⟩ := w_perm (a := [(l1, .inr (17, [.int 0, .ref (z 4), .int 0]))] ++ [(rc, .inr (6, [.null, .null, .null]))]) (b := (rc, .inr (6, [.null, .null, .null])) :: [(l1, .inr (17, [.int 0, .ref (z 4), .int 0]))]) hP hD (List.Perm.swap _ _ _)
  refine pFF (w' := (rc, .inr (6, [.null, .ref l1, .null])) :: [(l1, .inr (17, [.int 0, .ref (z 4), .int 0]))]) X.1 hnm in_X6 tyX6 tyX6_ok nmX6 hP hD hS 0 rfl rfl 1 (by decide) q814 rfl rfl rfl rfl (Nat.le_of_ble_eq_true rfl) rfl dX6_init_12 (fun H locs hP hD hS => ?_)
  refine lv_aload_n hx hb dX6_init_15 rfl (lv_at hl 0 rfl) ?_
  refine rNew X.1 in_J2 tyJ2 tyJ2_ok q811 q390 q153 hP hD hS (ci := 17) rfl [.int 0, .null, .int 0] (by decide) (by dsimp only; omega) (by dsimp only; omega) dX6_init_16 (fun l2 H hP hD hS => ?_)
  refine lv_dup hx hb dX6_init_19 rfl ?_
  obtain ⟨hP, hD⟩ := w_perm (b := [(l2, .inr (17, [.int 0, .null, .int 0]))] ++ ((rc, .inr (6, [.null, .ref l1, .null])) :: [(l1, .inr (17, [.int 0, .ref (z 4), .int 0]))])) hP hD (List.perm_append_comm)
  refine zI (rest := [.ref l2, .ref rc]) X.1 X.2.1 (met_J2_init (g := g)) (lw_meth q393) q153 q812 q392 dyi_J2_init ⟨⟨rfl, rfl⟩, Nat.le_of_ble_eq_true rfl, Nat.le_of_ble_eq_true rfl⟩ ⟨by first | omega | (dsimp only; omega), by first | omega | (dsimp only; omega)⟩ hP hD hS rfl hl.1 rfl (Nat.le_of_ble_eq_true rfl) dX6_init_20 (fun H locs hP hD hS => ?_)
  obtain ⟨hP, hD⟩ := w_perm (a := [(l2, .inr (17, [.int 0, .ref (z 4), .int 0]))] ++ ((rc, .inr (6, [.null, .ref l1, .null])) :: [(l1, .inr (17, [.int 0, .ref (z 4), .int 0]))])) (b := (rc, .inr (6, [.null, .ref l1, .null])) :: [(l1, .inr (17, [.int 0, .ref (z 4), .int 0])), (l2, .inr (17, [.int 0, .ref (z 4), .int 0]))]) hP hD (pmr _ _ _)
  refine pFF (w' := (rc, .inr (6, [.null, .ref l1, .ref l2])) :: [(l1, .inr (17, [.int 0, .ref (z 4), .int 0])), (l2, .inr (17, [.int 0, .ref (z 4), .int 0]))]) X.1 hnm in_X6 tyX6 tyX6_ok nmX6 hP hD hS 0 rfl rfl 2 (by decide) q815 rfl rfl rfl rfl (Nat.le_of_ble_eq_true rfl) rfl dX6_init_23 (fun H locs hP hD hS => ?_)
  refine lv_aload_n hx hb dX6_init_26 rfl (lv_at hl 0 rfl) ?_
  refine lv_aload_n hx hb dX6_init_27 rfl (lv_at hl 1 rfl) ?_
  refine pFF (w' := (rc, .inr (6, [.ref fr, .ref l1, .ref l2])) :: [(l1, .inr (17, [.int 0, .ref (z 4), .int 0])), (l2, .inr (17, [.int 0, .ref (z 4), .int 0]))]) X.1 hnm in_X6 tyX6 tyX6_ok nmX6 hP hD hS 0 rfl rfl 0 (by decide) q813 rfl rfl rfl rfl (Nat.le_of_ble_eq_true rfl) rfl dX6_init_28 (fun H locs hP hD hS => ?_)
  exact yRv X ⟨l1, l2, rfl, rfl⟩ hP hD hS ⟨by first | omega | (dsimp only; omega), by first | omega | (dsimp only; omega)⟩ dX6_init_31
theorem gs_X6_J15_valueOf : GoodIn lw_all (va_wsS RX6 25 yJ15_valueOf (ws_ yJ15_valueOf cJ15_valueOf 1 (some (.object "java/lang/Integer")))) := lw_S q827 q828 q177 q829
theorem dy_J15_valueOf : Dy yJ15_valueOf RJ15 1 := by decide +kernel
theorem gw_X6_J2_add : GoodIn lw_all (wsV RX6 31 RJ2 yJ2_add (ws_ yJ2_add cJ2_add 2 (some .boolean))) := lw_V q847 q646 q647 q153 q648
theorem dy_J2_add : Dy yJ2_add RJ2 1 := by decide +kernel
theorem met_chadd {l : Launch} {g : gG} {z : Nat → Nat} {we W : va_W} {D rc c n x9 k9 : Nat} {e0 ex : EvS} {es : Nat → EvS} {sg : Nat → Int32} {px : Nat → va_W → Prop} (h : CH g z we D rc e0 c n es sg W) (hc : c ≤ 250) (hk9 : k9 < 256) (hx9 : (rP g z we D).1 x9 ex) : CY l yX6_add (ws_ yX6_add cX6_add 3 none) ({ frames := 9, cells := addK c n + addK c n, slots := addS c n + addS c n, locals := 460 } : Room) g z [.ref rc, .int (vb_c k9), .ref x9] W (fun rv w' => rv = none ∧ CH g z we D rc e0 (c + 1) (capN c n) (va_up es c ex) (va_up sg c (vb_c k9)) w') px (addK c n + addK c n) (addS c n + addS c n) := by
  obtain ⟨fr, l1, l2, f1, f2, w1, w2, rfl, h1, h2, h3, h4, h5⟩ := h
  refine CY.of RX6 rfl plain_X6 (Nat.le_of_ble_eq_true rfl) (fun p e s m below meth cd A ls X hP hD hS hl => ?_)
  have hx := X.1.1
  have hb := X.1.2.1
  have hown := X.1.2.2.2.2.2.1
  have hts := X.1.2.2.2.2.2.2.1
  have hl : lv_has ls 3 [(0, .ref rc), (1, .int (vb_c k9)), (2, .ref x9)] := hl
  refine lv_aload_n hx hb dX6_add_0 rfl (lv_at hl 0 rfl) ?_
  refine gF X.1 in_X6 hP 0 rfl rfl 2 (by decide) q815 rfl dX6_add_1 ?_
  refine lv_iload_n hx hb dX6_add_4 rfl (lv_at hl 1 rfl) ?_
  refine zS0 (rest := [.ref l2]) (As := [.int (vb_c k9)]) (w := []) (w' := []) X.1 X.2.1 (met_valueOf (g := g) hk9) gs_X6_J15_valueOf dy_J15_valueOf ⟨⟨rfl, rfl⟩, Nat.le_of_ble_eq_true rfl, Nat.le_of_ble_eq_true rfl⟩ ⟨Nat.zero_le _, Nat.zero_le _⟩ hP hD hS rfl hl.1 rfl (Nat.le_of_ble_eq_true rfl) dX6_add_5 (fun H locs hP hD hS => ?_)
  obtain ⟨hP, hD⟩ := w_perm hP hD (pm1 (rc, .inr (6, [.ref fr, .ref l1, .ref l2])) w1 w2 we)
  refine yV (rest := []) (wf := ((rc, .inr (6, [.ref fr, .ref l1, .ref l2])) :: (w1 ++ we))) X (met_add (px := fun _ _ => False) (we := []) h3 hc (fun i y hi hy => by obtain ⟨y2, q1, k, q2, q3, -⟩ := h5 i hi; cases hy.symm.trans q1; exact Or.inr ⟨k, q2, q3⟩) (Or.inr ⟨k9, hk9, rfl⟩)) gw_X6_J2_add dy_J2_add ⟨⟨rfl, rfl⟩, Nat.le_of_ble_eq_true rfl, Nat.le_of_ble_eq_true rfl⟩ ⟨by first | omega | (dsimp only; omega), by first | omega | (dsimp only; omega)⟩ hP hD hS (by obtain ⟨mc, ea, tail, rfl, -⟩ := h3; exact ⟨0, 17, _, _, _, rfl, rfl⟩) rfl hl.1 rfl (Nat.le_of_ble_eq_true rfl) dX6_add_8 ⟨by first | omega | (dsimp only; omega), by first | omega | (dsimp only; omega)⟩ (fun _ _ h => h.elim) (fun rv w9 H locs hpo hP hD hS => ?_)
  obtain ⟨w2', f2', rfl, rfl, h3', hf2, hf2'⟩ := hpo
  refine lv_pop hx hb dX6_add_11 rfl ?_
  refine lv_aload_n hx hb dX6_add_12 rfl (lv_at hl 0 rfl) ?_
  obtain ⟨hP, hD⟩ := w_perm hP hD ((pm2 (rc, .inr (6, [.ref fr, .ref l1, .ref l2])) w1 w2' we).trans (pm3 (rc, .inr (6, [.ref fr, .ref l1, .ref l2])) w1 w2' we))
  refine gF X.1 in_X6 hP 0 rfl rfl 1 (by decide) q814 rfl dX6_add_13 ?_
  refine lv_aload_n hx hb dX6_add_16 rfl (lv_at hl 2 rfl) ?_
  obtain ⟨hP, hD⟩ := w_perm hP hD (pm3 (rc, .inr (6, [.ref fr, .ref l1, .ref l2])) w1 w2' we).symm
  refine yV (rest := []) (wf := ((rc, .inr (6, [.ref fr, .ref l1, .ref l2])) :: w2')) X (met_add (px := fun _ _ => False) (we := we) h2 hc (fun i y hi hy => by obtain ⟨y2, q1, q2⟩ := h4 i hi; cases hy.symm.trans q1; exact rP_el.1 _ _ q2) (rP_el.1 _ _ hx9)) gw_X6_J2_add dy_J2_add ⟨⟨rfl, rfl⟩, Nat.le_of_ble_eq_true rfl, Nat.le_of_ble_eq_true rfl⟩ ⟨by first | omega | (dsimp only; omega), by first | omega | (dsimp only; omega)⟩ hP hD hS (by obtain ⟨mc, ea, tail, rfl, -⟩ := h2; exact ⟨0, 17, _, _, _, rfl, rfl⟩) rfl hl.1 rfl (Nat.le_of_ble_eq_true rfl) dX6_add_17 ⟨by first | omega | (dsimp only; omega), by first | omega | (dsimp only; omega)⟩ (fun _ _ h => h.elim) (fun rv w9 H locs hpo hP hD hS => ?_)
  obtain ⟨w1', f1', rfl, rfl, h2', hf1, hf1'⟩ := hpo
  refine lv_pop hx hb dX6_add_20 rfl ?_
  obtain ⟨hP, hD⟩ := w_perm hP hD (pm3 (rc, .inr (6, [.ref fr, .ref l1, .ref l2])) w1' w2' we)
  refine yRv X ⟨rfl, fr, l1, l2, f1', f2', w1', w2', rfl, h1, h2', h3', fun i hi => ?_, fun i hi => ?_⟩ hP hD hS ⟨by first | omega | (dsimp only; omega), by first | omega | (dsimp only; omega)⟩ dX6_add_21
  · rcases Nat.lt_or_ge i c with hlt | hge
    · obtain ⟨y, q1, q2⟩ := h4 i hlt
      exact ⟨y, by rw [hf1 i hlt]; exact q1, by rw [up_ne (by omega)]; exact q2⟩
    · have e : i = c := by omega
      subst e
      exact ⟨x9, hf1', by rw [va_up_eq]; exact hx9⟩
  · rcases Nat.lt_or_ge i c with hlt | hge
    · obtain ⟨y, q1, q2⟩ := h5 i hlt
      exact ⟨y, by rw [hf2 i hlt]; exact q1, by rw [up_ne (by omega)]; exact q2⟩
    · have e : i = c := by omega
      subst e
      exact ⟨_, hf2', by rw [va_up_eq]; exact ⟨k9, hk9, rfl, rfl⟩⟩
theorem gw_X6_J2_isEmpty : GoodIn lw_all (wsV RX6 35 RJ2 yJ2_isEmpty (ws_ yJ2_isEmpty cJ2_isEmpty 1 (some .boolean))) := lw_V q852 q853 q854 q153 q855
theorem dy_J2_isEmpty : Dy yJ2_isEmpty RJ2 0 := by decide +kernel
theorem met_itself {l : Launch} {g : gG} {w : va_W} {k j rc fr l1 l2 ea c : Nat} {mc : Int32} (hk : w[k]? = some (rc, .inr (6, [.ref fr, .ref l1, .ref l2]))) (hj : w[j]? = some (l1, .inr (17, [.int mc, .ref ea, .int (nI c)]))) (hc : c < 2 ^ 31) : CC l yX6_itself (ws_ yX6_itself cX6_itself 1 (some (.object "WolfsHead$Sum"))) ({ frames := 1, cells := 0, slots := 0, locals := 30 } : Room) g [.ref rc] w (some (.ref (if c = 0 then fr else rc))) w 0 0 := by
  refine CC.of RX6 rfl plain_X6 (Nat.le_of_ble_eq_true rfl) (fun p e s m below meth cd A ls X hP hD hS hl => ?_)
  have hx := X.1
  have hb := X.2.1
  have hown := X.2.2.2.2.2.1
  have hts := X.2.2.2.2.2.2.1
  have hl : lv_has ls 1 [(0, .ref rc)] := hl
  refine lv_aload_n hx hb dX6_itself_0 rfl (lv_at hl 0 rfl) ?_
  refine gF X in_X6 hP k hk rfl 1 (by decide) q814 rfl dX6_itself_1 ?_
  refine cVi (rest := []) X (met_isEmpty (g := g) hj) gw_X6_J2_isEmpty dy_J2_isEmpty ⟨⟨rfl, rfl⟩, Nat.le_of_ble_eq_true rfl, Nat.le_of_ble_eq_true rfl⟩ hP hD hS hl.1 ⟨j, 17, _, _, _, hj, rfl⟩ rfl rfl ⟨Nat.zero_le _, Nat.zero_le _⟩ (Nat.le_of_ble_eq_true rfl) dX6_itself_4 (fun H locs hP hD hS => ?_)
  refine lv_if_eq (tgt := 17) hx hb dX6_itself_7 (by decide) (fun q => ?_) (fun q => ?_)
  · have hc0 : ¬ c = 0 := fun h => by subst h; exact absurd q (by decide)
    rw [if_neg hc0]
    refine lv_aload_n hx hb dX6_itself_17 rfl (lv_at hl 0 rfl) ?_
    exact rR X hP hD hS dX6_itself_18
  · have hc0 : c = 0 := by
      rcases Nat.eq_zero_or_pos c with h | h
      · exact h
      · exact absurd (if_neg (nI_ne0 h hc)) q
    rw [if_pos hc0]
    refine lv_aload_n hx hb dX6_itself_10 rfl (lv_at hl 0 rfl) ?_
    refine gF X in_X6 hP k hk rfl 0 (by decide) q813 rfl dX6_itself_11 ?_
    refine lv_goto (tgt := 18) hx hb dX6_itself_14 (by decide) ?_
    exact rR X hP hD hS dX6_itself_18
theorem met_X4_init {l : Launch} {g : gG} {z : Nat → Nat} {tx : Nat} {px : Nat → va_W → Prop} : CY l yX4_init (ws_ yX4_init cX4_init 1 none) ({ frames := 5, cells := 2, slots := 7, locals := 200 } : Room) g z [.ref tx] [(tx, .inr (4, [.null, .int 0, .null]))] (fun rv w' => ∃ la dl : Nat, rv = none ∧ w' = [(tx, .inr (4, [.ref la, .int 0, .ref dl])), (la, .inl (g.2 7, 4, .inr (.inr (.inr (.inr (fun _ => none)))))), (dl, .inr (17, [.int 0, .ref (z 4), .int 0]))]) px 2 7 := by
  refine CY.ofI RX4 rfl plain_X4 (Nat.le_of_ble_eq_true rfl) (fun p e s m below meth cd A ls hnm X hP hD hS hl => ?_)
  have hx := X.1.1
  have hb := X.1.2.1
  have hown := X.1.2.2.2.2.2.1
  have hts := X.1.2.2.2.2.2.2.1
  have hl : lv_has ls 1 [(0, .ref tx)] := hl
  refine lv_aload_n hx hb dX4_init_0 rfl (lv_at hl 0 rfl) ?_
  refine rObj (rest := []) X.1 hl.1 q386 ⟨Nat.le_of_ble_eq_true rfl, Nat.le_of_ble_eq_true rfl⟩ dX4_init_1 ?_
  refine lv_aload_n hx hb dX4_init_4 rfl (lv_at hl 0 rfl) ?_
  refine lv_iconst (v := 4) hx hb dX4_init_5 (by decide) ?_
  refine rNewq X.1 X.2.1.2.1.2.1 q387 7 rfl hP hD hS 4 (by decide) (by decide) (by decide) (by dsimp only; omega) (by dsimp only; omega) dX4_init_6 (fun la H hP hD hS => ?_)
  refine pFF (w' := (tx, .inr (4, [.ref la, .int 0, .null])) :: [(la, .inl (g.2 7, 4, .inr (.inr (.inr (.inr (fun _ => none))))))]) X.1 hnm in_X4 tyX4 tyX4_ok nmX4 hP hD hS 0 rfl rfl 0 (by decide) q415 rfl rfl rfl rfl (Nat.le_of_ble_eq_true rfl) rfl dX4_init_9 (fun H locs hP hD hS => ?_)
  refine lv_aload_n hx hb dX4_init_12 rfl (lv_at hl 0 rfl) ?_
  refine rNew X.1 in_J2 tyJ2 tyJ2_ok q389 q390 q153 hP hD hS (ci := 17) rfl [.int 0, .null, .int 0] (by decide) (by dsimp only; omega) (by dsimp only; omega) dX4_init_13 (fun dl H hP hD hS => ?_)
  refine lv_dup hx hb dX4_init_16 rfl ?_
  obtain ⟨hP, hD⟩ := w_perm (b := [(dl, .inr (17, [.int 0, .null, .int 0]))] ++ ((tx, .inr (4, [.ref la, .int 0, .null])) :: [(la, .inl (g.2 7, 4, .inr (.inr (.inr (.inr (fun _ => none))))))])) hP hD (List.perm_append_comm)
  refine zI (rest := [.ref dl, .ref tx]) X.1 X.2.1 (met_J2_init (g := g)) (lw_meth q393) q153 q391 q392 dyi_J2_init ⟨⟨rfl, rfl⟩, Nat.le_of_ble_eq_true rfl, Nat.le_of_ble_eq_true rfl⟩ ⟨by first | omega | (dsimp only; omega), by first | omega | (dsimp only; omega)⟩ hP hD hS rfl hl.1 rfl (Nat.le_of_ble_eq_true rfl) dX4_init_17 (fun H locs hP hD hS => ?_)
  obtain ⟨hP, hD⟩ := w_perm (a := [(dl, .inr (17, [.int 0, .ref (z 4), .int 0]))] ++ ((tx, .inr (4, [.ref la, .int 0, .null])) :: [(la, .inl (g.2 7, 4, .inr (.inr (.inr (.inr (fun _ => none))))))])) (b := (tx, .inr (4, [.ref la, .int 0, .null])) :: [(la, .inl (g.2 7, 4, .inr (.inr (.inr (.inr (fun _ => none)))))), (dl, .inr (17, [.int 0, .ref (z 4), .int 0]))]) hP hD (pmr _ _ _)
  refine pFF (w' := (tx, .inr (4, [.ref la, .int 0, .ref dl])) :: [(la, .inl (g.2 7, 4, .inr (.inr (.inr (.inr (fun _ => none)))))), (dl, .inr (17, [.int 0, .ref (z 4), .int 0]))]) X.1 hnm in_X4 tyX4 tyX4_ok nmX4 hP hD hS 0 rfl rfl 2 (by decide) q419 rfl rfl rfl rfl (Nat.le_of_ble_eq_true rfl) rfl dX4_init_20 (fun H locs hP hD hS => ?_)
  exact yRv X ⟨la, dl, rfl, rfl⟩ hP hD hS ⟨by first | omega | (dsimp only; omega), by first | omega | (dsimp only; omega)⟩ dX4_init_23
