/-! the law of a text that is asked, the text that rules -/
theorem rP_mono (g : gG) (z : Nat → Nat) {w w' : va_W} (hw : ∀ (k : Nat) (q : Nat × va_E), w[k]? = some q → ∃ k' : Nat, w'[k']? = some q) : ∀ d : Nat, (∀ (r : Nat) (ev : EvS), (rP g z w d).1 r ev → (rP g z w' d).1 r ev) ∧ (∀ (r : Nat) (ev : EvA), (rP g z w d).2 r ev → (rP g z w' d).2 r ev) := by
  have hl : ∀ {la c : Nat} {f : Nat → Option Nat}, ListOK g w la c f → ListOK g w' la c f := by
    intro la c f h
    obtain ⟨k, j, ea, n, mc, h1, h2, h3⟩ := h
    obtain ⟨k', hk'⟩ := hw _ _ h1
    obtain ⟨j', hj'⟩ := hw _ _ h2
    exact ⟨k', j', ea, n, mc, hk', hj', h3⟩
  intro d
  induction d with
  | zero => exact ⟨fun _ _ h => h.elim, fun _ _ h => h.elim⟩
  | succ d ih =>
    obtain ⟨ih1, ih2⟩ := ih
    refine ⟨fun r ev h => ?_, fun r ev h => ?_⟩
    · rcases h with ⟨k, n, hk, e⟩ | ⟨k, i, hk, hi, e⟩ | ⟨k, c, e, hk, hc, e9⟩ | ⟨k, c, e, hk, hc, e9⟩ | ⟨k, c, e, hk, hc, e9⟩ | ⟨k, c0, c1, c2, b, e1, e2, hk, h0, h1, h2, e9⟩ | ⟨k, c, la, ln, e, n, es, sg, f1, f2, hk, hc, hl1, hl2, he1, he2, e9⟩
      all_goals obtain ⟨k', hk'⟩ := hw _ _ hk
      · exact Or.inl ⟨k', n, hk', e⟩
      · exact Or.inr (Or.inl ⟨k', i, hk', hi, e⟩)
      · exact Or.inr (Or.inr (Or.inl ⟨k', c, e, hk', ih1 _ _ hc, e9⟩))
      · exact Or.inr (Or.inr (Or.inr (Or.inl ⟨k', c, e, hk', ih1 _ _ hc, e9⟩)))
      · exact Or.inr (Or.inr (Or.inr (Or.inr (Or.inl ⟨k', c, e, hk', ih1 _ _ hc, e9⟩))))
      · exact Or.inr (Or.inr (Or.inr (Or.inr (Or.inr (Or.inl ⟨k', c0, c1, c2, b, e1, e2, hk', ih2 _ _ h0, ih1 _ _ h1, ih1 _ _ h2, e9⟩)))))
      · exact Or.inr (Or.inr (Or.inr (Or.inr (Or.inr (Or.inr ⟨k', c, la, ln, e, n, es, sg, f1, f2, hk', ih1 _ _ hc, hl hl1, hl hl2, fun i hi => by obtain ⟨y, q1, q2⟩ := he1 i hi; exact ⟨y, q1, ih1 _ _ q2⟩, he2, e9⟩)))))
    · rcases h with ⟨k, c1, c2, s, e1, e2, hk, h1, h2, e9⟩ | ⟨k, c, b, hk, hc, e9⟩ | ⟨k, la, f, n, bs, f1, hk, hl1, he1, e9⟩
      all_goals obtain ⟨k', hk'⟩ := hw _ _ hk
      · exact Or.inl ⟨k', c1, c2, s, e1, e2, hk', ih1 _ _ h1, ih1 _ _ h2, e9⟩
      · exact Or.inr (Or.inl ⟨k', c, b, hk', ih2 _ _ hc, e9⟩)
      · exact Or.inr (Or.inr ⟨k', la, f, n, bs, f1, hk', hl hl1, fun i hi => by obtain ⟨y, q1, q2⟩ := he1 i hi; exact ⟨y, q1, ih2 _ _ q2⟩, e9⟩)
/-- one text: its four laws -/
def TxAt (g : gG) (z : Nat → Nat) (tp : va_W) (t : Nat) (e : Nat → Option EvS) : Prop := ∃ (k j la dl : Nat) (cl : Int32) (f : Nat → Option Nat), tp[k]? = some (t, .inr (4, [.ref la, .int cl, .ref dl])) ∧ tp[j]? = some (la, .inl (g.2 7, 4, .inr (.inr (.inr (.inr f))))) ∧ ∀ i : Nat, i < 4 → (f i = none ∧ e i = none) ∨ ∃ (r : Nat) (ev : EvS) (d : Nat), f i = some r ∧ e i = some ev ∧ d ≤ 80 ∧ (rP g z tp d).1 r ev
/-- the texts that are known: the one that tells nothing, and those among the cells tp -/
def TxOk (g : gG) (z : Nat → Nat) (tp : va_W) (E : Nat → Option (Nat → Option EvS)) : Prop := ∀ (t : Nat) (e : Nat → Option EvS), E t = some e → (t = z 0 ∧ ∀ k : Nat, k < 4 → e k = none) ∨ TxAt g z tp t e
noncomputable def X_rules (cN : Nat → Int32) (cText : Nat → Option Nat) (zN : Nat) : Option Nat :=
  (rd cN 10 3).bind fun v1 => if v1 = (-1) then (some zN) else ((rd cN 10 3).bind fun v2 => (rdq cText 4 v2).bind fun v3 => some v3)
noncomputable def X_law (cNames : Nat → Int32) (E : Nat → Option (Nat → Option EvS)) (t : Nat) (x2 x3 x4 : Int32) : Option Int32 :=
  (E t).bind fun e => inb x2 4 (match e x2.toNatClampNeg with
    | none => X_held x3.toInt64 0 x4
    | some ev => X_held (ev cNames) 0 x4)
set_option maxHeartbeats 4000000 in
theorem met_X_rules {l : Launch} {g : gG} {h hn hi : Nat} {ad : Nat → Nat} {ra : Nat → Nat → Nat} {z : Nat → Nat} {sTaped : Int32} {sFault : Int32} {sFaultA : Int32} {sWays : Int32} {sMay : Int32} {sMust : Int32} {cTape : Nat → Int32} {cNames : Nat → Int32} {cHead : Nat → Int32} {cSure : Nat → Nat → Int32} {cN : Nat → Int32} {cRow : Nat → Int32} {cTried : Nat → Int32} {cFor : Nat → Int32} {cRoad : Nat → Int32} {cFear : Nat → Int32} {cCall : Nat → Int32} {cUnl : Nat → Int32} {cPaid : Nat → Nat → Int32} {cStep : Nat → Nat → Int32} {cGain : Nat → Nat → Int32} {cText : Nat → Option Nat} {iN : Nat → Int32} {iRow : Nat → Int32} {iFor : Nat → Int32} {iRoad : Nat → Int32} {iFear : Nat → Int32} {iCall : Nat → Int32} {iUnl : Nat → Int32} {iPaid : Nat → Nat → Int32} {iStep : Nat → Nat → Int32} {iGain : Nat → Nat → Int32} {iText : Nat → Option Nat} {tp : va_W} {zN : Nat} {r : Nat} (hzN : zN = z 0) (hf : X_rules cN cText zN = some r) : CX l yX0_rules (ws_ yX0_rules cX0_rules 1 (some (.object "WolfsHead$Text"))) ({ frames := 0, cells := 0, slots := 0, locals := 0 } : Room) g z [.ref h] (xW g h hn hi ad ra sTaped sFault sFaultA sWays sMay sMust cTape cNames cHead cSure cN cRow cTried cFor cRoad cFear cCall cUnl cPaid cStep cGain cText iN iRow iFor iRoad iFear iCall iUnl iPaid iStep iGain iText tp) (some (.ref r)) (xW g h hn hi ad ra sTaped sFault sFaultA sWays sMay sMust cTape cNames cHead cSure cN cRow cTried cFor cRoad cFear cCall cUnl cPaid cStep cGain cText iN iRow iFor iRoad iFear iCall iUnl iPaid iStep iGain iText tp) 0 0 := by
  subst hzN
  refine CX.of RX0 rfl plain_X0 (Nat.le_of_ble_eq_true rfl) (fun p e s m below meth c A ls X hF hP hD hS hl => ?_)
  have hx := X.1
  have hb := X.2.1
  have hl : lv_has ls 1 [(0, .ref h)] := hl
  unfold X_rules at hf
  refine lv_aload_n hx hb dX0_rules_0 rfl (lv_at hl 0 rfl) ?_
  refine gX_X0_this_now X hP dX0_rules_1 ?_
  refine gX_X0_now_n X hF hP dX0_rules_4 ?_
  refine lv_iconst (v := 3) hx hb dX0_rules_7 (by decide) ?_
  obtain ⟨v1, ev1, bv1, hf⟩ := rds hf
  refine lX_cN X hP ev1 bv1 dX0_rules_8 ?_
  refine lv_iconst (v := (-1)) hx hb dX0_rules_9 (by decide) ?_
  refine bc_ne (tgt := 19) hx hb hf dX0_rules_10 (by decide) (fun hf => ?_) (fun hf => ?_)
  · refine lv_aload_n hx hb dX0_rules_19 rfl (lv_at hl 0 rfl) ?_
    refine gX_X0_this_now X hP dX0_rules_20 ?_
    refine gX_X0_now_text X hF hP dX0_rules_23 ?_
    refine lv_aload_n hx hb dX0_rules_26 rfl (lv_at hl 0 rfl) ?_
    refine gX_X0_this_now X hP dX0_rules_27 ?_
    refine gX_X0_now_n X hF hP dX0_rules_30 ?_
    refine lv_iconst (v := 3) hx hb dX0_rules_33 (by decide) ?_
    obtain ⟨v2, ev2, bv2, hf⟩ := rds hf
    refine lX_cN X hP ev2 bv2 dX0_rules_34 ?_
    obtain ⟨v3, ev3, bv3, hf⟩ := rdqs hf
    refine lX_cText X hP ev3 bv3 dX0_rules_35 ?_
    cases hf
    exact rR X hP hD hS dX0_rules_36
  · refine va_gets (v := .ref (z 0)) hx hb hF.2.2.2.1.1 hS X.2.2.2.2.2.1 (X.2.2.2.2.2.2.1 _ q924) (fun _ h9 => h9) dX0_rules_13 ?_
    refine lv_goto (tgt := 36) hx hb dX0_rules_16 (by decide) ?_
    cases hf
    exact rR X hP hD hS dX0_rules_36
theorem gs_X0_X0_held : GoodIn lw_all (va_wsS RX0 153 yX0_held (ws_ yX0_held cX0_held 4 (some .int))) := lw_S q1038 q1039 q145 q1040
theorem dy_X0_held : Dy yX0_held RX0 3 := by decide +kernel
theorem tp_sub {g : gG} {h hn hi : Nat} {ad : Nat → Nat} {ra : Nat → Nat → Nat} {z : Nat → Nat} {sTaped : Int32} {sFault : Int32} {sFaultA : Int32} {sWays : Int32} {sMay : Int32} {sMust : Int32} {cTape : Nat → Int32} {cNames : Nat → Int32} {cHead : Nat → Int32} {cSure : Nat → Nat → Int32} {cN : Nat → Int32} {cRow : Nat → Int32} {cTried : Nat → Int32} {cFor : Nat → Int32} {cRoad : Nat → Int32} {cFear : Nat → Int32} {cCall : Nat → Int32} {cUnl : Nat → Int32} {cPaid : Nat → Nat → Int32} {cStep : Nat → Nat → Int32} {cGain : Nat → Nat → Int32} {cText : Nat → Option Nat} {iN : Nat → Int32} {iRow : Nat → Int32} {iFor : Nat → Int32} {iRoad : Nat → Int32} {iFear : Nat → Int32} {iCall : Nat → Int32} {iUnl : Nat → Int32} {iPaid : Nat → Nat → Int32} {iStep : Nat → Nat → Int32} {iGain : Nat → Nat → Int32} {iText : Nat → Option Nat} {tp : va_W} : ∀ (k : Nat) (q : Nat × va_E), tp[k]? = some q → ∃ k' : Nat, ((xW g h hn hi ad ra sTaped sFault sFaultA sWays sMay sMust cTape cNames cHead cSure cN cRow cTried cFor cRoad cFear cCall cUnl cPaid cStep cGain cText iN iRow iFor iRoad iFear iCall iUnl iPaid iStep iGain iText tp))[k']? = some q := fun k q hk => ⟨_, xat_tp hk⟩
set_option maxHeartbeats 4000000 in
theorem met_X_law {l : Launch} {g : gG} {h hn hi : Nat} {ad : Nat → Nat} {ra : Nat → Nat → Nat} {z : Nat → Nat} {sTaped : Int32} {sFault : Int32} {sFaultA : Int32} {sWays : Int32} {sMay : Int32} {sMust : Int32} {cTape : Nat → Int32} {cNames : Nat → Int32} {cHead : Nat → Int32} {cSure : Nat → Nat → Int32} {cN : Nat → Int32} {cRow : Nat → Int32} {cTried : Nat → Int32} {cFor : Nat → Int32} {cRoad : Nat → Int32} {cFear : Nat → Int32} {cCall : Nat → Int32} {cUnl : Nat → Int32} {cPaid : Nat → Nat → Int32} {cStep : Nat → Nat → Int32} {cGain : Nat → Nat → Int32} {cText : Nat → Option Nat} {iN : Nat → Int32} {iRow : Nat → Int32} {iFor : Nat → Int32} {iRoad : Nat → Int32} {iFear : Nat → Int32} {iCall : Nat → Int32} {iUnl : Nat → Int32} {iPaid : Nat → Nat → Int32} {iStep : Nat → Nat → Int32} {iGain : Nat → Nat → Int32} {iText : Nat → Option Nat} {tp : va_W} {E : Nat → Option (Nat → Option EvS)} {t : Nat} {x2 x3 x4 r : Int32} (hT : TxOk g z tp E) (hf : X_law cNames E t x2 x3 x4 = some r) : CX l yX0_law (ws_ yX0_law cX0_law 5 (some .int)) ({ frames := 242, cells := 0, slots := 0, locals := 5200 } : Room) g z [.ref h, .ref t, .int x2, .int x3, .int x4] (xW g h hn hi ad ra sTaped sFault sFaultA sWays sMay sMust cTape cNames cHead cSure cN cRow cTried cFor cRoad cFear cCall cUnl cPaid cStep cGain cText iN iRow iFor iRoad iFear iCall iUnl iPaid iStep iGain iText tp) (some (.int r)) (xW g h hn hi ad ra sTaped sFault sFaultA sWays sMay sMust cTape cNames cHead cSure cN cRow cTried cFor cRoad cFear cCall cUnl cPaid cStep cGain cText iN iRow iFor iRoad iFear iCall iUnl iPaid iStep iGain iText tp) 0 0 := by
  refine CX.of RX0 rfl plain_X0 (Nat.le_of_ble_eq_true rfl) (fun p e s m below meth c A ls X hF hP hD hS hl => ?_)
  have hx := X.1
  have hb := X.2.1
  have hown := X.2.2.2.2.2.1
  have hts := X.2.2.2.2.2.2.1
  have hK := X.2.2.2.2.2.2.2.2
  have hl : lv_has ls 5 [(0, .ref h), (1, .ref t), (2, .int x2), (3, .int x3), (4, .int x4)] := hl
  unfold X_law at hf
  obtain ⟨te, he, hf⟩ := bs hf
  obtain ⟨b2, hg⟩ := inbs hf
  -- what is asked of held, at its place behind the long
  have hend : ∀ (v : Int64) (H : Heap) (locs : List Loc), X_held v 0 x4 = some r → va_P g.1 vwCl (xW g h hn hi ad ra sTaped sFault sFaultA sWays sMay sMust cTape cNames cHead cSure cN cRow cTried cFor cRoad cFear cCall cUnl cPaid cStep cGain cText iN iRow iFor iRoad iFear iCall iUnl iPaid iStep iGain iText tp) H → va_D A (xW g h hn hi ad ra sTaped sFault sFaultA sWays sMay sMust cTape cNames cHead cSure cN cRow cTried cFor cRoad cFear cCall cUnl cPaid cStep cGain cText iN iRow iFor iRoad iFear iCall iUnl iPaid iStep iGain iText tp) → va_S A s.heap H locs → W p l e ({ frames := 242, cells := 0, slots := 0, locals := 5200 } : Room) s m ([.ref h, .ref t, .int x2, .int x3, .int x4] : List Value).toArray below meth c H locs 0 0 (MQ below (QQ g (some (.int r)) (xW g h hn hi ad ra sTaped sFault sFaultA sWays sMay sMust cTape cNames cHead cSure cN cRow cTried cFor cRoad cFear cCall cUnl cPaid cStep cGain cText iN iRow iFor iRoad iFear iCall iUnl iPaid iStep iGain iText tp) A) ([.ref h, .ref t, .int x2, .int x3, .int x4] : List Value).toArray s 0 0 A) (F0 m 29 ls [.long v]) := by
    intro v H locs hf hP hD hS
    refine lv_iconst (v := 0) hx hb dX0_law_29 (by decide) ?_
    refine lv_iload hx hb dX0_law_30 (lv_at hl 4 rfl) ?_
    refine cSi (rest := []) X (met_X_held (g := g) hf) gs_X0_X0_held dy_X0_held ⟨⟨rfl, rfl⟩, Nat.le_of_ble_eq_true rfl, Nat.le_of_ble_eq_true rfl⟩ hP hD hS hl.1 rfl rfl ⟨Nat.zero_le _, Nat.zero_le _⟩ (Nat.le_of_ble_eq_true rfl) dX0_law_32 (fun H locs hP hD hS => ?_)
    exact rI X hP hD hS dX0_law_35
  have hget : ∀ (d0 : decode cX0_law 1 = .ok (.getfield 141, 3)), True := fun _ => trivial
  rcases hT t te he with ⟨ht, hn0⟩ | ⟨k, j, la, dl, cl, f, hk, hj, hall⟩
  · -- the text that tells nothing
    subst ht
    have hen : te x2.toNatClampNeg = none := hn0 _ (vp_lt b2)
    rw [hen] at hg
    refine lv_aload_n hx hb dX0_law_0 rfl (lv_at hl 1 rfl) ?_
    obtain ⟨cf, kf, fi, ff, cell, h1, h2, h3, h4, h5, h6⟩ := hF.2.2.2.1.2.1.kept hS.2.1
    refine va_Wgetf (g := F0 m 1 ls [.ref (z 0)]) hx hb hown (hF.1.use 13 rfl) h1 h2 h3 h4 (v := .ref (z 1)) h5 rfl rfl dX0_law_1 ?_
    refine W.eq (g2 := F0 m 4 ls [.ref (z 1)]) rfl ?_
    refine lv_iload_n hx hb dX0_law_4 rfl (lv_at hl 2 rfl) ?_
    refine vb_tq hx hb hF.2.2.2.1.2.2 hS b2 (v := .null) rfl dX0_law_5 ?_
    refine lv_ifnonnullN hx hb dX0_law_6 ?_
    refine lv_iload_n hx hb dX0_law_9 rfl (lv_at hl 3 rfl) ?_
    refine lv_i2l hx hb dX0_law_10 rfl ?_
    refine lv_goto (tgt := 29) hx hb dX0_law_11 (by decide) ?_
    exact hend _ _ _ hg hP hD hS
  · have hi4 := vp_lt b2
    refine lv_aload_n hx hb dX0_law_0 rfl (lv_at hl 1 rfl) ?_
    refine gN X hF in_X4 hP _ (xat_tp hk) rfl 0 (by decide) 13 rfl rfl dX0_law_1 ?_
    refine lv_iload_n hx hb dX0_law_4 rfl (lv_at hl 2 rfl) ?_
    refine va_aldq hx hb hK hP _ 7 (xat_tp hj) rfl b2 dX0_law_5 ?_
    rcases hall _ hi4 with ⟨hfn, hen⟩ | ⟨r0, ev, d, hfr, her, hd, hr0⟩
    · rw [hen] at hg
      rw [hfn]
      refine lv_ifnonnullN hx hb dX0_law_6 ?_
      refine lv_iload_n hx hb dX0_law_9 rfl (lv_at hl 3 rfl) ?_
      refine lv_i2l hx hb dX0_law_10 rfl ?_
      refine lv_goto (tgt := 29) hx hb dX0_law_11 (by decide) ?_
      exact hend _ _ _ hg hP hD hS
    · rw [her] at hg
      rw [hfr]
      refine lv_ifnonnull (tgt := 14) hx hb dX0_law_6 (by decide) ?_
      refine lv_aload_n hx hb dX0_law_14 rfl (lv_at hl 1 rfl) ?_
      refine gN X hF in_X4 hP _ (xat_tp hk) rfl 0 (by decide) 13 rfl rfl dX0_law_15 ?_
      refine lv_iload_n hx hb dX0_law_18 rfl (lv_at hl 2 rfl) ?_
      refine va_aldq hx hb hK hP _ 7 (xat_tp hj) rfl b2 dX0_law_19 ?_
      rw [hfr]
      refine lv_aload_n hx hb dX0_law_20 rfl (lv_at hl 0 rfl) ?_
      refine gX_X0_this_names X hP dX0_law_21 ?_
      refine xFl (rest := []) (F := 3 * d) (L := 64 * d) X hF ((trees_ok l g z _ d).1 r0 ev ((rP_mono g z (tp_sub (z := z)) d).1 r0 ev hr0)) xat_cNames q931 hP hD hS hl.1 ⟨by dsimp only; omega, by dsimp only; omega⟩ ⟨Nat.zero_le _, Nat.zero_le _⟩ (Nat.le_of_ble_eq_true rfl) dX0_law_24 (fun H locs hP hD hS => ?_)
      exact hend _ _ _ hg hP hD hS
