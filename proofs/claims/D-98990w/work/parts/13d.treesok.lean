/-! every tree answers; rules and law -/
theorem lw_F {own : String} {idx : Nat} {C : String} {x y : MethodName} {b : ByteArray} {L : Nat} {r : Option FieldType} (h1 : Cond.methodLink own idx x ∈ lw_all) (h2 : Cond.selects C x y ∈ lw_all) (h3 : Cond.instanceMethod y ∈ lw_all) (h4 : Cond.initialized y.cls ∈ lw_all) (h5 : Cond.code y b L r ∈ lw_all) : GoodIn lw_all (va_wsF own idx C x y (ws_ y b L r)) := by
  refine lw_app ?_ (lw_meth h5)
  intro w hw
  simp only [List.mem_cons, List.not_mem_nil, or_false] at hw
  rcases hw with e | e | e | e
  · rw [e]; exact h1
  · rw [e]; exact h2
  · rw [e]; exact h3
  · rw [e]; exact h4
theorem trees_ok (l : Launch) (g : gG) (z : Nat → Nat) (w : va_W) : ∀ d : Nat, (∀ (r : Nat) (ev : EvS), (rP g z w d).1 r ev → OfOK l g z w (3 * d) (64 * d) r ev) ∧ (∀ (r : Nat) (ev : EvA), (rP g z w d).2 r ev → IsOK l g z w (3 * d) (64 * d) r ev) := by
  intro d
  induction d with
  | zero => exact ⟨fun _ _ h => h.elim, fun _ _ h => h.elim⟩
  | succ d ih =>
    obtain ⟨ih1, ih2⟩ := ih
    refine ⟨fun r ev h => ?_, fun r ev h => ?_⟩
    · rcases h with ⟨k, n, hk, rfl⟩ | ⟨k, i, hk, hi, rfl⟩ | ⟨k, c, e, hk, hc, rfl⟩ | ⟨k, c, e, hk, hc, rfl⟩ | ⟨k, c, e, hk, hc, rfl⟩ | ⟨k, c0, c1, c2, b, e1, e2, hk, h0, h1, h2, rfl⟩ | ⟨k, c, la, ln, e, n, es, sg, f1, f2, hk, hc, hl1, hl2, he1, he2, rfl⟩
      · exact ⟨RX7, yX7_of, cX7_of, 2, k, 7, _, TX7, 1, hk, rfl, List.mem_of_getElem? (i := 8) rfl, List.mem_of_getElem? (i := 9) rfl, fun _ _ h => lw_F h q1002 q1004 q164 q1006, by decide, fun i0 va v hv => met_V7_of (F := 3 * d) (L := 64 * d) hk hv rfl⟩
      · exact ⟨RX12, yX12_of, cX12_of, 2, k, 12, _, TX12, 1, hk, rfl, List.mem_of_getElem? (i := 6) rfl, List.mem_of_getElem? (i := 7) rfl, fun _ _ h => lw_F h q988 q990 q172 q992, by decide, fun i0 va v hv => met_V12_of (F := 3 * d) (L := 64 * d) hk hv (by unfold V12_of rd; rw [if_neg hi]; rfl)⟩
      · exact ⟨RX15, yX15_of, cX15_of, 2, k, 15, _, TX15, 1, hk, rfl, List.mem_of_getElem? (i := 5) rfl, List.mem_of_getElem? (i := 6) rfl, fun _ _ h => lw_F h q980 q982 q175 q984, by decide, fun i0 va v hv => met_V15_of (F := 3 * d) (L := 64 * d) hk hv (ih1 _ _ hc) rfl⟩
      · exact ⟨RX13, yX13_of, cX13_of, 6, k, 13, _, TX13, 1, hk, rfl, List.mem_of_getElem? (i := 7) rfl, List.mem_of_getElem? (i := 8) rfl, fun _ _ h => lw_F h q994 q996 q173 q998, by decide, fun i0 va v hv => met_V13_of (F := 3 * d) (L := 64 * d) hk hv (ih1 _ _ hc) (V13_eq 65 (Nat.le_refl _) v e)⟩
      · exact ⟨RX14, yX14_of, cX14_of, 4, k, 14, _, TX14, 1, hk, rfl, List.mem_of_getElem? (i := 1) rfl, List.mem_of_getElem? (i := 2) rfl, fun _ _ h => lw_F h q943 q945 q174 q947, by decide, fun i0 va v hv => met_V14_of (F := 3 * d) (L := 64 * d) hk hv (ih1 _ _ hc) (V14_eq v e)⟩
      · exact ⟨RX11, yX11_of, cX11_of, 2, k, 11, _, TX11, 3, hk, rfl, List.mem_of_getElem? (i := 2) rfl, List.mem_of_getElem? (i := 3) rfl, fun _ _ h => lw_F h q951 q953 q171 q955, by decide, fun i0 va v hv => met_V11_of (F := 3 * d) (L := 64 * d) hk hv (ih2 _ _ h0) (ih1 _ _ h1) (ih1 _ _ h2) (V11_eq v b e1 e2)⟩
      · obtain ⟨k1, j1, ea1, n1, mc1, a1, b1, c1, d1⟩ := hl1
        obtain ⟨k2, j2, ea2, n2, mc2, a2, b2, c2, d2⟩ := hl2
        exact ⟨RX6, yX6_of, cX6_of, 10, k, 6, _, TX6, 3, hk, rfl, List.mem_of_getElem? (i := 0) rfl, List.mem_of_getElem? (i := 1) rfl, fun _ _ h => lw_F h q935 q937 q162 q939, by decide, fun i0 va v hv => met_V6_of (F := 3 * d) (L := 64 * d) (φ := n + 1) hk hv (ih1 _ _ hc) a1 b1 ⟨c1, d1⟩ (fun i hi => by obtain ⟨y, q1, q2⟩ := he1 i hi; exact ⟨y, q1, ih1 _ _ q2⟩) a2 b2 ⟨c2, d2⟩ he2 (V6_eq (n + 1) v e n es sg (by omega) (by omega))⟩
    · rcases h with ⟨k, c1, c2, s, e1, e2, hk, h1, h2, rfl⟩ | ⟨k, c, b, hk, hc, rfl⟩ | ⟨k, la, f, n, bs, f1, hk, hl1, he1, rfl⟩
      · exact ⟨RX9, yX9_is, cX9_is, 4, k, 9, _, TX9, 3, hk, rfl, List.mem_of_getElem? (i := 4) rfl, List.mem_of_getElem? (i := 5) rfl, fun _ _ h => lw_F h q972 q974 q166 q976, by decide, fun i0 va v hv => met_V9_is (F := 3 * d) (L := 64 * d) hk hv (ih1 _ _ h1) (ih1 _ _ h2) (V9_eq v s e1 e2)⟩
      · exact ⟨RX8, yX8_is, cX8_is, 2, k, 8, _, TX8, 1, hk, rfl, List.mem_of_getElem? (i := 9) rfl, List.mem_of_getElem? (i := 10) rfl, fun _ _ h => lw_F h q1012 q1014 q165 q1016, by decide, fun i0 va v hv => met_V8_is (F := 3 * d) (L := 64 * d) hk hv (ih2 _ _ hc) (V8_eq v b)⟩
      · obtain ⟨k1, j1, ea1, n1, mc1, a1, b1, c1, d1⟩ := hl1
        exact ⟨RX10, yX10_is, cX10_is, 4, k, 10, _, TX10, 2, hk, rfl, List.mem_of_getElem? (i := 3) rfl, List.mem_of_getElem? (i := 4) rfl, fun _ _ h => lw_F h q961 q963 q170 q965, by decide, fun i0 va v hv => met_V10_is (F := 3 * d) (L := 64 * d) (φ := n + 1) hk hv a1 b1 ⟨c1, d1⟩ (fun i hi => by obtain ⟨y, q1, q2⟩ := he1 i hi; exact ⟨y, q1, ih2 _ _ q2⟩) (V10_eq (n + 1) v f n bs (by omega) (by omega))⟩
