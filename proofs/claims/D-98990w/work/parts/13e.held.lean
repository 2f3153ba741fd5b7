noncomputable def X_held (x0 : Int64) (x2 : Int32) (x3 : Int32) : Option Int32 :=
lt ((if x0 < ((x3 : Int32).toInt64) then x0 else ((x3 : Int32).toInt64)) : Int64) fun v1 =>
lt ((if v1 < ((x2 : Int32).toInt64) then ((x2 : Int32).toInt64) else v1) : Int64) fun v2 =>
some ((v2 : Int64).toInt32)
set_option maxHeartbeats 4000000 in
theorem met_X_held {l : Launch} {g : gG} {x0 : Int64} {x2 : Int32} {x3 : Int32} {r : Int32} (hf : X_held x0 x2 x3 = some r) : CC l yX0_held (ws_ yX0_held cX0_held 4 (some .int)) ({ frames := 1, cells := 0, slots := 0, locals := 25 } : Room) g [.long x0, .int x2, .int x3] ([] : va_W) (some (.int r)) ([] : va_W) 0 0 := by
  refine CC.of RX0 rfl plain_X0 (Nat.le_of_ble_eq_true rfl) (fun p e s m below meth c A ls X hP hD hS hl => ?_)
  have hx := X.1
  have hb := X.2.1
  have hown := X.2.2.2.2.2.1
  have hts := X.2.2.2.2.2.2.1
  have hl : lv_has ls 4 [(0, .long x0), (2, .int x2), (3, .int x3)] := hl
  unfold X_held at hf
  refine lv_iload_n hx hb dX0_held_0 rfl (lv_at hl 1 rfl) ?_
  refine lv_i2l hx hb dX0_held_1 rfl ?_
  refine lv_iload_n hx hb dX0_held_2 rfl (lv_at hl 2 rfl) ?_
  refine lv_i2l hx hb dX0_held_3 rfl ?_
  refine lv_lload_n hx hb dX0_held_4 rfl (lv_at hl 0 rfl) ?_
  refine rMinL X q1041 hl.1 ⟨Nat.le_of_ble_eq_true rfl, Nat.le_of_ble_eq_true rfl⟩ ⟨Nat.zero_le _, Nat.zero_le _⟩ dX0_held_5 ?_
  obtain ⟨v1, ev1, hf⟩ := lts hf
  refine tpl ev1 ?_
  refine rMaxL X q1042 hl.1 ⟨Nat.le_of_ble_eq_true rfl, Nat.le_of_ble_eq_true rfl⟩ ⟨Nat.zero_le _, Nat.zero_le _⟩ dX0_held_8 ?_
  obtain ⟨v2, ev2, hf⟩ := lts hf
  refine tpl ev2 ?_
  refine lv_l2i hx hb dX0_held_11 rfl ?_
  cases hf
  exact rI X hP hD hS dX0_held_12
