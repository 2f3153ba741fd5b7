/-! Sum.of and Asked.is, class by class: printed by gen/gene.py -/
theorem vpn {i : Int32} {c n : Nat} (h : vp_in i c) (h1 : c ≤ n) (h2 : n < 2 ^ 31) : ¬ i < 0 ∧ i < nI c ∧ vp_in i n := by
  obtain ⟨j, hj, rfl⟩ := vp_in_of h (by omega)
  exact ⟨nI_pos (by omega), nI_lt hj (by omega), vp_in_nI (by omega) h2⟩
theorem lE {p : Program} {l : Launch} {e : Env} {R : Room} {s : State} {m : MethodId} {args : Array Value} {below : List Frame} {meth : Method} {c : Code} {H : Heap} {locs : List Loc} {cells slots : Nat} {Q : State → Prop} {A : Nat → Prop} {own : String} {cc : ByteArray} {nL : Nat} {ret : Option FieldType} {g : gG} {ls : Array Slot} {rest : List Value} {pc : Nat} {w : va_W} {i0 va : Nat} {cV : Nat → Int32} (hv : w[i0]? = some (va, .inl (g.2 0, 16, .inl cV))) {i v : Int32} (X : Cx p s m meth c args own cc nL ret g A) (hP : va_P g.1 vwCl w H) (ev : v = cV i.toNatClampNeg) (hin : vp_in i 16) (hdg : decode cc pc = .ok (.iaload, 1)) (kk : W p l e R s m args below meth c H locs cells slots Q (F0 m (pc + 1) ls (.int v :: rest))) : W p l e R s m args below meth c H locs cells slots Q (F0 m pc ls (.int i :: .ref va :: rest)) :=
  va_iald X.1 X.2.1 X.2.2.2.2.2.2.2.2 hP i0 0 hv rfl hin hdg (by rw [← ev]; exact kk)
theorem rAbsL {p : Program} {l : Launch} {e : Env} {R : Room} {s : State} {m : MethodId} {args : Array Value} {below : List Frame} {meth : Method} {c : Code} {H : Heap} {locs : List Loc} {cells slots : Nat} {Q : State → Prop} {A : Nat → Prop} {own : String} {cc : ByteArray} {nL : Nat} {ret : Option FieldType} {g : gG} {ls : Array Slot} {rest : List Value} {pc index : Nat} (X : Cx p s m meth c args own cc nL ret g A) (hlink : (Cond.methodLink own index Lib.MathLoose.abs_long.x) ∈ lw_all) (hl : ls.size = nL) (hfr : 1 ≤ R.frames ∧ (rest.map fun v => v.category).sum + 13 ≤ R.locals) (hf : cells ≤ R.cells ∧ slots ≤ R.slots) {x : Int64} (hdg : decode cc pc = .ok (.invokestatic index, 3))
    (kk : W p l e R s m args below meth c H locs cells slots Q (F0 m (pc + 3) ls (.long (if 0 < x then x else -x) :: rest))) : W p l e R s m args below meth c H locs cells slots Q (F0 m pc ls (.long x :: rest)) :=
  va_mabs_long X.1 X.2.1 (X.2.2.2.2.1.trans hl.symm) X.2.2.2.2.2.1 (X.2.2.2.2.2.2.1 _ hlink) (X.2.2.2.2.2.2.1 _ q1008) (X.2.2.2.2.2.2.1 _ q158) (X.2.2.2.2.2.2.1 _ q1009) hfr.1 hfr.2 hf.1 hf.2 hdg kk

theorem plain_X7 : plainName RX7 = true := by decide +kernel
theorem eG_X7_n {p : Program} {l : Launch} {e : Env} {R : Room} {s : State} {m : MethodId} {args : Array Value} {below : List Frame} {meth : Method} {c : Code} {H : Heap} {locs : List Loc} {cells slots : Nat} {Q : State → Prop} {A : Nat → Prop} {cc : ByteArray} {nL : Nat} {ret : Option FieldType} {g : gG} {ls : Array Slot} {rest : List Value} {pc : Nat} {w : va_W} {k0 r0 : Nat} {fs : List Value} {v : Value} (hk : w[k0]? = some (r0, .inr (7, fs))) (hv : fs[0]? = some v) (X : Cx p s m meth c args RX7 cc nL ret g A) (hP : va_P g.1 vwCl w H) (hdg : decode cc pc = .ok (.getfield 7, 3)) (kk : W p l e R s m args below meth c H locs cells slots Q (F0 m (pc + 3) ls (v :: rest))) : W p l e R s m args below meth c H locs cells slots Q (F0 m pc ls (.ref r0 :: rest)) :=
  gF X in_X7 hP k0 hk rfl 0 (by decide) q593 hv hdg kk
theorem plain_X12 : plainName RX12 = true := by decide +kernel
theorem eG_X12_which {p : Program} {l : Launch} {e : Env} {R : Room} {s : State} {m : MethodId} {args : Array Value} {below : List Frame} {meth : Method} {c : Code} {H : Heap} {locs : List Loc} {cells slots : Nat} {Q : State → Prop} {A : Nat → Prop} {cc : ByteArray} {nL : Nat} {ret : Option FieldType} {g : gG} {ls : Array Slot} {rest : List Value} {pc : Nat} {w : va_W} {k0 r0 : Nat} {fs : List Value} {v : Value} (hk : w[k0]? = some (r0, .inr (12, fs))) (hv : fs[0]? = some v) (X : Cx p s m meth c args RX12 cc nL ret g A) (hP : va_P g.1 vwCl w H) (hdg : decode cc pc = .ok (.getfield 7, 3)) (kk : W p l e R s m args below meth c H locs cells slots Q (F0 m (pc + 3) ls (v :: rest))) : W p l e R s m args below meth c H locs cells slots Q (F0 m pc ls (.ref r0 :: rest)) :=
  gF X in_X12 hP k0 hk rfl 0 (by decide) q773 hv hdg kk
theorem plain_X15 : plainName RX15 = true := by decide +kernel
theorem eG_X15_x {p : Program} {l : Launch} {e : Env} {R : Room} {s : State} {m : MethodId} {args : Array Value} {below : List Frame} {meth : Method} {c : Code} {H : Heap} {locs : List Loc} {cells slots : Nat} {Q : State → Prop} {A : Nat → Prop} {cc : ByteArray} {nL : Nat} {ret : Option FieldType} {g : gG} {ls : Array Slot} {rest : List Value} {pc : Nat} {w : va_W} {k0 r0 : Nat} {fs : List Value} {v : Value} (hk : w[k0]? = some (r0, .inr (15, fs))) (hv : fs[0]? = some v) (X : Cx p s m meth c args RX15 cc nL ret g A) (hP : va_P g.1 vwCl w H) (hdg : decode cc pc = .ok (.getfield 7, 3)) (kk : W p l e R s m args below meth c H locs cells slots Q (F0 m (pc + 3) ls (v :: rest))) : W p l e R s m args below meth c H locs cells slots Q (F0 m pc ls (.ref r0 :: rest)) :=
  gF X in_X15 hP k0 hk rfl 0 (by decide) q803 hv hdg kk
theorem plain_X13 : plainName RX13 = true := by decide +kernel
theorem eG_X13_a {p : Program} {l : Launch} {e : Env} {R : Room} {s : State} {m : MethodId} {args : Array Value} {below : List Frame} {meth : Method} {c : Code} {H : Heap} {locs : List Loc} {cells slots : Nat} {Q : State → Prop} {A : Nat → Prop} {cc : ByteArray} {nL : Nat} {ret : Option FieldType} {g : gG} {ls : Array Slot} {rest : List Value} {pc : Nat} {w : va_W} {k0 r0 : Nat} {fs : List Value} {v : Value} (hk : w[k0]? = some (r0, .inr (13, fs))) (hv : fs[0]? = some v) (X : Cx p s m meth c args RX13 cc nL ret g A) (hP : va_P g.1 vwCl w H) (hdg : decode cc pc = .ok (.getfield 7, 3)) (kk : W p l e R s m args below meth c H locs cells slots Q (F0 m (pc + 3) ls (v :: rest))) : W p l e R s m args below meth c H locs cells slots Q (F0 m pc ls (.ref r0 :: rest)) :=
  gF X in_X13 hP k0 hk rfl 0 (by decide) q783 hv hdg kk
theorem plain_X14 : plainName RX14 = true := by decide +kernel
theorem eG_X14_who {p : Program} {l : Launch} {e : Env} {R : Room} {s : State} {m : MethodId} {args : Array Value} {below : List Frame} {meth : Method} {c : Code} {H : Heap} {locs : List Loc} {cells slots : Nat} {Q : State → Prop} {A : Nat → Prop} {cc : ByteArray} {nL : Nat} {ret : Option FieldType} {g : gG} {ls : Array Slot} {rest : List Value} {pc : Nat} {w : va_W} {k0 r0 : Nat} {fs : List Value} {v : Value} (hk : w[k0]? = some (r0, .inr (14, fs))) (hv : fs[0]? = some v) (X : Cx p s m meth c args RX14 cc nL ret g A) (hP : va_P g.1 vwCl w H) (hdg : decode cc pc = .ok (.getfield 9, 3)) (kk : W p l e R s m args below meth c H locs cells slots Q (F0 m (pc + 3) ls (v :: rest))) : W p l e R s m args below meth c H locs cells slots Q (F0 m pc ls (.ref r0 :: rest)) :=
  gF X in_X14 hP k0 hk rfl 0 (by decide) q793 hv hdg kk
theorem plain_X11 : plainName RX11 = true := by decide +kernel
theorem eG_X11_asked {p : Program} {l : Launch} {e : Env} {R : Room} {s : State} {m : MethodId} {args : Array Value} {below : List Frame} {meth : Method} {c : Code} {H : Heap} {locs : List Loc} {cells slots : Nat} {Q : State → Prop} {A : Nat → Prop} {cc : ByteArray} {nL : Nat} {ret : Option FieldType} {g : gG} {ls : Array Slot} {rest : List Value} {pc : Nat} {w : va_W} {k0 r0 : Nat} {fs : List Value} {v : Value} (hk : w[k0]? = some (r0, .inr (11, fs))) (hv : fs[0]? = some v) (X : Cx p s m meth c args RX11 cc nL ret g A) (hP : va_P g.1 vwCl w H) (hdg : decode cc pc = .ok (.getfield 7, 3)) (kk : W p l e R s m args below meth c H locs cells slots Q (F0 m (pc + 3) ls (v :: rest))) : W p l e R s m args below meth c H locs cells slots Q (F0 m pc ls (.ref r0 :: rest)) :=
  gF X in_X11 hP k0 hk rfl 0 (by decide) q747 hv hdg kk
theorem eG_X11_yes {p : Program} {l : Launch} {e : Env} {R : Room} {s : State} {m : MethodId} {args : Array Value} {below : List Frame} {meth : Method} {c : Code} {H : Heap} {locs : List Loc} {cells slots : Nat} {Q : State → Prop} {A : Nat → Prop} {cc : ByteArray} {nL : Nat} {ret : Option FieldType} {g : gG} {ls : Array Slot} {rest : List Value} {pc : Nat} {w : va_W} {k0 r0 : Nat} {fs : List Value} {v : Value} (hk : w[k0]? = some (r0, .inr (11, fs))) (hv : fs[1]? = some v) (X : Cx p s m meth c args RX11 cc nL ret g A) (hP : va_P g.1 vwCl w H) (hdg : decode cc pc = .ok (.getfield 13, 3)) (kk : W p l e R s m args below meth c H locs cells slots Q (F0 m (pc + 3) ls (v :: rest))) : W p l e R s m args below meth c H locs cells slots Q (F0 m pc ls (.ref r0 :: rest)) :=
  gF X in_X11 hP k0 hk rfl 1 (by decide) q748 hv hdg kk
theorem eG_X11_no {p : Program} {l : Launch} {e : Env} {R : Room} {s : State} {m : MethodId} {args : Array Value} {below : List Frame} {meth : Method} {c : Code} {H : Heap} {locs : List Loc} {cells slots : Nat} {Q : State → Prop} {A : Nat → Prop} {cc : ByteArray} {nL : Nat} {ret : Option FieldType} {g : gG} {ls : Array Slot} {rest : List Value} {pc : Nat} {w : va_W} {k0 r0 : Nat} {fs : List Value} {v : Value} (hk : w[k0]? = some (r0, .inr (11, fs))) (hv : fs[2]? = some v) (X : Cx p s m meth c args RX11 cc nL ret g A) (hP : va_P g.1 vwCl w H) (hdg : decode cc pc = .ok (.getfield 17, 3)) (kk : W p l e R s m args below meth c H locs cells slots Q (F0 m (pc + 3) ls (v :: rest))) : W p l e R s m args below meth c H locs cells slots Q (F0 m pc ls (.ref r0 :: rest)) :=
  gF X in_X11 hP k0 hk rfl 2 (by decide) q749 hv hdg kk
theorem plain_X9 : plainName RX9 = true := by decide +kernel
theorem eG_X9_sign {p : Program} {l : Launch} {e : Env} {R : Room} {s : State} {m : MethodId} {args : Array Value} {below : List Frame} {meth : Method} {c : Code} {H : Heap} {locs : List Loc} {cells slots : Nat} {Q : State → Prop} {A : Nat → Prop} {cc : ByteArray} {nL : Nat} {ret : Option FieldType} {g : gG} {ls : Array Slot} {rest : List Value} {pc : Nat} {w : va_W} {k0 r0 : Nat} {fs : List Value} {v : Value} (hk : w[k0]? = some (r0, .inr (9, fs))) (hv : fs[0]? = some v) (X : Cx p s m meth c args RX9 cc nL ret g A) (hP : va_P g.1 vwCl w H) (hdg : decode cc pc = .ok (.getfield 7, 3)) (kk : W p l e R s m args below meth c H locs cells slots Q (F0 m (pc + 3) ls (v :: rest))) : W p l e R s m args below meth c H locs cells slots Q (F0 m pc ls (.ref r0 :: rest)) :=
  gF X in_X9 hP k0 hk rfl 0 (by decide) q635 hv hdg kk
theorem eG_X9_a {p : Program} {l : Launch} {e : Env} {R : Room} {s : State} {m : MethodId} {args : Array Value} {below : List Frame} {meth : Method} {c : Code} {H : Heap} {locs : List Loc} {cells slots : Nat} {Q : State → Prop} {A : Nat → Prop} {cc : ByteArray} {nL : Nat} {ret : Option FieldType} {g : gG} {ls : Array Slot} {rest : List Value} {pc : Nat} {w : va_W} {k0 r0 : Nat} {fs : List Value} {v : Value} (hk : w[k0]? = some (r0, .inr (9, fs))) (hv : fs[1]? = some v) (X : Cx p s m meth c args RX9 cc nL ret g A) (hP : va_P g.1 vwCl w H) (hdg : decode cc pc = .ok (.getfield 13, 3)) (kk : W p l e R s m args below meth c H locs cells slots Q (F0 m (pc + 3) ls (v :: rest))) : W p l e R s m args below meth c H locs cells slots Q (F0 m pc ls (.ref r0 :: rest)) :=
  gF X in_X9 hP k0 hk rfl 1 (by decide) q636 hv hdg kk
theorem eG_X9_b {p : Program} {l : Launch} {e : Env} {R : Room} {s : State} {m : MethodId} {args : Array Value} {below : List Frame} {meth : Method} {c : Code} {H : Heap} {locs : List Loc} {cells slots : Nat} {Q : State → Prop} {A : Nat → Prop} {cc : ByteArray} {nL : Nat} {ret : Option FieldType} {g : gG} {ls : Array Slot} {rest : List Value} {pc : Nat} {w : va_W} {k0 r0 : Nat} {fs : List Value} {v : Value} (hk : w[k0]? = some (r0, .inr (9, fs))) (hv : fs[2]? = some v) (X : Cx p s m meth c args RX9 cc nL ret g A) (hP : va_P g.1 vwCl w H) (hdg : decode cc pc = .ok (.getfield 17, 3)) (kk : W p l e R s m args below meth c H locs cells slots Q (F0 m (pc + 3) ls (v :: rest))) : W p l e R s m args below meth c H locs cells slots Q (F0 m pc ls (.ref r0 :: rest)) :=
  gF X in_X9 hP k0 hk rfl 2 (by decide) q637 hv hdg kk
theorem plain_X8 : plainName RX8 = true := by decide +kernel
theorem eG_X8_x {p : Program} {l : Launch} {e : Env} {R : Room} {s : State} {m : MethodId} {args : Array Value} {below : List Frame} {meth : Method} {c : Code} {H : Heap} {locs : List Loc} {cells slots : Nat} {Q : State → Prop} {A : Nat → Prop} {cc : ByteArray} {nL : Nat} {ret : Option FieldType} {g : gG} {ls : Array Slot} {rest : List Value} {pc : Nat} {w : va_W} {k0 r0 : Nat} {fs : List Value} {v : Value} (hk : w[k0]? = some (r0, .inr (8, fs))) (hv : fs[0]? = some v) (X : Cx p s m meth c args RX8 cc nL ret g A) (hP : va_P g.1 vwCl w H) (hdg : decode cc pc = .ok (.getfield 7, 3)) (kk : W p l e R s m args below meth c H locs cells slots Q (F0 m (pc + 3) ls (v :: rest))) : W p l e R s m args below meth c H locs cells slots Q (F0 m pc ls (.ref r0 :: rest)) :=
  gF X in_X8 hP k0 hk rfl 0 (by decide) q625 hv hdg kk
theorem plain_X10 : plainName RX10 = true := by decide +kernel
theorem eG_X10_and {p : Program} {l : Launch} {e : Env} {R : Room} {s : State} {m : MethodId} {args : Array Value} {below : List Frame} {meth : Method} {c : Code} {H : Heap} {locs : List Loc} {cells slots : Nat} {Q : State → Prop} {A : Nat → Prop} {cc : ByteArray} {nL : Nat} {ret : Option FieldType} {g : gG} {ls : Array Slot} {rest : List Value} {pc : Nat} {w : va_W} {k0 r0 : Nat} {fs : List Value} {v : Value} (hk : w[k0]? = some (r0, .inr (10, fs))) (hv : fs[0]? = some v) (X : Cx p s m meth c args RX10 cc nL ret g A) (hP : va_P g.1 vwCl w H) (hdg : decode cc pc = .ok (.getfield 7, 3)) (kk : W p l e R s m args below meth c H locs cells slots Q (F0 m (pc + 3) ls (v :: rest))) : W p l e R s m args below meth c H locs cells slots Q (F0 m pc ls (.ref r0 :: rest)) :=
  gF X in_X10 hP k0 hk rfl 0 (by decide) q730 hv hdg kk
theorem eG_X10_of {p : Program} {l : Launch} {e : Env} {R : Room} {s : State} {m : MethodId} {args : Array Value} {below : List Frame} {meth : Method} {c : Code} {H : Heap} {locs : List Loc} {cells slots : Nat} {Q : State → Prop} {A : Nat → Prop} {cc : ByteArray} {nL : Nat} {ret : Option FieldType} {g : gG} {ls : Array Slot} {rest : List Value} {pc : Nat} {w : va_W} {k0 r0 : Nat} {fs : List Value} {v : Value} (hk : w[k0]? = some (r0, .inr (10, fs))) (hv : fs[1]? = some v) (X : Cx p s m meth c args RX10 cc nL ret g A) (hP : va_P g.1 vwCl w H) (hdg : decode cc pc = .ok (.getfield 13, 3)) (kk : W p l e R s m args below meth c H locs cells slots Q (F0 m (pc + 3) ls (v :: rest))) : W p l e R s m args below meth c H locs cells slots Q (F0 m pc ls (.ref r0 :: rest)) :=
  gF X in_X10 hP k0 hk rfl 1 (by decide) q731 hv hdg kk
theorem plain_X6 : plainName RX6 = true := by decide +kernel
theorem eG_X6_first {p : Program} {l : Launch} {e : Env} {R : Room} {s : State} {m : MethodId} {args : Array Value} {below : List Frame} {meth : Method} {c : Code} {H : Heap} {locs : List Loc} {cells slots : Nat} {Q : State → Prop} {A : Nat → Prop} {cc : ByteArray} {nL : Nat} {ret : Option FieldType} {g : gG} {ls : Array Slot} {rest : List Value} {pc : Nat} {w : va_W} {k0 r0 : Nat} {fs : List Value} {v : Value} (hk : w[k0]? = some (r0, .inr (6, fs))) (hv : fs[0]? = some v) (X : Cx p s m meth c args RX6 cc nL ret g A) (hP : va_P g.1 vwCl w H) (hdg : decode cc pc = .ok (.getfield 21, 3)) (kk : W p l e R s m args below meth c H locs cells slots Q (F0 m (pc + 3) ls (v :: rest))) : W p l e R s m args below meth c H locs cells slots Q (F0 m pc ls (.ref r0 :: rest)) :=
  gF X in_X6 hP k0 hk rfl 0 (by decide) q813 hv hdg kk
theorem eG_X6_more {p : Program} {l : Launch} {e : Env} {R : Room} {s : State} {m : MethodId} {args : Array Value} {below : List Frame} {meth : Method} {c : Code} {H : Heap} {locs : List Loc} {cells slots : Nat} {Q : State → Prop} {A : Nat → Prop} {cc : ByteArray} {nL : Nat} {ret : Option FieldType} {g : gG} {ls : Array Slot} {rest : List Value} {pc : Nat} {w : va_W} {k0 r0 : Nat} {fs : List Value} {v : Value} (hk : w[k0]? = some (r0, .inr (6, fs))) (hv : fs[1]? = some v) (X : Cx p s m meth c args RX6 cc nL ret g A) (hP : va_P g.1 vwCl w H) (hdg : decode cc pc = .ok (.getfield 12, 3)) (kk : W p l e R s m args below meth c H locs cells slots Q (F0 m (pc + 3) ls (v :: rest))) : W p l e R s m args below meth c H locs cells slots Q (F0 m pc ls (.ref r0 :: rest)) :=
  gF X in_X6 hP k0 hk rfl 1 (by decide) q814 hv hdg kk
theorem eG_X6_signs {p : Program} {l : Launch} {e : Env} {R : Room} {s : State} {m : MethodId} {args : Array Value} {below : List Frame} {meth : Method} {c : Code} {H : Heap} {locs : List Loc} {cells slots : Nat} {Q : State → Prop} {A : Nat → Prop} {cc : ByteArray} {nL : Nat} {ret : Option FieldType} {g : gG} {ls : Array Slot} {rest : List Value} {pc : Nat} {w : va_W} {k0 r0 : Nat} {fs : List Value} {v : Value} (hk : w[k0]? = some (r0, .inr (6, fs))) (hv : fs[2]? = some v) (X : Cx p s m meth c args RX6 cc nL ret g A) (hP : va_P g.1 vwCl w H) (hdg : decode cc pc = .ok (.getfield 18, 3)) (kk : W p l e R s m args below meth c H locs cells slots Q (F0 m (pc + 3) ls (v :: rest))) : W p l e R s m args below meth c H locs cells slots Q (F0 m pc ls (.ref r0 :: rest)) :=
  gF X in_X6 hP k0 hk rfl 2 (by decide) q815 hv hdg kk
noncomputable def V7_of (fn : Int32) : Option Int64 :=
some ((fn : Int32).toInt64)
noncomputable def V12_of (cV : Nat → Int32) (fn : Int32) : Option Int64 :=
(rd cV 16 fn).bind fun v1 =>
some ((v1 : Int32).toInt64)
noncomputable def V15_of (cV : Nat → Int32) (e1 : EvS) : Option Int64 :=
lt ((e1 cV) : Int64) fun v1 =>
some (-v1)
noncomputable def V13_of_L17 (φ : Nat) : Nat → Int64 → Int64 → Option Int64
  | 0, _, _ => none
  | n6 + 1, v3, v4 =>
    if (lg_cmp v4 0) ≤ 0 then (some v3) else (lt ((v3 + (v4 - v4 / 2 * 2)) : Int64) fun v11 =>
    lt ((v4 / 2) : Int64) fun v12 =>
    V13_of_L17 φ n6 v11 v12)
noncomputable def V13_of (φ : Nat) (cV : Nat → Int32) (e1 : EvS) : Option Int64 :=
lt ((e1 cV) : Int64) fun v1 =>
lt ((if 0 < v1 then v1 else -v1) : Int64) fun v2 =>
bd1 (V13_of_L17 φ φ 0 v2) fun v5 =>
some v5
noncomputable def V14_of (cV : Nat → Int32) (e1 : EvS) : Option Int64 :=
lt ((e1 cV) : Int64) fun v1 =>
if (lg_cmp v1 0) < 0 then (some 0) else (if (lg_cmp v1 6) < 0 then ((rd cV 16 (10 + ((v1 : Int64).toInt32))).bind fun v2 =>
some ((v2 : Int32).toInt64)) else (some 0))
noncomputable def V11_of (cV : Nat → Int32) (b0 : EvA) (e1 : EvS) (e2 : EvS) : Option Int64 :=
lt ((b0 cV) : Int32) fun v1 =>
if v1 = 0 then (lt ((e2 cV) : Int64) fun v2 =>
some v2) else (lt ((e1 cV) : Int64) fun v3 =>
some v3)
noncomputable def V9_is (cV : Nat → Int32) (fn : Int32) (e1 : EvS) (e2 : EvS) : Option Int32 :=
lt ((e1 cV) : Int64) fun v1 =>
lt ((e2 cV) : Int64) fun v2 =>
lt ((v1 - v2) : Int64) fun v3 =>
if fn = 35 then (if (lg_cmp v3 0) = 0 then (some 0) else (some 1)) else if fn = 60 then (if 0 ≤ (lg_cmp v3 0) then (some 0) else (some 1)) else if fn = 61 then (if (lg_cmp v3 0) = 0 then (some 1) else (some 0)) else if fn = 62 then (if (lg_cmp v3 0) ≤ 0 then (some 0) else (some 1)) else if fn = 303 then (if 0 < (lg_cmp v3 0) then (some 0) else (some 1)) else (if (lg_cmp v3 0) < 0 then (some 0) else (some 1))
noncomputable def V8_is (cV : Nat → Int32) (b0 : EvA) : Option Int32 :=
lt ((b0 cV) : Int32) fun v1 =>
if v1 = 0 then (some 1) else (some 0)
noncomputable def V10_is_L4 (φ : Nat) (cV : Nat → Int32) (lc : Nat) (bs : Nat → EvA) : Nat → Int32 → Int32 → Option Int32
  | 0, _, _ => none
  | n4 + 1, v1, v2 =>
    if (nI lc) ≤ v2 then (some v1) else (inb v2 lc (
    lt (((bs (v2 : Int32).toNatClampNeg) cV) : Int32) fun v11 =>
    if v11 = 0 then (lt ((v1 + 0) : Int32) fun v12 =>
    lt ((v2 + 1) : Int32) fun v13 =>
    V10_is_L4 φ cV lc bs n4 v12 v13) else (lt ((v1 + 1) : Int32) fun v14 =>
    lt ((v2 + 1) : Int32) fun v15 =>
    V10_is_L4 φ cV lc bs n4 v14 v15)))
noncomputable def V10_is (φ : Nat) (cV : Nat → Int32) (fn : Int32) (lc : Nat) (bs : Nat → EvA) : Option Int32 :=
bd1 (V10_is_L4 φ cV lc bs φ 0 0) fun v3 =>
if fn = 0 then (if v3 ≤ 0 then (some 0) else (some 1)) else (if v3 = (nI lc) then (some 1) else (some 0))
noncomputable def V6_of_L14 (φ : Nat) (cV : Nat → Int32) (lc : Nat) (es : Nat → EvS) (ld : Nat) (sg : Nat → Int32) : Nat → Int64 → Int32 → Option Int64
  | 0, _, _ => none
  | n5 + 1, v2, v3 =>
    if (nI lc) ≤ v3 then (some v2) else (inb v3 lc (
    lt (((es (v3 : Int32).toNatClampNeg) cV) : Int64) fun v12 =>
    inb v3 ld (
    lt ((sg (v3 : Int32).toNatClampNeg) : Int32) fun v15 =>
    bd1 (if v15 = 43 then (some (v2 + v12)) else (if v15 = 45 then (some (v2 - v12)) else (if v15 = 42 then (some (v2 * v12)) else (if (lg_cmp v12 0) = 0 then (some 0) else (nzL v12 (
    some (v2 / v12)))))) : Option Int64) fun v16 =>
    lt ((if v16 < 1000000 then v16 else 1000000) : Int64) fun v19 =>
    lt ((if v19 < (-1000000) then (-1000000) else v19) : Int64) fun v20 =>
    lt ((v3 + 1) : Int32) fun v21 =>
    V6_of_L14 φ cV lc es ld sg n5 v20 v21)))
noncomputable def V6_of (φ : Nat) (cV : Nat → Int32) (e1 : EvS) (lc : Nat) (es : Nat → EvS) (ld : Nat) (sg : Nat → Int32) : Option Int64 :=
lt ((e1 cV) : Int64) fun v1 =>
bd1 (V6_of_L14 φ cV lc es ld sg φ v1 0) fun v4 =>
some v4
set_option maxHeartbeats 4000000 in
theorem met_V7_of {l : Launch} {g : gG} {z : Nat → Nat} {w : va_W} {k0 r0 i0 va F L : Nat} {cV : Nat → Int32} {fn : Int32} {r : Int64} (hk : w[k0]? = some (r0, .inr (7, [.int fn]))) (hv : w[i0]? = some (va, .inl (g.2 0, 16, .inl cV))) (hf : V7_of fn = some r) : CX l yX7_of (ws_ yX7_of cX7_of 2 (some .long)) ({ frames := F + 3, cells := 0, slots := 0, locals := L + 64 } : Room) g z [.ref r0, .ref va] w (some (.long r)) w 0 0 := by
  refine CX.of RX7 rfl plain_X7 (Nat.le_of_ble_eq_true rfl) (fun p e s m below meth c A ls X hF hP hD hS hl => ?_)
  have hx := X.1
  have hb := X.2.1
  have hown := X.2.2.2.2.2.1
  have hts := X.2.2.2.2.2.2.1
  have hl : lv_has ls 2 [(0, .ref r0), (1, .ref va)] := hl
  unfold V7_of at hf
  refine lv_aload_n hx hb dX7_of_0 rfl (lv_at hl 0 rfl) ?_
  refine eG_X7_n hk rfl X hP dX7_of_1 ?_
  refine lv_i2l hx hb dX7_of_4 rfl ?_
  cases hf
  exact rL X hP hD hS dX7_of_5
set_option maxHeartbeats 4000000 in
theorem met_V12_of {l : Launch} {g : gG} {z : Nat → Nat} {w : va_W} {k0 r0 i0 va F L : Nat} {cV : Nat → Int32} {fn : Int32} {r : Int64} (hk : w[k0]? = some (r0, .inr (12, [.int fn]))) (hv : w[i0]? = some (va, .inl (g.2 0, 16, .inl cV))) (hf : V12_of cV fn = some r) : CX l yX12_of (ws_ yX12_of cX12_of 2 (some .long)) ({ frames := F + 3, cells := 0, slots := 0, locals := L + 64 } : Room) g z [.ref r0, .ref va] w (some (.long r)) w 0 0 := by
  refine CX.of RX12 rfl plain_X12 (Nat.le_of_ble_eq_true rfl) (fun p e s m below meth c A ls X hF hP hD hS hl => ?_)
  have hx := X.1
  have hb := X.2.1
  have hown := X.2.2.2.2.2.1
  have hts := X.2.2.2.2.2.2.1
  have hl : lv_has ls 2 [(0, .ref r0), (1, .ref va)] := hl
  unfold V12_of at hf
  refine lv_aload_n hx hb dX12_of_0 rfl (lv_at hl 1 rfl) ?_
  refine lv_aload_n hx hb dX12_of_1 rfl (lv_at hl 0 rfl) ?_
  refine eG_X12_which hk rfl X hP dX12_of_2 ?_
  obtain ⟨v1, ev1, bv1, hf⟩ := rds hf
  refine lE hv X hP ev1 bv1 dX12_of_5 ?_
  refine lv_i2l hx hb dX12_of_6 rfl ?_
  cases hf
  exact rL X hP hD hS dX12_of_7
set_option maxHeartbeats 4000000 in
theorem met_V15_of {l : Launch} {g : gG} {z : Nat → Nat} {w : va_W} {k0 r0 i0 va F L : Nat} {cV : Nat → Int32} {c1 : Nat} {e1 : EvS} {r : Int64} (hk : w[k0]? = some (r0, .inr (15, [.ref c1]))) (hv : w[i0]? = some (va, .inl (g.2 0, 16, .inl cV))) (h1 : OfOK l g z w F L c1 e1) (hf : V15_of cV e1 = some r) : CX l yX15_of (ws_ yX15_of cX15_of 2 (some .long)) ({ frames := F + 3, cells := 0, slots := 0, locals := L + 64 } : Room) g z [.ref r0, .ref va] w (some (.long r)) w 0 0 := by
  refine CX.of RX15 rfl plain_X15 (Nat.le_of_ble_eq_true rfl) (fun p e s m below meth c A ls X hF hP hD hS hl => ?_)
  have hx := X.1
  have hb := X.2.1
  have hown := X.2.2.2.2.2.1
  have hts := X.2.2.2.2.2.2.1
  have hl : lv_has ls 2 [(0, .ref r0), (1, .ref va)] := hl
  unfold V15_of at hf
  refine lv_aload_n hx hb dX15_of_0 rfl (lv_at hl 0 rfl) ?_
  refine eG_X15_x hk rfl X hP dX15_of_1 ?_
  refine lv_aload_n hx hb dX15_of_4 rfl (lv_at hl 1 rfl) ?_
  refine xFl (rest := []) X hF h1 hv q986 hP hD hS hl.1 ⟨(by dsimp only; omega), (by dsimp only; omega)⟩ ⟨Nat.zero_le _, Nat.zero_le _⟩ (Nat.le_of_ble_eq_true rfl) dX15_of_5 (fun H locs hP hD hS => ?_)
  obtain ⟨v1, ev1, hf⟩ := lts hf
  refine tpl ev1 ?_
  refine lv_lneg hx hb dX15_of_10 ?_
  cases hf
  exact rL X hP hD hS dX15_of_11
set_option maxHeartbeats 4000000 in
theorem met_V13_of {l : Launch} {g : gG} {z : Nat → Nat} {w : va_W} {k0 r0 i0 va F L : Nat} {cV : Nat → Int32} {c1 : Nat} {e1 : EvS} {r : Int64} {φ : Nat} (hk : w[k0]? = some (r0, .inr (13, [.ref c1]))) (hv : w[i0]? = some (va, .inl (g.2 0, 16, .inl cV))) (h1 : OfOK l g z w F L c1 e1) (hf : V13_of φ cV e1 = some r) : CX l yX13_of (ws_ yX13_of cX13_of 6 (some .long)) ({ frames := F + 3, cells := 0, slots := 0, locals := L + 64 } : Room) g z [.ref r0, .ref va] w (some (.long r)) w 0 0 := by
  refine CX.of RX13 rfl plain_X13 (Nat.le_of_ble_eq_true rfl) (fun p e s m below meth c A ls X hF hP hD hS hl => ?_)
  have hx := X.1
  have hb := X.2.1
  have hown := X.2.2.2.2.2.1
  have hts := X.2.2.2.2.2.2.1
  have hl : lv_has ls 6 [(0, .ref r0), (1, .ref va)] := hl
  unfold V13_of at hf
  refine lv_lconst (v := 0) hx hb dX13_of_0 (by decide) ?_
  refine lv_lstore_n (lv' := [(2, .long 0), (0, .ref r0), (1, .ref va)]) hx hb dX13_of_1 rfl hl (by decide) rfl (fun ls hl => ?_)
  refine lv_aload_n hx hb dX13_of_2 rfl (lv_at hl 1 rfl) ?_
  refine eG_X13_a hk rfl X hP dX13_of_3 ?_
  refine lv_aload_n hx hb dX13_of_6 rfl (lv_at hl 2 rfl) ?_
  refine xFl (rest := []) X hF h1 hv q1000 hP hD hS hl.1 ⟨(by dsimp only; omega), (by dsimp only; omega)⟩ ⟨Nat.zero_le _, Nat.zero_le _⟩ (Nat.le_of_ble_eq_true rfl) dX13_of_7 (fun H locs hP hD hS => ?_)
  obtain ⟨v1, ev1, hf⟩ := lts hf
  refine tpl ev1 ?_
  refine rAbsL (rest := []) X q1007 hl.1 ⟨(by dsimp only; omega), (Nat.le_trans (m := 25) (Nat.le_of_ble_eq_true rfl) (by dsimp only; omega))⟩ ⟨Nat.zero_le _, Nat.zero_le _⟩ dX13_of_12 ?_
  obtain ⟨v2, ev2, hf⟩ := lts hf
  refine tpl ev2 ?_
  refine lv_lstore (lv' := [(4, .long v2), (2, .long 0), (0, .ref r0), (1, .ref va)]) hx hb dX13_of_15 hl (by decide) rfl (fun ls hl => ?_)
  obtain ⟨v5, k10, hf⟩ := bd1s hf
  have hE7 : ∀ (H : Heap) (locs : List Loc) (ls : Array Slot), va_P g.1 vwCl w H → va_D A w → va_S A s.heap H locs → lv_has ls 6 [(2, .long v5)] → W p l e ({ frames := F + 3, cells := 0, slots := 0, locals := L + 64 } : Room) s m ([.ref r0, .ref va] : List Value).toArray below meth c H locs 0 0 (MQ below (QQ g (some (.long r)) w A) ([.ref r0, .ref va] : List Value).toArray s 0 0 A) (F0 m 44 ls []) := by
    intro H locs ls hP hD hS hl
    refine lv_lload_n hx hb dX13_of_44 rfl (lv_at hl 0 rfl) ?_
    cases hf
    exact rL X hP hD hS dX13_of_45
  have hL8 : ∀ (n6 : Nat) (v3 : Int64) (v4 : Int64), V13_of_L17 φ n6 v3 v4 = some v5 → ∀ (H : Heap) (locs : List Loc) (ls : Array Slot), va_P g.1 vwCl w H → va_D A w → va_S A s.heap H locs → lv_has ls 6 [(2, .long v3), (4, .long v4)] → W p l e ({ frames := F + 3, cells := 0, slots := 0, locals := L + 64 } : Room) s m ([.ref r0, .ref va] : List Value).toArray below meth c H locs 0 0 (MQ below (QQ g (some (.long r)) w A) ([.ref r0, .ref va] : List Value).toArray s 0 0 A) (F0 m 17 ls []) := by
    intro n6
    induction n6 with
    | zero =>
      intro v3 v4 hf
      exact nn hf
    | succ n6 ih9 =>
      intro v3 v4 hf H locs ls hP hD hS hl
      rw [V13_of_L17] at hf
      refine lv_lload hx hb dX13_of_17 (lv_at hl 1 rfl) ?_
      refine lv_lconst (v := 0) hx hb dX13_of_19 (by decide) ?_
      refine W.lcmp hx hb dX13_of_20 ?_
      refine bq_le (tgt := 44) hx hb hf dX13_of_21 (by decide) (fun hf => ?_) (fun hf => ?_)
      · cases hf
        exact hE7 _ _ _ hP hD hS (lv_sub hl [0] rfl)
      · refine lv_lload_n hx hb dX13_of_24 rfl (lv_at hl 0 rfl) ?_
        refine lv_lload hx hb dX13_of_25 (lv_at hl 1 rfl) ?_
        refine lv_ldc2 (v := 2) hx hb hown (hts _ q1010) dX13_of_27 ?_
        refine lv_lrem hx hb dX13_of_30 (by decide) ?_
        refine lv_ladd hx hb dX13_of_31 ?_
        obtain ⟨v11, ev11, hf⟩ := lts hf
        refine tpl ev11 ?_
        refine lv_lstore_n (lv' := [(2, .long v11), (4, .long v4)]) hx hb dX13_of_32 rfl hl (by decide) rfl (fun ls hl => ?_)
        refine lv_lload hx hb dX13_of_33 (lv_at hl 1 rfl) ?_
        refine lv_ldc2 (v := 2) hx hb hown (hts _ q1010) dX13_of_35 ?_
        refine lv_ldiv hx hb dX13_of_38 (by decide) ?_
        obtain ⟨v12, ev12, hf⟩ := lts hf
        refine tpl ev12 ?_
        refine lv_lstore (lv' := [(4, .long v12), (2, .long v11)]) hx hb dX13_of_39 hl (by decide) rfl (fun ls hl => ?_)
        refine lv_goto (tgt := 17) hx hb dX13_of_41 (by decide) ?_
        exact ih9 _ _ hf _ _ _ hP hD hS (lv_sub hl [1, 0] rfl)
  exact hL8 _ _ _ k10 _ _ _ hP hD hS (lv_sub hl [1, 0] rfl)
set_option maxHeartbeats 4000000 in
theorem met_V14_of {l : Launch} {g : gG} {z : Nat → Nat} {w : va_W} {k0 r0 i0 va F L : Nat} {cV : Nat → Int32} {c1 : Nat} {e1 : EvS} {r : Int64} (hk : w[k0]? = some (r0, .inr (14, [.ref c1]))) (hv : w[i0]? = some (va, .inl (g.2 0, 16, .inl cV))) (h1 : OfOK l g z w F L c1 e1) (hf : V14_of cV e1 = some r) : CX l yX14_of (ws_ yX14_of cX14_of 4 (some .long)) ({ frames := F + 3, cells := 0, slots := 0, locals := L + 64 } : Room) g z [.ref r0, .ref va] w (some (.long r)) w 0 0 := by
  refine CX.of RX14 rfl plain_X14 (Nat.le_of_ble_eq_true rfl) (fun p e s m below meth c A ls X hF hP hD hS hl => ?_)
  have hx := X.1
  have hb := X.2.1
  have hown := X.2.2.2.2.2.1
  have hts := X.2.2.2.2.2.2.1
  have hl : lv_has ls 4 [(0, .ref r0), (1, .ref va)] := hl
  unfold V14_of at hf
  refine lv_aload_n hx hb dX14_of_0 rfl (lv_at hl 0 rfl) ?_
  refine eG_X14_who hk rfl X hP dX14_of_1 ?_
  refine lv_aload_n hx hb dX14_of_4 rfl (lv_at hl 1 rfl) ?_
  refine xFl (rest := []) X hF h1 hv q949 hP hD hS hl.1 ⟨(by dsimp only; omega), (by dsimp only; omega)⟩ ⟨Nat.zero_le _, Nat.zero_le _⟩ (Nat.le_of_ble_eq_true rfl) dX14_of_5 (fun H locs hP hD hS => ?_)
  obtain ⟨v1, ev1, hf⟩ := lts hf
  refine tpl ev1 ?_
  refine lv_lstore_n (lv' := [(2, .long v1), (0, .ref r0), (1, .ref va)]) hx hb dX14_of_10 rfl hl (by decide) rfl (fun ls hl => ?_)
  refine lv_lload_n hx hb dX14_of_11 rfl (lv_at hl 0 rfl) ?_
  refine lv_lconst (v := 0) hx hb dX14_of_12 (by decide) ?_
  refine W.lcmp hx hb dX14_of_13 ?_
  refine bq_lt (tgt := 25) hx hb hf dX14_of_14 (by decide) (fun hf => ?_) (fun hf => ?_)
  · refine lv_lconst (v := 0) hx hb dX14_of_25 (by decide) ?_
    refine lv_goto (tgt := 37) hx hb dX14_of_26 (by decide) ?_
    cases hf
    exact rL X hP hD hS dX14_of_37
  · refine lv_lload_n hx hb dX14_of_17 rfl (lv_at hl 0 rfl) ?_
    refine lv_ldc2 (v := 6) hx hb hown (hts _ q1021) dX14_of_18 ?_
    refine W.lcmp hx hb dX14_of_21 ?_
    refine bq_lt (tgt := 29) hx hb hf dX14_of_22 (by decide) (fun hf => ?_) (fun hf => ?_)
    · refine lv_aload_n hx hb dX14_of_29 rfl (lv_at hl 2 rfl) ?_
      refine lv_bipush (v := 10) hx hb dX14_of_30 (by decide) ?_
      refine lv_lload_n hx hb dX14_of_32 rfl (lv_at hl 0 rfl) ?_
      refine lv_l2i hx hb dX14_of_33 rfl ?_
      refine lv_iadd hx hb dX14_of_34 ?_
      obtain ⟨v2, ev2, bv2, hf⟩ := rds hf
      refine lE hv X hP ev2 bv2 dX14_of_35 ?_
      refine lv_i2l hx hb dX14_of_36 rfl ?_
      cases hf
      exact rL X hP hD hS dX14_of_37
    · refine lv_lconst (v := 0) hx hb dX14_of_25 (by decide) ?_
      refine lv_goto (tgt := 37) hx hb dX14_of_26 (by decide) ?_
      cases hf
      exact rL X hP hD hS dX14_of_37
set_option maxHeartbeats 4000000 in
theorem met_V11_of {l : Launch} {g : gG} {z : Nat → Nat} {w : va_W} {k0 r0 i0 va F L : Nat} {cV : Nat → Int32} {c0 : Nat} {b0 : EvA} {c1 : Nat} {e1 : EvS} {c2 : Nat} {e2 : EvS} {r : Int64} (hk : w[k0]? = some (r0, .inr (11, [.ref c0, .ref c1, .ref c2]))) (hv : w[i0]? = some (va, .inl (g.2 0, 16, .inl cV))) (h0 : IsOK l g z w F L c0 b0) (h1 : OfOK l g z w F L c1 e1) (h2 : OfOK l g z w F L c2 e2) (hf : V11_of cV b0 e1 e2 = some r) : CX l yX11_of (ws_ yX11_of cX11_of 2 (some .long)) ({ frames := F + 3, cells := 0, slots := 0, locals := L + 64 } : Room) g z [.ref r0, .ref va] w (some (.long r)) w 0 0 := by
  refine CX.of RX11 rfl plain_X11 (Nat.le_of_ble_eq_true rfl) (fun p e s m below meth c A ls X hF hP hD hS hl => ?_)
  have hx := X.1
  have hb := X.2.1
  have hown := X.2.2.2.2.2.1
  have hts := X.2.2.2.2.2.2.1
  have hl : lv_has ls 2 [(0, .ref r0), (1, .ref va)] := hl
  unfold V11_of at hf
  refine lv_aload_n hx hb dX11_of_0 rfl (lv_at hl 0 rfl) ?_
  refine eG_X11_asked hk rfl X hP dX11_of_1 ?_
  refine lv_aload_n hx hb dX11_of_4 rfl (lv_at hl 1 rfl) ?_
  refine xFz (rest := []) X hF h0 hv q957 hP hD hS hl.1 ⟨(by dsimp only; omega), (by dsimp only; omega)⟩ ⟨Nat.zero_le _, Nat.zero_le _⟩ (Nat.le_of_ble_eq_true rfl) dX11_of_5 (fun H locs hP hD hS => ?_)
  obtain ⟨v1, ev1, hf⟩ := lts hf
  refine tpi ev1 ?_
  refine bq_eq (tgt := 26) hx hb hf dX11_of_10 (by decide) (fun hf => ?_) (fun hf => ?_)
  · refine lv_aload_n hx hb dX11_of_26 rfl (lv_at hl 0 rfl) ?_
    refine eG_X11_no hk rfl X hP dX11_of_27 ?_
    refine lv_aload_n hx hb dX11_of_30 rfl (lv_at hl 1 rfl) ?_
    refine xFl (rest := []) X hF h2 hv q1020 hP hD hS hl.1 ⟨(by dsimp only; omega), (by dsimp only; omega)⟩ ⟨Nat.zero_le _, Nat.zero_le _⟩ (Nat.le_of_ble_eq_true rfl) dX11_of_31 (fun H locs hP hD hS => ?_)
    obtain ⟨v2, ev2, hf⟩ := lts hf
    refine tpl ev2 ?_
    cases hf
    exact rL X hP hD hS dX11_of_36
  · refine lv_aload_n hx hb dX11_of_13 rfl (lv_at hl 0 rfl) ?_
    refine eG_X11_yes hk rfl X hP dX11_of_14 ?_
    refine lv_aload_n hx hb dX11_of_17 rfl (lv_at hl 1 rfl) ?_
    refine xFl (rest := []) X hF h1 hv q1020 hP hD hS hl.1 ⟨(by dsimp only; omega), (by dsimp only; omega)⟩ ⟨Nat.zero_le _, Nat.zero_le _⟩ (Nat.le_of_ble_eq_true rfl) dX11_of_18 (fun H locs hP hD hS => ?_)
    obtain ⟨v3, ev3, hf⟩ := lts hf
    refine tpl ev3 ?_
    refine lv_goto (tgt := 36) hx hb dX11_of_23 (by decide) ?_
    cases hf
    exact rL X hP hD hS dX11_of_36
set_option maxHeartbeats 4000000 in
theorem met_V9_is {l : Launch} {g : gG} {z : Nat → Nat} {w : va_W} {k0 r0 i0 va F L : Nat} {cV : Nat → Int32} {fn : Int32} {c1 : Nat} {e1 : EvS} {c2 : Nat} {e2 : EvS} {r : Int32} (hk : w[k0]? = some (r0, .inr (9, [.int fn, .ref c1, .ref c2]))) (hv : w[i0]? = some (va, .inl (g.2 0, 16, .inl cV))) (h1 : OfOK l g z w F L c1 e1) (h2 : OfOK l g z w F L c2 e2) (hf : V9_is cV fn e1 e2 = some r) : CX l yX9_is (ws_ yX9_is cX9_is 4 (some .boolean)) ({ frames := F + 3, cells := 0, slots := 0, locals := L + 64 } : Room) g z [.ref r0, .ref va] w (some (.int r)) w 0 0 := by
  refine CX.of RX9 rfl plain_X9 (Nat.le_of_ble_eq_true rfl) (fun p e s m below meth c A ls X hF hP hD hS hl => ?_)
  have hx := X.1
  have hb := X.2.1
  have hown := X.2.2.2.2.2.1
  have hts := X.2.2.2.2.2.2.1
  have hl : lv_has ls 4 [(0, .ref r0), (1, .ref va)] := hl
  unfold V9_is at hf
  refine lv_aload_n hx hb dX9_is_0 rfl (lv_at hl 0 rfl) ?_
  refine eG_X9_a hk rfl X hP dX9_is_1 ?_
  refine lv_aload_n hx hb dX9_is_4 rfl (lv_at hl 1 rfl) ?_
  refine xFl (rest := []) X hF h1 hv q978 hP hD hS hl.1 ⟨(by dsimp only; omega), (by dsimp only; omega)⟩ ⟨Nat.zero_le _, Nat.zero_le _⟩ (Nat.le_of_ble_eq_true rfl) dX9_is_5 (fun H locs hP hD hS => ?_)
  obtain ⟨v1, ev1, hf⟩ := lts hf
  refine tpl ev1 ?_
  refine lv_aload_n hx hb dX9_is_10 rfl (lv_at hl 0 rfl) ?_
  refine eG_X9_b hk rfl X hP dX9_is_11 ?_
  refine lv_aload_n hx hb dX9_is_14 rfl (lv_at hl 1 rfl) ?_
  refine xFl (rest := [.long v1]) X hF h2 hv q978 hP hD hS hl.1 ⟨(by dsimp only; omega), (by dsimp only; omega)⟩ ⟨Nat.zero_le _, Nat.zero_le _⟩ (Nat.le_of_ble_eq_true rfl) dX9_is_15 (fun H locs hP hD hS => ?_)
  obtain ⟨v2, ev2, hf⟩ := lts hf
  refine tpl ev2 ?_
  refine lv_lsub hx hb dX9_is_20 ?_
  obtain ⟨v3, ev3, hf⟩ := lts hf
  refine tpl ev3 ?_
  refine lv_lstore_n (lv' := [(2, .long v3), (0, .ref r0), (1, .ref va)]) hx hb dX9_is_21 rfl hl (by decide) rfl (fun ls hl => ?_)
  refine lv_aload_n hx hb dX9_is_22 rfl (lv_at hl 1 rfl) ?_
  refine eG_X9_sign hk rfl X hP dX9_is_23 ?_
  refine swc hf (fun q hf => ?_) (fun q4 hf => ?_)
  · refine lv_lookup (off := 86) (tgt := 112) hx hb dX9_is_26 (by decide) (by rw [q]; rfl) (by decide) ?_
    refine lv_lload_n hx hb dX9_is_112 rfl (lv_at hl 0 rfl) ?_
    refine lv_lconst (v := 0) hx hb dX9_is_113 (by decide) ?_
    refine W.lcmp hx hb dX9_is_114 ?_
    refine bq_eq (tgt := 122) hx hb hf dX9_is_115 (by decide) (fun hf => ?_) (fun hf => ?_)
    · refine lv_iconst (v := 0) hx hb dX9_is_122 (by decide) ?_
      cases hf
      exact rZ X rfl hP hD hS dX9_is_123
    · refine lv_iconst (v := 1) hx hb dX9_is_118 (by decide) ?_
      refine lv_goto (tgt := 123) hx hb dX9_is_119 (by decide) ?_
      cases hf
      exact rZ X rfl hP hD hS dX9_is_123
  refine swc hf (fun q hf => ?_) (fun q5 hf => ?_)
  · refine lv_lookup (off := 50) (tgt := 76) hx hb dX9_is_26 (by decide) (by rw [q]; rfl) (by decide) ?_
    refine lv_lload_n hx hb dX9_is_76 rfl (lv_at hl 0 rfl) ?_
    refine lv_lconst (v := 0) hx hb dX9_is_77 (by decide) ?_
    refine W.lcmp hx hb dX9_is_78 ?_
    refine bq_ge (tgt := 86) hx hb hf dX9_is_79 (by decide) (fun hf => ?_) (fun hf => ?_)
    · refine lv_iconst (v := 0) hx hb dX9_is_86 (by decide) ?_
      cases hf
      exact rZ X rfl hP hD hS dX9_is_87
    · refine lv_iconst (v := 1) hx hb dX9_is_82 (by decide) ?_
      refine lv_goto (tgt := 87) hx hb dX9_is_83 (by decide) ?_
      cases hf
      exact rZ X rfl hP hD hS dX9_is_87
  refine swc hf (fun q hf => ?_) (fun q6 hf => ?_)
  · refine lv_lookup (off := 74) (tgt := 100) hx hb dX9_is_26 (by decide) (by rw [q]; rfl) (by decide) ?_
    refine lv_lload_n hx hb dX9_is_100 rfl (lv_at hl 0 rfl) ?_
    refine lv_lconst (v := 0) hx hb dX9_is_101 (by decide) ?_
    refine W.lcmp hx hb dX9_is_102 ?_
    refine bq_ne (tgt := 110) hx hb hf dX9_is_103 (by decide) (fun hf => ?_) (fun hf => ?_)
    · refine lv_iconst (v := 0) hx hb dX9_is_110 (by decide) ?_
      cases hf
      exact rZ X rfl hP hD hS dX9_is_111
    · refine lv_iconst (v := 1) hx hb dX9_is_106 (by decide) ?_
      refine lv_goto (tgt := 111) hx hb dX9_is_107 (by decide) ?_
      cases hf
      exact rZ X rfl hP hD hS dX9_is_111
  refine swc hf (fun q hf => ?_) (fun q7 hf => ?_)
  · refine lv_lookup (off := 62) (tgt := 88) hx hb dX9_is_26 (by decide) (by rw [q]; rfl) (by decide) ?_
    refine lv_lload_n hx hb dX9_is_88 rfl (lv_at hl 0 rfl) ?_
    refine lv_lconst (v := 0) hx hb dX9_is_89 (by decide) ?_
    refine W.lcmp hx hb dX9_is_90 ?_
    refine bq_le (tgt := 98) hx hb hf dX9_is_91 (by decide) (fun hf => ?_) (fun hf => ?_)
    · refine lv_iconst (v := 0) hx hb dX9_is_98 (by decide) ?_
      cases hf
      exact rZ X rfl hP hD hS dX9_is_99
    · refine lv_iconst (v := 1) hx hb dX9_is_94 (by decide) ?_
      refine lv_goto (tgt := 99) hx hb dX9_is_95 (by decide) ?_
      cases hf
      exact rZ X rfl hP hD hS dX9_is_99
  refine swc hf (fun q hf => ?_) (fun q8 hf => ?_)
  · refine lv_lookup (off := 98) (tgt := 124) hx hb dX9_is_26 (by decide) (by rw [q]; rfl) (by decide) ?_
    refine lv_lload_n hx hb dX9_is_124 rfl (lv_at hl 0 rfl) ?_
    refine lv_lconst (v := 0) hx hb dX9_is_125 (by decide) ?_
    refine W.lcmp hx hb dX9_is_126 ?_
    refine bq_gt (tgt := 134) hx hb hf dX9_is_127 (by decide) (fun hf => ?_) (fun hf => ?_)
    · refine lv_iconst (v := 0) hx hb dX9_is_134 (by decide) ?_
      cases hf
      exact rZ X rfl hP hD hS dX9_is_135
    · refine lv_iconst (v := 1) hx hb dX9_is_130 (by decide) ?_
      refine lv_goto (tgt := 135) hx hb dX9_is_131 (by decide) ?_
      cases hf
      exact rZ X rfl hP hD hS dX9_is_135
  refine lv_lookup (off := 110) (tgt := 136) hx hb dX9_is_26 (by decide) ((lv_osw q4 rfl).trans ((lv_osw q5 rfl).trans ((lv_osw q6 rfl).trans ((lv_osw q7 rfl).trans ((lv_osw q8 rfl).trans (rfl)))))) (by decide) ?_
  refine lv_lload_n hx hb dX9_is_136 rfl (lv_at hl 0 rfl) ?_
  refine lv_lconst (v := 0) hx hb dX9_is_137 (by decide) ?_
  refine W.lcmp hx hb dX9_is_138 ?_
  refine bq_lt (tgt := 146) hx hb hf dX9_is_139 (by decide) (fun hf => ?_) (fun hf => ?_)
  · refine lv_iconst (v := 0) hx hb dX9_is_146 (by decide) ?_
    cases hf
    exact rZ X rfl hP hD hS dX9_is_147
  · refine lv_iconst (v := 1) hx hb dX9_is_142 (by decide) ?_
    refine lv_goto (tgt := 147) hx hb dX9_is_143 (by decide) ?_
    cases hf
    exact rZ X rfl hP hD hS dX9_is_147
set_option maxHeartbeats 4000000 in
theorem met_V8_is {l : Launch} {g : gG} {z : Nat → Nat} {w : va_W} {k0 r0 i0 va F L : Nat} {cV : Nat → Int32} {c0 : Nat} {b0 : EvA} {r : Int32} (hk : w[k0]? = some (r0, .inr (8, [.ref c0]))) (hv : w[i0]? = some (va, .inl (g.2 0, 16, .inl cV))) (h0 : IsOK l g z w F L c0 b0) (hf : V8_is cV b0 = some r) : CX l yX8_is (ws_ yX8_is cX8_is 2 (some .boolean)) ({ frames := F + 3, cells := 0, slots := 0, locals := L + 64 } : Room) g z [.ref r0, .ref va] w (some (.int r)) w 0 0 := by
  refine CX.of RX8 rfl plain_X8 (Nat.le_of_ble_eq_true rfl) (fun p e s m below meth c A ls X hF hP hD hS hl => ?_)
  have hx := X.1
  have hb := X.2.1
  have hown := X.2.2.2.2.2.1
  have hts := X.2.2.2.2.2.2.1
  have hl : lv_has ls 2 [(0, .ref r0), (1, .ref va)] := hl
  unfold V8_is at hf
  refine lv_aload_n hx hb dX8_is_0 rfl (lv_at hl 0 rfl) ?_
  refine eG_X8_x hk rfl X hP dX8_is_1 ?_
  refine lv_aload_n hx hb dX8_is_4 rfl (lv_at hl 1 rfl) ?_
  refine xFz (rest := []) X hF h0 hv q1018 hP hD hS hl.1 ⟨(by dsimp only; omega), (by dsimp only; omega)⟩ ⟨Nat.zero_le _, Nat.zero_le _⟩ (Nat.le_of_ble_eq_true rfl) dX8_is_5 (fun H locs hP hD hS => ?_)
  obtain ⟨v1, ev1, hf⟩ := lts hf
  refine tpi ev1 ?_
  refine bq_ne (tgt := 17) hx hb hf dX8_is_10 (by decide) (fun hf => ?_) (fun hf => ?_)
  · refine lv_iconst (v := 0) hx hb dX8_is_17 (by decide) ?_
    cases hf
    exact rZ X rfl hP hD hS dX8_is_18
  · refine lv_iconst (v := 1) hx hb dX8_is_13 (by decide) ?_
    refine lv_goto (tgt := 18) hx hb dX8_is_14 (by decide) ?_
    cases hf
    exact rZ X rfl hP hD hS dX8_is_18
theorem gw_X10_J2_size : GoodIn lw_all (wsV RX10 17 RJ2 yJ2_size (ws_ yJ2_size cJ2_size 1 (some .int))) := lw_V q966 q708 q709 q153 q710
theorem dy_J2_size : Dy yJ2_size RJ2 0 := by decide +kernel
theorem gw_X10_J2_get : GoodIn lw_all (wsV RX10 23 RJ2 yJ2_get (ws_ yJ2_get cJ2_get 2 (some (.object "java/lang/Object")))) := lw_V q967 q712 q713 q153 q714
theorem dy_J2_get : Dy yJ2_get RJ2 1 := by decide +kernel
set_option maxHeartbeats 4000000 in
theorem met_V10_is {l : Launch} {g : gG} {z : Nat → Nat} {w : va_W} {k0 r0 i0 va F L : Nat} {cV : Nat → Int32} {fn : Int32} {lc la_la la_k la_j la_ea la_n : Nat} {la_mc : Int32} {la_f : Nat → Option Nat} {bs : Nat → EvA} {r : Int32} {φ : Nat} (hk : w[k0]? = some (r0, .inr (10, [.int fn, .ref la_la]))) (hv : w[i0]? = some (va, .inl (g.2 0, 16, .inl cV))) (hla : w[la_k]? = some (la_la, .inr (17, [.int la_mc, .ref la_ea, .int (nI lc)]))) (ala : w[la_j]? = some (la_ea, .inl (g.2 4, la_n, .inr (.inr (.inr (.inr la_f)))))) (nla : lc ≤ la_n ∧ la_n < 2 ^ 31) (ela : ∀ i : Nat, i < lc → ∃ y : Nat, la_f i = some y ∧ IsOK l g z w F L y (bs i)) (hf : V10_is φ cV fn lc bs = some r) : CX l yX10_is (ws_ yX10_is cX10_is 4 (some .boolean)) ({ frames := F + 3, cells := 0, slots := 0, locals := L + 64 } : Room) g z [.ref r0, .ref va] w (some (.int r)) w 0 0 := by
  refine CX.of RX10 rfl plain_X10 (Nat.le_of_ble_eq_true rfl) (fun p e s m below meth c A ls X hF hP hD hS hl => ?_)
  have hx := X.1
  have hb := X.2.1
  have hown := X.2.2.2.2.2.1
  have hts := X.2.2.2.2.2.2.1
  have hl : lv_has ls 4 [(0, .ref r0), (1, .ref va)] := hl
  unfold V10_is at hf
  refine lv_iconst (v := 0) hx hb dX10_is_0 (by decide) ?_
  refine lv_istore_n (lv' := [(2, .int 0), (0, .ref r0), (1, .ref va)]) hx hb dX10_is_1 rfl hl (by decide) rfl (fun ls hl => ?_)
  refine lv_iconst (v := 0) hx hb dX10_is_2 (by decide) ?_
  refine lv_istore_n (lv' := [(3, .int 0), (2, .int 0), (0, .ref r0), (1, .ref va)]) hx hb dX10_is_3 rfl hl (by decide) rfl (fun ls hl => ?_)
  obtain ⟨v3, k8, hf⟩ := bd1s hf
  have hE5 : ∀ (H : Heap) (locs : List Loc) (ls : Array Slot), va_P g.1 vwCl w H → va_D A w → va_S A s.heap H locs → lv_has ls 4 [(0, .ref r0), (2, .int v3)] → W p l e ({ frames := F + 3, cells := 0, slots := 0, locals := L + 64 } : Room) s m ([.ref r0, .ref va] : List Value).toArray below meth c H locs 0 0 (MQ below (QQ g (some (.int r)) w A) ([.ref r0, .ref va] : List Value).toArray s 0 0 A) (F0 m 49 ls []) := by
    intro H locs ls hP hD hS hl
    refine lv_aload_n hx hb dX10_is_49 rfl (lv_at hl 0 rfl) ?_
    refine eG_X10_and hk rfl X hP dX10_is_50 ?_
    refine bq_eq (tgt := 75) hx hb hf dX10_is_53 (by decide) (fun hf => ?_) (fun hf => ?_)
    · refine lv_iload_n hx hb dX10_is_75 rfl (lv_at hl 1 rfl) ?_
      refine bq_le (tgt := 83) hx hb hf dX10_is_76 (by decide) (fun hf => ?_) (fun hf => ?_)
      · refine lv_iconst (v := 0) hx hb dX10_is_83 (by decide) ?_
        cases hf
        exact rZ X rfl hP hD hS dX10_is_84
      · refine lv_iconst (v := 1) hx hb dX10_is_79 (by decide) ?_
        refine lv_goto (tgt := 84) hx hb dX10_is_80 (by decide) ?_
        cases hf
        exact rZ X rfl hP hD hS dX10_is_84
    · refine lv_iload_n hx hb dX10_is_56 rfl (lv_at hl 1 rfl) ?_
      refine lv_aload_n hx hb dX10_is_57 rfl (lv_at hl 0 rfl) ?_
      refine eG_X10_of hk rfl X hP dX10_is_58 ?_
      refine cVi (rest := [.int v3]) X (met_size (g := g) hla) gw_X10_J2_size dy_J2_size ⟨⟨rfl, rfl⟩, (by dsimp only; omega), (by dsimp only; omega)⟩ hP hD hS hl.1 ⟨_, 17, _, _, _, hla, rfl⟩ rfl rfl ⟨Nat.zero_le _, Nat.zero_le _⟩ (Nat.le_of_ble_eq_true rfl) dX10_is_61 (fun H locs hP hD hS => ?_)
      refine bc_ne (tgt := 71) hx hb hf dX10_is_64 (by decide) (fun hf => ?_) (fun hf => ?_)
      · refine lv_iconst (v := 0) hx hb dX10_is_71 (by decide) ?_
        refine lv_goto (tgt := 84) hx hb dX10_is_72 (by decide) ?_
        cases hf
        exact rZ X rfl hP hD hS dX10_is_84
      · refine lv_iconst (v := 1) hx hb dX10_is_67 (by decide) ?_
        refine lv_goto (tgt := 84) hx hb dX10_is_68 (by decide) ?_
        cases hf
        exact rZ X rfl hP hD hS dX10_is_84
  have hL6 : ∀ (n4 : Nat) (v1 : Int32) (v2 : Int32), V10_is_L4 φ cV lc bs n4 v1 v2 = some v3 → ∀ (H : Heap) (locs : List Loc) (ls : Array Slot), va_P g.1 vwCl w H → va_D A w → va_S A s.heap H locs → lv_has ls 4 [(0, .ref r0), (1, .ref va), (2, .int v1), (3, .int v2)] → W p l e ({ frames := F + 3, cells := 0, slots := 0, locals := L + 64 } : Room) s m ([.ref r0, .ref va] : List Value).toArray below meth c H locs 0 0 (MQ below (QQ g (some (.int r)) w A) ([.ref r0, .ref va] : List Value).toArray s 0 0 A) (F0 m 4 ls []) := by
    intro n4
    induction n4 with
    | zero =>
      intro v1 v2 hf
      exact nn hf
    | succ n4 ih7 =>
      intro v1 v2 hf H locs ls hP hD hS hl
      rw [V10_is_L4] at hf
      refine lv_iload_n hx hb dX10_is_4 rfl (lv_at hl 3 rfl) ?_
      refine lv_aload_n hx hb dX10_is_5 rfl (lv_at hl 0 rfl) ?_
      refine eG_X10_of hk rfl X hP dX10_is_6 ?_
      refine cVi (rest := [.int v2]) X (met_size (g := g) hla) gw_X10_J2_size dy_J2_size ⟨⟨rfl, rfl⟩, (by dsimp only; omega), (by dsimp only; omega)⟩ hP hD hS hl.1 ⟨_, 17, _, _, _, hla, rfl⟩ rfl rfl ⟨Nat.zero_le _, Nat.zero_le _⟩ (Nat.le_of_ble_eq_true rfl) dX10_is_9 (fun H locs hP hD hS => ?_)
      refine bc_ge (tgt := 49) hx hb hf dX10_is_12 (by decide) (fun hf => ?_) (fun hf => ?_)
      · cases hf
        exact hE5 _ _ _ hP hD hS (lv_sub hl [0, 2] rfl)
      · refine lv_iload_n hx hb dX10_is_15 rfl (lv_at hl 2 rfl) ?_
        refine lv_aload_n hx hb dX10_is_16 rfl (lv_at hl 0 rfl) ?_
        refine eG_X10_of hk rfl X hP dX10_is_17 ?_
        refine lv_iload_n hx hb dX10_is_20 rfl (lv_at hl 3 rfl) ?_
        obtain ⟨b9, hf⟩ := inbs hf
        obtain ⟨y10, hy10, oy10⟩ := ela _ (vp_lt b9)
        refine cVr (rest := [.int v1]) X (met_get (g := g) hla ala (vpn b9 nla.1 nla.2).1 (vpn b9 nla.1 nla.2).2.1 (vpn b9 nla.1 nla.2).2.2 hy10) gw_X10_J2_get dy_J2_get ⟨⟨rfl, rfl⟩, (by dsimp only; omega), (by dsimp only; omega)⟩ hP hD hS hl.1 ⟨_, 17, _, _, _, hla, rfl⟩ rfl rfl ⟨Nat.zero_le _, Nat.zero_le _⟩ (Nat.le_of_ble_eq_true rfl) dX10_is_21 (fun H locs hP hD hS => ?_)
        refine xCastA X hF oy10 q968 hP dX10_is_24 ?_
        refine lv_aload_n hx hb dX10_is_27 rfl (lv_at hl 1 rfl) ?_
        refine xFz (rest := [.int v1]) X hF oy10 hv q970 hP hD hS hl.1 ⟨(by dsimp only; omega), (by dsimp only; omega)⟩ ⟨Nat.zero_le _, Nat.zero_le _⟩ (Nat.le_of_ble_eq_true rfl) dX10_is_28 (fun H locs hP hD hS => ?_)
        obtain ⟨v11, ev11, hf⟩ := lts hf
        refine tpi ev11 ?_
        refine bq_eq (tgt := 40) hx hb hf dX10_is_33 (by decide) (fun hf => ?_) (fun hf => ?_)
        · refine lv_iconst (v := 0) hx hb dX10_is_40 (by decide) ?_
          refine lv_iadd hx hb dX10_is_41 ?_
          obtain ⟨v12, ev12, hf⟩ := lts hf
          refine tpi ev12 ?_
          refine lv_istore_n (lv' := [(2, .int v12), (0, .ref r0), (1, .ref va), (3, .int v2)]) hx hb dX10_is_42 rfl hl (by decide) rfl (fun ls hl => ?_)
          obtain ⟨v13, ev13, hf⟩ := lts hf
          refine lv_iinc (v := v13) (lv' := [(3, .int v13), (2, .int v12), (0, .ref r0), (1, .ref va)]) hx hb dX10_is_43 hl (k := 3) rfl (by rw [ev13]; rfl) (by decide) rfl (fun ls hl => ?_)
          refine lv_goto (tgt := 4) hx hb dX10_is_46 (by decide) ?_
          exact ih7 _ _ hf _ _ _ hP hD hS (lv_sub hl [2, 3, 1, 0] rfl)
        · refine lv_iconst (v := 1) hx hb dX10_is_36 (by decide) ?_
          refine lv_goto (tgt := 41) hx hb dX10_is_37 (by decide) ?_
          refine lv_iadd hx hb dX10_is_41 ?_
          obtain ⟨v14, ev14, hf⟩ := lts hf
          refine tpi ev14 ?_
          refine lv_istore_n (lv' := [(2, .int v14), (0, .ref r0), (1, .ref va), (3, .int v2)]) hx hb dX10_is_42 rfl hl (by decide) rfl (fun ls hl => ?_)
          obtain ⟨v15, ev15, hf⟩ := lts hf
          refine lv_iinc (v := v15) (lv' := [(3, .int v15), (2, .int v14), (0, .ref r0), (1, .ref va)]) hx hb dX10_is_43 hl (k := 3) rfl (by rw [ev15]; rfl) (by decide) rfl (fun ls hl => ?_)
          refine lv_goto (tgt := 4) hx hb dX10_is_46 (by decide) ?_
          exact ih7 _ _ hf _ _ _ hP hD hS (lv_sub hl [2, 3, 1, 0] rfl)
  exact hL6 _ _ _ k8 _ _ _ hP hD hS (lv_sub hl [2, 3, 1, 0] rfl)
theorem gw_X6_J2_size : GoodIn lw_all (wsV RX6 45 RJ2 yJ2_size (ws_ yJ2_size cJ2_size 1 (some .int))) := lw_V q1022 q708 q709 q153 q710
theorem gw_X6_J2_get : GoodIn lw_all (wsV RX6 49 RJ2 yJ2_get (ws_ yJ2_get cJ2_get 2 (some (.object "java/lang/Object")))) := lw_V q1023 q712 q713 q153 q714
theorem gw_X6_J15_intValue : GoodIn lw_all (wsV RX6 53 RJ15 yJ15_intValue (ws_ yJ15_intValue cJ15_intValue 1 (some .int))) := lw_V q1026 q1027 q1028 q177 q1029
set_option maxHeartbeats 4000000 in
theorem met_V6_of {l : Launch} {g : gG} {z : Nat → Nat} {w : va_W} {k0 r0 i0 va F L : Nat} {cV : Nat → Int32} {c1 : Nat} {e1 : EvS} {lc lm_la lm_k lm_j lm_ea lm_n : Nat} {lm_mc : Int32} {lm_f : Nat → Option Nat} {es : Nat → EvS} {ld ln_la ln_k ln_j ln_ea ln_n : Nat} {ln_mc : Int32} {ln_f : Nat → Option Nat} {sg : Nat → Int32} {r : Int64} {φ : Nat} (hk : w[k0]? = some (r0, .inr (6, [.ref c1, .ref lm_la, .ref ln_la]))) (hv : w[i0]? = some (va, .inl (g.2 0, 16, .inl cV))) (h1 : OfOK l g z w F L c1 e1) (hlm : w[lm_k]? = some (lm_la, .inr (17, [.int lm_mc, .ref lm_ea, .int (nI lc)]))) (alm : w[lm_j]? = some (lm_ea, .inl (g.2 4, lm_n, .inr (.inr (.inr (.inr lm_f)))))) (nlm : lc ≤ lm_n ∧ lm_n < 2 ^ 31) (elm : ∀ i : Nat, i < lc → ∃ y : Nat, lm_f i = some y ∧ OfOK l g z w F L y (es i)) (hln : w[ln_k]? = some (ln_la, .inr (17, [.int ln_mc, .ref ln_ea, .int (nI ld)]))) (aln : w[ln_j]? = some (ln_ea, .inl (g.2 4, ln_n, .inr (.inr (.inr (.inr ln_f)))))) (nln : ld ≤ ln_n ∧ ln_n < 2 ^ 31) (eln : ∀ i : Nat, i < ld → ∃ y : Nat, ln_f i = some y ∧ BoxOK z y (sg i)) (hf : V6_of φ cV e1 lc es ld sg = some r) : CX l yX6_of (ws_ yX6_of cX6_of 10 (some .long)) ({ frames := F + 3, cells := 0, slots := 0, locals := L + 64 } : Room) g z [.ref r0, .ref va] w (some (.long r)) w 0 0 := by
  refine CX.of RX6 rfl plain_X6 (Nat.le_of_ble_eq_true rfl) (fun p e s m below meth c A ls X hF hP hD hS hl => ?_)
  have hx := X.1
  have hb := X.2.1
  have hown := X.2.2.2.2.2.1
  have hts := X.2.2.2.2.2.2.1
  have hl : lv_has ls 10 [(0, .ref r0), (1, .ref va)] := hl
  unfold V6_of at hf
  refine lv_aload_n hx hb dX6_of_0 rfl (lv_at hl 0 rfl) ?_
  refine eG_X6_first hk rfl X hP dX6_of_1 ?_
  refine lv_aload_n hx hb dX6_of_4 rfl (lv_at hl 1 rfl) ?_
  refine xFl (rest := []) X hF h1 hv q941 hP hD hS hl.1 ⟨(by dsimp only; omega), (by dsimp only; omega)⟩ ⟨Nat.zero_le _, Nat.zero_le _⟩ (Nat.le_of_ble_eq_true rfl) dX6_of_5 (fun H locs hP hD hS => ?_)
  obtain ⟨v1, ev1, hf⟩ := lts hf
  refine tpl ev1 ?_
  refine lv_lstore_n (lv' := [(2, .long v1), (0, .ref r0), (1, .ref va)]) hx hb dX6_of_10 rfl hl (by decide) rfl (fun ls hl => ?_)
  refine lv_iconst (v := 0) hx hb dX6_of_11 (by decide) ?_
  refine lv_istore (lv' := [(4, .int 0), (2, .long v1), (0, .ref r0), (1, .ref va)]) hx hb dX6_of_12 hl (by decide) rfl (fun ls hl => ?_)
  obtain ⟨v4, k9, hf⟩ := bd1s hf
  have hE6 : ∀ (H : Heap) (locs : List Loc) (ls : Array Slot), va_P g.1 vwCl w H → va_D A w → va_S A s.heap H locs → lv_has ls 10 [(2, .long v4)] → W p l e ({ frames := F + 3, cells := 0, slots := 0, locals := L + 64 } : Room) s m ([.ref r0, .ref va] : List Value).toArray below meth c H locs 0 0 (MQ below (QQ g (some (.long r)) w A) ([.ref r0, .ref va] : List Value).toArray s 0 0 A) (F0 m 143 ls []) := by
    intro H locs ls hP hD hS hl
    refine lv_lload_n hx hb dX6_of_143 rfl (lv_at hl 0 rfl) ?_
    cases hf
    exact rL X hP hD hS dX6_of_144
  have hL7 : ∀ (n5 : Nat) (v2 : Int64) (v3 : Int32), V6_of_L14 φ cV lc es ld sg n5 v2 v3 = some v4 → ∀ (H : Heap) (locs : List Loc) (ls : Array Slot), va_P g.1 vwCl w H → va_D A w → va_S A s.heap H locs → lv_has ls 10 [(0, .ref r0), (1, .ref va), (2, .long v2), (4, .int v3)] → W p l e ({ frames := F + 3, cells := 0, slots := 0, locals := L + 64 } : Room) s m ([.ref r0, .ref va] : List Value).toArray below meth c H locs 0 0 (MQ below (QQ g (some (.long r)) w A) ([.ref r0, .ref va] : List Value).toArray s 0 0 A) (F0 m 14 ls []) := by
    intro n5
    induction n5 with
    | zero =>
      intro v2 v3 hf
      exact nn hf
    | succ n5 ih8 =>
      intro v2 v3 hf H locs ls hP hD hS hl
      rw [V6_of_L14] at hf
      refine lv_iload hx hb dX6_of_14 (lv_at hl 3 rfl) ?_
      refine lv_aload_n hx hb dX6_of_16 rfl (lv_at hl 0 rfl) ?_
      refine eG_X6_more hk rfl X hP dX6_of_17 ?_
      refine cVi (rest := [.int v3]) X (met_size (g := g) hlm) gw_X6_J2_size dy_J2_size ⟨⟨rfl, rfl⟩, (by dsimp only; omega), (by dsimp only; omega)⟩ hP hD hS hl.1 ⟨_, 17, _, _, _, hlm, rfl⟩ rfl rfl ⟨Nat.zero_le _, Nat.zero_le _⟩ (Nat.le_of_ble_eq_true rfl) dX6_of_20 (fun H locs hP hD hS => ?_)
      refine bc_ge (tgt := 143) hx hb hf dX6_of_23 (by decide) (fun hf => ?_) (fun hf => ?_)
      · cases hf
        exact hE6 _ _ _ hP hD hS (lv_sub hl [2] rfl)
      · refine lv_aload_n hx hb dX6_of_26 rfl (lv_at hl 0 rfl) ?_
        refine eG_X6_more hk rfl X hP dX6_of_27 ?_
        refine lv_iload hx hb dX6_of_30 (lv_at hl 3 rfl) ?_
        obtain ⟨b10, hf⟩ := inbs hf
        obtain ⟨y11, hy11, oy11⟩ := elm _ (vp_lt b10)
        refine cVr (rest := []) X (met_get (g := g) hlm alm (vpn b10 nlm.1 nlm.2).1 (vpn b10 nlm.1 nlm.2).2.1 (vpn b10 nlm.1 nlm.2).2.2 hy11) gw_X6_J2_get dy_J2_get ⟨⟨rfl, rfl⟩, (by dsimp only; omega), (by dsimp only; omega)⟩ hP hD hS hl.1 ⟨_, 17, _, _, _, hlm, rfl⟩ rfl rfl ⟨Nat.zero_le _, Nat.zero_le _⟩ (Nat.le_of_ble_eq_true rfl) dX6_of_32 (fun H locs hP hD hS => ?_)
        refine xCastS X hF oy11 q1024 hP dX6_of_35 ?_
        refine lv_aload_n hx hb dX6_of_38 rfl (lv_at hl 1 rfl) ?_
        refine xFl (rest := []) X hF oy11 hv q941 hP hD hS hl.1 ⟨(by dsimp only; omega), (by dsimp only; omega)⟩ ⟨Nat.zero_le _, Nat.zero_le _⟩ (Nat.le_of_ble_eq_true rfl) dX6_of_39 (fun H locs hP hD hS => ?_)
        obtain ⟨v12, ev12, hf⟩ := lts hf
        refine tpl ev12 ?_
        refine lv_lstore (lv' := [(5, .long v12), (0, .ref r0), (1, .ref va), (2, .long v2), (4, .int v3)]) hx hb dX6_of_44 hl (by decide) rfl (fun ls hl => ?_)
        refine lv_aload_n hx hb dX6_of_46 rfl (lv_at hl 1 rfl) ?_
        refine eG_X6_signs hk rfl X hP dX6_of_47 ?_
        refine lv_iload hx hb dX6_of_50 (lv_at hl 4 rfl) ?_
        obtain ⟨b13, hf⟩ := inbs hf
        obtain ⟨y14, hy14, oy14⟩ := eln _ (vp_lt b13)
        refine cVr (rest := []) X (met_get (g := g) hln aln (vpn b13 nln.1 nln.2).1 (vpn b13 nln.1 nln.2).2.1 (vpn b13 nln.1 nln.2).2.2 hy14) gw_X6_J2_get dy_J2_get ⟨⟨rfl, rfl⟩, (by dsimp only; omega), (by dsimp only; omega)⟩ hP hD hS hl.1 ⟨_, 17, _, _, _, hln, rfl⟩ rfl rfl ⟨Nat.zero_le _, Nat.zero_le _⟩ (Nat.le_of_ble_eq_true rfl) dX6_of_52 (fun H locs hP hD hS => ?_)
        refine xCastI X hF oy14 hS q1025 dX6_of_55 ?_
        refine xInt (rest := []) X hF oy14 gw_X6_J15_intValue hP hD hS hl.1 ⟨(by dsimp only; omega), (by dsimp only; omega)⟩ ⟨Nat.zero_le _, Nat.zero_le _⟩ (Nat.le_of_ble_eq_true rfl) dX6_of_58 (fun H locs hP hD hS => ?_)
        obtain ⟨v15, ev15, hf⟩ := lts hf
        refine tpi ev15 ?_
        refine lv_istore (lv' := [(7, .int v15), (5, .long v12), (0, .ref r0), (1, .ref va), (2, .long v2), (4, .int v3)]) hx hb dX6_of_61 hl (by decide) rfl (fun ls hl => ?_)
        refine lv_iload hx hb dX6_of_63 (lv_at hl 0 rfl) ?_
        refine lv_bipush (v := 43) hx hb dX6_of_65 (by decide) ?_
        obtain ⟨v16, k17, hf⟩ := bd1s hf
        have hj18 : ∀ (H : Heap) (locs : List Loc) (ls : Array Slot), va_P g.1 vwCl w H → va_D A w → va_S A s.heap H locs → lv_has ls 10 [(0, .ref r0), (1, .ref va), (4, .int v3)] → W p l e ({ frames := F + 3, cells := 0, slots := 0, locals := L + 64 } : Room) s m ([.ref r0, .ref va] : List Value).toArray below meth c H locs 0 0 (MQ below (QQ g (some (.long r)) w A) ([.ref r0, .ref va] : List Value).toArray s 0 0 A) (F0 m 120 ls [.long v16]) := by
          intro H locs ls hP hD hS hl
          refine lv_lstore (lv' := [(8, .long v16), (0, .ref r0), (1, .ref va), (4, .int v3)]) hx hb dX6_of_120 hl (by decide) rfl (fun ls hl => ?_)
          refine lv_ldc2 (v := (-1000000)) hx hb hown (hts _ q1030) dX6_of_122 ?_
          refine lv_ldc2 (v := 1000000) hx hb hown (hts _ q1031) dX6_of_125 ?_
          refine lv_lload hx hb dX6_of_128 (lv_at hl 0 rfl) ?_
          refine rMinL (rest := [.long (-1000000)]) X q1032 hl.1 ⟨(by dsimp only; omega), (Nat.le_trans (m := 25) (Nat.le_of_ble_eq_true rfl) (by dsimp only; omega))⟩ ⟨Nat.zero_le _, Nat.zero_le _⟩ dX6_of_130 ?_
          obtain ⟨v19, ev19, hf⟩ := lts hf
          refine tpl ev19 ?_
          refine rMaxL (rest := []) X q1035 hl.1 ⟨(by dsimp only; omega), (Nat.le_trans (m := 25) (Nat.le_of_ble_eq_true rfl) (by dsimp only; omega))⟩ ⟨Nat.zero_le _, Nat.zero_le _⟩ dX6_of_133 ?_
          obtain ⟨v20, ev20, hf⟩ := lts hf
          refine tpl ev20 ?_
          refine lv_lstore_n (lv' := [(2, .long v20), (8, .long v16), (0, .ref r0), (1, .ref va), (4, .int v3)]) hx hb dX6_of_136 rfl hl (by decide) rfl (fun ls hl => ?_)
          obtain ⟨v21, ev21, hf⟩ := lts hf
          refine lv_iinc (v := v21) (lv' := [(4, .int v21), (2, .long v20), (8, .long v16), (0, .ref r0), (1, .ref va)]) hx hb dX6_of_137 hl (k := 4) rfl (by rw [ev21]; rfl) (by decide) rfl (fun ls hl => ?_)
          refine lv_goto (tgt := 14) hx hb dX6_of_140 (by decide) ?_
          exact ih8 _ _ hf _ _ _ hP hD hS (lv_sub hl [3, 4, 1, 0] rfl)
        replace hf := k17
        clear k17
        refine bc_ne (tgt := 77) hx hb hf dX6_of_67 (by decide) (fun hf => ?_) (fun hf => ?_)
        · refine lv_iload hx hb dX6_of_77 (lv_at hl 0 rfl) ?_
          refine lv_bipush (v := 45) hx hb dX6_of_79 (by decide) ?_
          refine bc_ne (tgt := 91) hx hb hf dX6_of_81 (by decide) (fun hf => ?_) (fun hf => ?_)
          · refine lv_iload hx hb dX6_of_91 (lv_at hl 0 rfl) ?_
            refine lv_bipush (v := 42) hx hb dX6_of_93 (by decide) ?_
            refine bc_ne (tgt := 105) hx hb hf dX6_of_95 (by decide) (fun hf => ?_) (fun hf => ?_)
            · refine lv_lload hx hb dX6_of_105 (lv_at hl 1 rfl) ?_
              refine lv_lconst (v := 0) hx hb dX6_of_107 (by decide) ?_
              refine W.lcmp hx hb dX6_of_108 ?_
              refine bq_ne (tgt := 116) hx hb hf dX6_of_109 (by decide) (fun hf => ?_) (fun hf => ?_)
              · refine lv_lload_n hx hb dX6_of_116 rfl (lv_at hl 4 rfl) ?_
                refine lv_lload hx hb dX6_of_117 (lv_at hl 1 rfl) ?_
                obtain ⟨z22, hf⟩ := nzLs hf
                refine lv_ldiv hx hb dX6_of_119 z22 ?_
                cases hf
                exact hj18 _ _ _ hP hD hS (lv_sub hl [2, 3, 5] rfl)
              · refine lv_lconst (v := 0) hx hb dX6_of_112 (by decide) ?_
                refine lv_goto (tgt := 120) hx hb dX6_of_113 (by decide) ?_
                cases hf
                exact hj18 _ _ _ hP hD hS (lv_sub hl [2, 3, 5] rfl)
            · refine lv_lload_n hx hb dX6_of_98 rfl (lv_at hl 4 rfl) ?_
              refine lv_lload hx hb dX6_of_99 (lv_at hl 1 rfl) ?_
              refine lv_lmul hx hb dX6_of_101 ?_
              refine lv_goto (tgt := 120) hx hb dX6_of_102 (by decide) ?_
              cases hf
              exact hj18 _ _ _ hP hD hS (lv_sub hl [2, 3, 5] rfl)
          · refine lv_lload_n hx hb dX6_of_84 rfl (lv_at hl 4 rfl) ?_
            refine lv_lload hx hb dX6_of_85 (lv_at hl 1 rfl) ?_
            refine lv_lsub hx hb dX6_of_87 ?_
            refine lv_goto (tgt := 120) hx hb dX6_of_88 (by decide) ?_
            cases hf
            exact hj18 _ _ _ hP hD hS (lv_sub hl [2, 3, 5] rfl)
        · refine lv_lload_n hx hb dX6_of_70 rfl (lv_at hl 4 rfl) ?_
          refine lv_lload hx hb dX6_of_71 (lv_at hl 1 rfl) ?_
          refine lv_ladd hx hb dX6_of_73 ?_
          refine lv_goto (tgt := 120) hx hb dX6_of_74 (by decide) ?_
          cases hf
          exact hj18 _ _ _ hP hD hS (lv_sub hl [2, 3, 5] rfl)
  exact hL7 _ _ _ k9 _ _ _ hP hD hS (lv_sub hl [2, 3, 1, 0] rfl)
