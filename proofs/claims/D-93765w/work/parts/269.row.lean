set_option maxRecDepth 100000
/-! ===== STAGE 1, methods that throw: the rows' own methods ===== -/
section HX7
variable {Gd : hk_G} {N : hk_N} {E : hk_E} {pc : Nat} {L : List (Nat × Value)} {S : List Value} {st : hk_St}
/-- a cast that comes through -/
theorem hv_cast {name : String} {a ci index : Nat} {r : vw_C} (hb : hk_bf [ci] st a = true) (h100 : ci < 100) (hc : hk_cl[ci]? = some r) (q1 : Cond.classLink N.2.2.1 index name ∈ lw_all) (q2 : r.1 = name ∨ Cond.castable r.1 name ∈ lw_tbl) (d : decode N.2.1 pc = .ok (.checkcast index, 3))
    (k : hk_V Gd N E (pc + 3) L (.ref a :: S) st) : hk_V Gd N E pc L (.ref a :: S) st := by
  refine ⟨k.1, k.2.1, fun p l e R s m args below meth c X H locs cells slots ls hl hR hS h1 h2 => ?_⟩
  have kW := k.2.2 p l e R s m args below meth c X H locs cells slots ls hl hR hS h1 h2
  obtain ⟨cell, z1, z2, z3⟩ := hk_recv X.2.2.2.2.2.2.2.1 hR h100 hc hb
  have hcls := (X.2.2.2.2.2.2.2.1.1.1 ci r hc).2
  intro T hT X9
  have hasg : ∃ cT, s.vm.findClass name = some cT ∧ s.vm.assignable cell.cls cT = true := by
    rcases q2 with rfl | hq
    · refine ⟨cell.cls, z3, ?_⟩
      have e1 : cell.cls = Gd.1.1 ci := Option.some.inj (z3.symm.trans hcls.1)
      rw [e1]
      exact va_assign hcls
    · obtain ⟨c0, t0, f1, f2, f3⟩ := Cond.castable_spec (va_Nw.use (A := args) rfl (X.2.2.2.2.2.2.2.1.2.1 _ hq rfl))
      cases z3.symm.trans f1
      exact ⟨t0, f2, f3⟩
  obtain ⟨cT, g1, g2⟩ := hasg
  obtain ⟨vm', X1, st9⟩ := X9.checkcastYes X.1 X.2.2.1 (X.2.2.2.1 _ q1) (a := a) (cell := cell) (by rw [hT]; exact z1) z2 g1 g2 (g := F0 m pc ls (.ref a :: S)) rfl rfl (by rw [X.2.1]; exact d)
  obtain ⟨t, a1, b1⟩ := kW (T.setVm vm') hT X1
  exact ⟨t, st9 t a1, b1⟩
theorem hv_castN {index : Nat} (d : decode N.2.1 pc = .ok (.checkcast index, 3)) (k : hk_V Gd N E (pc + 3) L (va_rf none :: S) st) : hk_V Gd N E pc L (va_rf none :: S) st := by
  refine ⟨k.1, k.2.1, fun p l e R s m args below meth c X H locs cells slots ls hl hR hS h1 h2 => ?_⟩
  have kW := k.2.2 p l e R s m args below meth c X H locs cells slots ls hl hR hS h1 h2
  intro T hT X9
  have st9 := X9.checkcastNull X.1 (index := index) (g := F0 m pc ls (.null :: S)) rfl rfl (by rw [X.2.1]; exact d)
  obtain ⟨t, a1, b1⟩ := kW T hT X9
  exact ⟨t, st9 t a1, b1⟩
end HX7

def xRow_init (th : Nat) (s0 : hk_St) : Option hk_St :=
  (xHeld_init th s0).bind fun s1 =>
  some s1
abbrev N_xRow_init (l : Launch) : hk_N := (l, cX25_init, "HeadReckons$Row", 1, none, 2, 40, true)
set_option maxHeartbeats 4000000 in
theorem wk_xRow_init {l : Launch} {Gd : hk_G} {th : Nat} {s0 : hk_St} {fin : hk_St} (h : xRow_init th s0 = some fin) : hk_Met Gd l yX25_init cX25_init 1 none 2 40 [.ref th] s0 none fin := by
  refine hk_start "HeadReckons$Row" true (by decide +kernel) rfl (by decide) (Nat.le_of_ble_eq_true rfl) ?_
  show hk_V Gd (N_xRow_init l) (hk_end Gd s0 none fin) 0 [(0, .ref th)] [] s0
  unfold xRow_init at h
  refine hv_aload_n 0 dX25_init_0 rfl rfl ?_
  obtain ⟨s1, e_s1, h⟩ := hq_ob h
  refine hv_callIN [] [] [] (wk_xHeld_init e_s1) cs_X25_1 rfl ⟨Nat.le_of_ble_eq_true rfl, Nat.le_of_ble_eq_true rfl⟩ rfl (Nat.le_of_ble_eq_true rfl) rfl dX25_init_1 ?_
  have h := Option.some.inj h
  subst h
  exact hv_vret rfl dX25_init_4
def xByteRow_put (th : Nat) (p1 : Int32) (p2 : Int64) (s0 : hk_St) : Option (Int32 × hk_St) :=
  (hk_gR [23] 2300 s0 th).bind fun x1 =>
  hk_nn x1 fun a2 =>
  (hk_tI 1 s0 a2 p1 p2.toInt32.toInt8.toInt32).bind fun s3 =>
  some ((1 : Int32), s3)
abbrev N_xByteRow_put (l : Launch) : hk_N := (l, cX26_put, "HeadReckons$ByteRow", 4, (some .boolean), 0, 0, false)
set_option maxHeartbeats 4000000 in
theorem wk_xByteRow_put {l : Launch} {Gd : hk_G} {th : Nat} {p1 : Int32} {p2 : Int64} {s0 : hk_St} {r : Int32} {fin : hk_St} (h : xByteRow_put th p1 p2 s0 = some (r, fin)) : hk_Met Gd l yX26_put cX26_put 4 (some .boolean) 0 0 [.ref th, .int p1, .long p2] s0 (some (.int r)) fin := by
  refine hk_start "HeadReckons$ByteRow" false (by decide +kernel) rfl (by decide) (Nat.le_of_ble_eq_true rfl) ?_
  show hk_V Gd (N_xByteRow_put l) (hk_end Gd s0 (some (.int r)) fin) 0 [(0, .ref th), (1, .int p1), (2, .long p2)] [] s0
  unfold xByteRow_put at h
  refine hv_aload_n 0 dX26_put_0 rfl rfl ?_
  obtain ⟨x1, e_x1, h⟩ := hq_ob h
  refine hv_getR fl_X26_7 e_x1 dX26_put_1 ?_
  refine hv_iload_n 1 dX26_put_4 rfl rfl ?_
  refine hv_lload_n 2 dX26_put_5 rfl rfl ?_
  refine hv_l2i dX26_put_6 ?_
  refine hv_i2b dX26_put_7 ?_
  obtain ⟨a2, e_a2, h⟩ := hq_nn h
  rw [e_a2]
  obtain ⟨s3, e_s3, h⟩ := hq_ob h
  refine hv_bast e_s3 dX26_put_8 ?_
  refine hv_iconst (v := 1) dX26_put_9 (by decide) ?_
  obtain ⟨h1, h2⟩ := hq_ret h
  subst h1
  subst h2
  exact hv_zret (ty := .boolean) rfl rfl dX26_put_10
def xByteRow_at (th : Nat) (p1 : Int32) (s0 : hk_St) : Option (Int64) :=
  (hk_gR [23] 2300 s0 th).bind fun x1 =>
  hk_nn x1 fun a2 =>
  (hk_lI 1 s0 a2 p1).bind fun x3 =>
  some x3.toInt64
abbrev N_xByteRow_at (l : Launch) : hk_N := (l, cX26_at, "HeadReckons$ByteRow", 2, (some .long), 0, 0, false)
set_option maxHeartbeats 4000000 in
theorem wk_xByteRow_at {l : Launch} {Gd : hk_G} {th : Nat} {p1 : Int32} {s0 : hk_St} {r : Int64} (h : xByteRow_at th p1 s0 = some r) : hk_Met Gd l yX26_at cX26_at 2 (some .long) 0 0 [.ref th, .int p1] s0 (some (.long r)) s0 := by
  refine hk_start "HeadReckons$ByteRow" false (by decide +kernel) rfl (by decide) (Nat.le_of_ble_eq_true rfl) ?_
  show hk_V Gd (N_xByteRow_at l) (hk_end Gd s0 (some (.long r)) s0) 0 [(0, .ref th), (1, .int p1)] [] s0
  unfold xByteRow_at at h
  refine hv_aload_n 0 dX26_at_0 rfl rfl ?_
  obtain ⟨x1, e_x1, h⟩ := hq_ob h
  refine hv_getR fl_X26_7 e_x1 dX26_at_1 ?_
  refine hv_iload_n 1 dX26_at_4 rfl rfl ?_
  obtain ⟨a2, e_a2, h⟩ := hq_nn h
  rw [e_a2]
  obtain ⟨x3, e_x3, h⟩ := hq_ob h
  refine hv_bald e_x3 dX26_at_5 ?_
  refine hv_i2l dX26_at_6 ?_
  have h := Option.some.inj h
  subst h
  exact hv_lret rfl dX26_at_7
def xShortRow_put (th : Nat) (p1 : Int32) (p2 : Int64) (s0 : hk_St) : Option (Int32 × hk_St) :=
  (hk_gR [24] 2400 s0 th).bind fun x1 =>
  hk_nn x1 fun a2 =>
  (hk_tI 2 s0 a2 p1 p2.toInt32.toInt16.toInt32).bind fun s3 =>
  some ((1 : Int32), s3)
abbrev N_xShortRow_put (l : Launch) : hk_N := (l, cX27_put, "HeadReckons$ShortRow", 4, (some .boolean), 0, 0, false)
set_option maxHeartbeats 4000000 in
theorem wk_xShortRow_put {l : Launch} {Gd : hk_G} {th : Nat} {p1 : Int32} {p2 : Int64} {s0 : hk_St} {r : Int32} {fin : hk_St} (h : xShortRow_put th p1 p2 s0 = some (r, fin)) : hk_Met Gd l yX27_put cX27_put 4 (some .boolean) 0 0 [.ref th, .int p1, .long p2] s0 (some (.int r)) fin := by
  refine hk_start "HeadReckons$ShortRow" false (by decide +kernel) rfl (by decide) (Nat.le_of_ble_eq_true rfl) ?_
  show hk_V Gd (N_xShortRow_put l) (hk_end Gd s0 (some (.int r)) fin) 0 [(0, .ref th), (1, .int p1), (2, .long p2)] [] s0
  unfold xShortRow_put at h
  refine hv_aload_n 0 dX27_put_0 rfl rfl ?_
  obtain ⟨x1, e_x1, h⟩ := hq_ob h
  refine hv_getR fl_X27_7 e_x1 dX27_put_1 ?_
  refine hv_iload_n 1 dX27_put_4 rfl rfl ?_
  refine hv_lload_n 2 dX27_put_5 rfl rfl ?_
  refine hv_l2i dX27_put_6 ?_
  refine hv_i2s dX27_put_7 ?_
  obtain ⟨a2, e_a2, h⟩ := hq_nn h
  rw [e_a2]
  obtain ⟨s3, e_s3, h⟩ := hq_ob h
  refine hv_sast e_s3 dX27_put_8 ?_
  refine hv_iconst (v := 1) dX27_put_9 (by decide) ?_
  obtain ⟨h1, h2⟩ := hq_ret h
  subst h1
  subst h2
  exact hv_zret (ty := .boolean) rfl rfl dX27_put_10
def xShortRow_at (th : Nat) (p1 : Int32) (s0 : hk_St) : Option (Int64) :=
  (hk_gR [24] 2400 s0 th).bind fun x1 =>
  hk_nn x1 fun a2 =>
  (hk_lI 2 s0 a2 p1).bind fun x3 =>
  some x3.toInt64
abbrev N_xShortRow_at (l : Launch) : hk_N := (l, cX27_at, "HeadReckons$ShortRow", 2, (some .long), 0, 0, false)
set_option maxHeartbeats 4000000 in
theorem wk_xShortRow_at {l : Launch} {Gd : hk_G} {th : Nat} {p1 : Int32} {s0 : hk_St} {r : Int64} (h : xShortRow_at th p1 s0 = some r) : hk_Met Gd l yX27_at cX27_at 2 (some .long) 0 0 [.ref th, .int p1] s0 (some (.long r)) s0 := by
  refine hk_start "HeadReckons$ShortRow" false (by decide +kernel) rfl (by decide) (Nat.le_of_ble_eq_true rfl) ?_
  show hk_V Gd (N_xShortRow_at l) (hk_end Gd s0 (some (.long r)) s0) 0 [(0, .ref th), (1, .int p1)] [] s0
  unfold xShortRow_at at h
  refine hv_aload_n 0 dX27_at_0 rfl rfl ?_
  obtain ⟨x1, e_x1, h⟩ := hq_ob h
  refine hv_getR fl_X27_7 e_x1 dX27_at_1 ?_
  refine hv_iload_n 1 dX27_at_4 rfl rfl ?_
  obtain ⟨a2, e_a2, h⟩ := hq_nn h
  rw [e_a2]
  obtain ⟨x3, e_x3, h⟩ := hq_ob h
  refine hv_sald e_x3 dX27_at_5 ?_
  refine hv_i2l dX27_at_6 ?_
  have h := Option.some.inj h
  subst h
  exact hv_lret rfl dX27_at_7
def xIntRow_at (th : Nat) (p1 : Int32) (s0 : hk_St) : Option (Int64) :=
  (hk_gR [25] 2500 s0 th).bind fun x1 =>
  hk_nn x1 fun a2 =>
  (hk_lI 0 s0 a2 p1).bind fun x3 =>
  some x3.toInt64
abbrev N_xIntRow_at (l : Launch) : hk_N := (l, cX28_at, "HeadReckons$IntRow", 2, (some .long), 0, 0, false)
set_option maxHeartbeats 4000000 in
theorem wk_xIntRow_at {l : Launch} {Gd : hk_G} {th : Nat} {p1 : Int32} {s0 : hk_St} {r : Int64} (h : xIntRow_at th p1 s0 = some r) : hk_Met Gd l yX28_at cX28_at 2 (some .long) 0 0 [.ref th, .int p1] s0 (some (.long r)) s0 := by
  refine hk_start "HeadReckons$IntRow" false (by decide +kernel) rfl (by decide) (Nat.le_of_ble_eq_true rfl) ?_
  show hk_V Gd (N_xIntRow_at l) (hk_end Gd s0 (some (.long r)) s0) 0 [(0, .ref th), (1, .int p1)] [] s0
  unfold xIntRow_at at h
  refine hv_aload_n 0 dX28_at_0 rfl rfl ?_
  obtain ⟨x1, e_x1, h⟩ := hq_ob h
  refine hv_getR fl_X28_7 e_x1 dX28_at_1 ?_
  refine hv_iload_n 1 dX28_at_4 rfl rfl ?_
  obtain ⟨a2, e_a2, h⟩ := hq_nn h
  rw [e_a2]
  obtain ⟨x3, e_x3, h⟩ := hq_ob h
  refine hv_iald e_x3 dX28_at_5 ?_
  refine hv_i2l dX28_at_6 ?_
  have h := Option.some.inj h
  subst h
  exact hv_lret rfl dX28_at_7
def xIntRow_put (th : Nat) (p1 : Int32) (p2 : Int64) (s0 : hk_St) : Option (Int32 × hk_St) :=
  (hk_gR [25] 2500 s0 th).bind fun x1 =>
  hk_nn x1 fun a2 =>
  (hk_tI 0 s0 a2 p1 p2.toInt32).bind fun s3 =>
  some ((1 : Int32), s3)
abbrev N_xIntRow_put (l : Launch) : hk_N := (l, cX28_put, "HeadReckons$IntRow", 4, (some .boolean), 0, 0, false)
set_option maxHeartbeats 4000000 in
theorem wk_xIntRow_put {l : Launch} {Gd : hk_G} {th : Nat} {p1 : Int32} {p2 : Int64} {s0 : hk_St} {r : Int32} {fin : hk_St} (h : xIntRow_put th p1 p2 s0 = some (r, fin)) : hk_Met Gd l yX28_put cX28_put 4 (some .boolean) 0 0 [.ref th, .int p1, .long p2] s0 (some (.int r)) fin := by
  refine hk_start "HeadReckons$IntRow" false (by decide +kernel) rfl (by decide) (Nat.le_of_ble_eq_true rfl) ?_
  show hk_V Gd (N_xIntRow_put l) (hk_end Gd s0 (some (.int r)) fin) 0 [(0, .ref th), (1, .int p1), (2, .long p2)] [] s0
  unfold xIntRow_put at h
  refine hv_aload_n 0 dX28_put_0 rfl rfl ?_
  obtain ⟨x1, e_x1, h⟩ := hq_ob h
  refine hv_getR fl_X28_7 e_x1 dX28_put_1 ?_
  refine hv_iload_n 1 dX28_put_4 rfl rfl ?_
  refine hv_lload_n 2 dX28_put_5 rfl rfl ?_
  refine hv_l2i dX28_put_6 ?_
  obtain ⟨a2, e_a2, h⟩ := hq_nn h
  rw [e_a2]
  obtain ⟨s3, e_s3, h⟩ := hq_ob h
  refine hv_iast e_s3 dX28_put_7 ?_
  refine hv_iconst (v := 1) dX28_put_8 (by decide) ?_
  obtain ⟨h1, h2⟩ := hq_ret h
  subst h1
  subst h2
  exact hv_zret (ty := .boolean) rfl rfl dX28_put_9
def xLongRow_put (th : Nat) (p1 : Int32) (p2 : Int64) (s0 : hk_St) : Option (Int32 × hk_St) :=
  (hk_gR [26] 2600 s0 th).bind fun x1 =>
  hk_nn x1 fun a2 =>
  (hk_tL s0 a2 p1 p2).bind fun s3 =>
  some ((1 : Int32), s3)
abbrev N_xLongRow_put (l : Launch) : hk_N := (l, cX29_put, "HeadReckons$LongRow", 4, (some .boolean), 0, 0, false)
set_option maxHeartbeats 4000000 in
theorem wk_xLongRow_put {l : Launch} {Gd : hk_G} {th : Nat} {p1 : Int32} {p2 : Int64} {s0 : hk_St} {r : Int32} {fin : hk_St} (h : xLongRow_put th p1 p2 s0 = some (r, fin)) : hk_Met Gd l yX29_put cX29_put 4 (some .boolean) 0 0 [.ref th, .int p1, .long p2] s0 (some (.int r)) fin := by
  refine hk_start "HeadReckons$LongRow" false (by decide +kernel) rfl (by decide) (Nat.le_of_ble_eq_true rfl) ?_
  show hk_V Gd (N_xLongRow_put l) (hk_end Gd s0 (some (.int r)) fin) 0 [(0, .ref th), (1, .int p1), (2, .long p2)] [] s0
  unfold xLongRow_put at h
  refine hv_aload_n 0 dX29_put_0 rfl rfl ?_
  obtain ⟨x1, e_x1, h⟩ := hq_ob h
  refine hv_getR fl_X29_7 e_x1 dX29_put_1 ?_
  refine hv_iload_n 1 dX29_put_4 rfl rfl ?_
  refine hv_lload_n 2 dX29_put_5 rfl rfl ?_
  obtain ⟨a2, e_a2, h⟩ := hq_nn h
  rw [e_a2]
  obtain ⟨s3, e_s3, h⟩ := hq_ob h
  refine hv_last e_s3 dX29_put_6 ?_
  refine hv_iconst (v := 1) dX29_put_7 (by decide) ?_
  obtain ⟨h1, h2⟩ := hq_ret h
  subst h1
  subst h2
  exact hv_zret (ty := .boolean) rfl rfl dX29_put_8
def xLongRow_at (th : Nat) (p1 : Int32) (s0 : hk_St) : Option (Int64) :=
  (hk_gR [26] 2600 s0 th).bind fun x1 =>
  hk_nn x1 fun a2 =>
  (hk_lL s0 a2 p1).bind fun x3 =>
  some x3
abbrev N_xLongRow_at (l : Launch) : hk_N := (l, cX29_at, "HeadReckons$LongRow", 2, (some .long), 0, 0, false)
set_option maxHeartbeats 4000000 in
theorem wk_xLongRow_at {l : Launch} {Gd : hk_G} {th : Nat} {p1 : Int32} {s0 : hk_St} {r : Int64} (h : xLongRow_at th p1 s0 = some r) : hk_Met Gd l yX29_at cX29_at 2 (some .long) 0 0 [.ref th, .int p1] s0 (some (.long r)) s0 := by
  refine hk_start "HeadReckons$LongRow" false (by decide +kernel) rfl (by decide) (Nat.le_of_ble_eq_true rfl) ?_
  show hk_V Gd (N_xLongRow_at l) (hk_end Gd s0 (some (.long r)) s0) 0 [(0, .ref th), (1, .int p1)] [] s0
  unfold xLongRow_at at h
  refine hv_aload_n 0 dX29_at_0 rfl rfl ?_
  obtain ⟨x1, e_x1, h⟩ := hq_ob h
  refine hv_getR fl_X29_7 e_x1 dX29_at_1 ?_
  refine hv_iload_n 1 dX29_at_4 rfl rfl ?_
  obtain ⟨a2, e_a2, h⟩ := hq_nn h
  rw [e_a2]
  obtain ⟨x3, e_x3, h⟩ := hq_ob h
  refine hv_lald e_x3 dX29_at_5 ?_
  have h := Option.some.inj h
  subst h
  exact hv_lret rfl dX29_at_6
def xBooleanRow_put (th : Nat) (p1 : Int32) (p2 : Int64) (s0 : hk_St) : Option (Int32 × hk_St) :=
  (hk_gR [27] 2700 s0 th).bind fun x1 =>
  if p2 = (0 : Int64) then
    hk_nn x1 fun a3 =>
    (hk_tI 3 s0 a3 p1 (0 : Int32)).bind fun s4 =>
    some ((1 : Int32), s4)
  else
  hk_nn x1 fun a5 =>
  (hk_tI 3 s0 a5 p1 (1 : Int32)).bind fun s6 =>
  some ((1 : Int32), s6)
abbrev N_xBooleanRow_put (l : Launch) : hk_N := (l, cX30_put, "HeadReckons$BooleanRow", 4, (some .boolean), 0, 0, false)
set_option maxHeartbeats 4000000 in
theorem wk_xBooleanRow_put {l : Launch} {Gd : hk_G} {th : Nat} {p1 : Int32} {p2 : Int64} {s0 : hk_St} {r : Int32} {fin : hk_St} (h : xBooleanRow_put th p1 p2 s0 = some (r, fin)) : hk_Met Gd l yX30_put cX30_put 4 (some .boolean) 0 0 [.ref th, .int p1, .long p2] s0 (some (.int r)) fin := by
  refine hk_start "HeadReckons$BooleanRow" false (by decide +kernel) rfl (by decide) (Nat.le_of_ble_eq_true rfl) ?_
  show hk_V Gd (N_xBooleanRow_put l) (hk_end Gd s0 (some (.int r)) fin) 0 [(0, .ref th), (1, .int p1), (2, .long p2)] [] s0
  unfold xBooleanRow_put at h
  refine hv_aload_n 0 dX30_put_0 rfl rfl ?_
  obtain ⟨x1, e_x1, h⟩ := hq_ob h
  refine hv_getR fl_X30_7 e_x1 dX30_put_1 ?_
  refine hv_iload_n 1 dX30_put_4 rfl rfl ?_
  refine hv_lload_n 2 dX30_put_5 rfl rfl ?_
  refine hv_lconst (v := 0) dX30_put_6 (by decide) ?_
  refine hv_lcmp_eq (tgt := 15) dX30_put_7 dX30_put_8 (by decide) (fun c2 => ?_) (fun c2 => ?_)
  · replace h := hq_ip c2 h
    refine hv_iconst (v := 0) dX30_put_15 (by decide) ?_
    obtain ⟨a3, e_a3, h⟩ := hq_nn h
    rw [e_a3]
    obtain ⟨s4, e_s4, h⟩ := hq_ob h
    refine hv_zast e_s4 dX30_put_16 ?_
    refine hv_iconst (v := 1) dX30_put_17 (by decide) ?_
    obtain ⟨h1, h2⟩ := hq_ret h
    subst h1
    subst h2
    exact hv_zret (ty := .boolean) rfl rfl dX30_put_18
  · replace h := hq_in c2 h
    refine hv_iconst (v := 1) dX30_put_11 (by decide) ?_
    refine hv_goto (tgt := 16) dX30_put_12 (by decide) ?_
    obtain ⟨a5, e_a5, h⟩ := hq_nn h
    rw [e_a5]
    obtain ⟨s6, e_s6, h⟩ := hq_ob h
    refine hv_zast e_s6 dX30_put_16 ?_
    refine hv_iconst (v := 1) dX30_put_17 (by decide) ?_
    obtain ⟨h1, h2⟩ := hq_ret h
    subst h1
    subst h2
    exact hv_zret (ty := .boolean) rfl rfl dX30_put_18
def xBooleanRow_at (th : Nat) (p1 : Int32) (s0 : hk_St) : Option (Int64) :=
  (hk_gR [27] 2700 s0 th).bind fun x1 =>
  hk_nn x1 fun a2 =>
  (hk_lI 3 s0 a2 p1).bind fun x3 =>
  if x3 = 0 then
    some (0 : Int64)
  else
  some (1 : Int64)
abbrev N_xBooleanRow_at (l : Launch) : hk_N := (l, cX30_at, "HeadReckons$BooleanRow", 2, (some .long), 0, 0, false)
set_option maxHeartbeats 4000000 in
theorem wk_xBooleanRow_at {l : Launch} {Gd : hk_G} {th : Nat} {p1 : Int32} {s0 : hk_St} {r : Int64} (h : xBooleanRow_at th p1 s0 = some r) : hk_Met Gd l yX30_at cX30_at 2 (some .long) 0 0 [.ref th, .int p1] s0 (some (.long r)) s0 := by
  refine hk_start "HeadReckons$BooleanRow" false (by decide +kernel) rfl (by decide) (Nat.le_of_ble_eq_true rfl) ?_
  show hk_V Gd (N_xBooleanRow_at l) (hk_end Gd s0 (some (.long r)) s0) 0 [(0, .ref th), (1, .int p1)] [] s0
  unfold xBooleanRow_at at h
  refine hv_aload_n 0 dX30_at_0 rfl rfl ?_
  obtain ⟨x1, e_x1, h⟩ := hq_ob h
  refine hv_getR fl_X30_7 e_x1 dX30_at_1 ?_
  refine hv_iload_n 1 dX30_at_4 rfl rfl ?_
  obtain ⟨a2, e_a2, h⟩ := hq_nn h
  rw [e_a2]
  obtain ⟨x3, e_x3, h⟩ := hq_ob h
  refine hv_zald e_x3 dX30_at_5 ?_
  refine hv_if_eq (tgt := 13) dX30_at_6 (by decide) (fun c4 => ?_) (fun c4 => ?_)
  · replace h := hq_ip c4 h
    refine hv_lconst (v := 0) dX30_at_13 (by decide) ?_
    have h := Option.some.inj h
    subst h
    exact hv_lret rfl dX30_at_14
  · replace h := hq_in c4 h
    refine hv_lconst (v := 1) dX30_at_9 (by decide) ?_
    refine hv_goto (tgt := 14) dX30_at_10 (by decide) ?_
    have h := Option.some.inj h
    subst h
    exact hv_lret rfl dX30_at_14
set_option maxHeartbeats 4000000 in
theorem wr_ByteRow_init {l : Launch} {Gd : hk_G} {th k : Nat} {n : Int32} {s0 : hk_St} (h0 : ¬ n < 0) (hk : n.toNatClampNeg = k) (h6 : k ≤ 60) (hb : hk_k s0 th = some (23, 0)) (hne : th ≠ hk_nx s0) : hk_Met Gd l yX26_init cX26_init 2 none 3 90 [.ref th, .int n] s0 none (hk_sfR (hk_mk s0 (100 + 1) k k) 2300 th (some (hk_nx s0))) := by
  refine hk_start "HeadReckons$ByteRow" true (by decide +kernel) rfl (by decide) (Nat.le_of_ble_eq_true rfl) ?_
  show hk_V Gd (l, cX26_init, "HeadReckons$ByteRow", 2, none, 3, 90, true) (hk_end Gd s0 none _) 0 [(0, .ref th), (1, .int n)] [] s0
  refine hv_aload_n 0 dX26_init_0 rfl rfl ?_
  refine hv_callIN [] [] [] (wk_xRow_init (s0 := s0) rfl) cs_X26_1 rfl ⟨Nat.le_of_ble_eq_true rfl, Nat.le_of_ble_eq_true rfl⟩ rfl (Nat.le_of_ble_eq_true rfl) rfl dX26_init_1 ?_
  refine hv_aload_n 0 dX26_init_4 rfl rfl ?_
  refine hv_iload_n 1 dX26_init_5 rfl rfl ?_
  refine hv_newa (atype := .byte) (ty := 1) (n' := k) (by decide) rfl q162 h0 hk (by omega) dX26_init_6 ?_
  refine hv_putR (x := some (hk_nx s0)) fp_X26_7 (if_pos (bf_k (show hk_k (hk_mk s0 (100 + 1) k k) th = some (23, 0) from (if_neg hne).trans hb))) (fun _ => rfl) dX26_init_8 ?_
  exact hv_vret rfl dX26_init_11
set_option maxHeartbeats 4000000 in
theorem wt_ByteRow_init {l : Launch} {Gd : hk_G} {th : Nat} {n : Int32} {s0 : hk_St} (htr : l.stackTraces = false) (h0 : n < 0) : hx_MT Gd l yX26_init cX26_init 2 none 9 10300 [.ref th, .int n] s0 (hk_cs s0 3 54) "java/lang/NegativeArraySizeException" := by
  refine hx_startT htr "HeadReckons$ByteRow" true (by decide +kernel) rfl (by decide) (Nat.le_of_ble_eq_true rfl) ?_
  show hk_V Gd (l, cX26_init, "HeadReckons$ByteRow", 2, none, 9, 10300, true) (hx_endT Gd s0 (hk_cs s0 3 54) _) 0 [(0, .ref th), (1, .int n)] [] s0
  refine hv_aload_n 0 dX26_init_0 rfl rfl ?_
  refine hv_callIN [] [] [] (wk_xRow_init (s0 := s0) rfl) cs_X26_1 rfl ⟨Nat.le_of_ble_eq_true rfl, Nat.le_of_ble_eq_true rfl⟩ rfl (Nat.le_of_ble_eq_true rfl) rfl dX26_init_1 ?_
  refine hv_aload_n 0 dX26_init_4 rfl rfl ?_
  refine hv_iload_n 1 dX26_init_5 rfl rfl ?_
  exact hx_newaZ hx_efT h0 (Nat.le_of_ble_eq_true rfl) (Nat.le_of_ble_eq_true rfl) (Nat.le_of_ble_eq_true rfl) dX26_init_6 hx_leave
set_option maxHeartbeats 4000000 in
theorem wt_ByteRow_at {l : Launch} {Gd : hk_G} {th a k : Nat} {n : Int32} {s0 : hk_St} (htr : l.stackTraces = false) (hb : hk_k s0 th = some (23, 0)) (hf : hk_fR s0 2300 th = some a) (ha : hk_k s0 a = some (100 + 1, k)) (hk : k < 2 ^ 31) (ho : ¬ vp_in n k) : hx_MT Gd l yX26_at cX26_at 2 (some .long) 9 10300 [.ref th, .int n] s0 (hk_cs s0 3 222) "java/lang/ArrayIndexOutOfBoundsException" := by
  refine hx_startT htr "HeadReckons$ByteRow" false (by decide +kernel) rfl (fun h => Bool.noConfusion h) (Nat.le_of_ble_eq_true rfl) ?_
  show hk_V Gd (l, cX26_at, "HeadReckons$ByteRow", 2, (some .long), 9, 10300, false) (hx_endT Gd s0 (hk_cs s0 3 222) _) 0 [(0, .ref th), (1, .int n)] [] s0
  refine hv_aload_n 0 dX26_at_0 rfl rfl ?_
  refine hv_getR (x := some a) fl_X26_7 ((if_pos (bf_k hb)).trans (congrArg some hf)) dX26_at_1 ?_
  refine hv_iload_n 1 dX26_at_4 rfl rfl ?_
  exact hx_bald hx_efT ha hk ho (Nat.le_of_ble_eq_true rfl) (Nat.le_of_ble_eq_true rfl) (Nat.le_of_ble_eq_true rfl) dX26_at_5 hx_leave
set_option maxHeartbeats 4000000 in
theorem wt_ByteRow_put {l : Launch} {Gd : hk_G} {th a k : Nat} {n : Int32} {v : Int64} {s0 : hk_St} (htr : l.stackTraces = false) (hb : hk_k s0 th = some (23, 0)) (hf : hk_fR s0 2300 th = some a) (ha : hk_k s0 a = some (100 + 1, k)) (hk : k < 2 ^ 31) (ho : ¬ vp_in n k) : hx_MT Gd l yX26_put cX26_put 4 (some .boolean) 9 10300 [.ref th, .int n, .long v] s0 (hk_cs s0 3 222) "java/lang/ArrayIndexOutOfBoundsException" := by
  refine hx_startT htr "HeadReckons$ByteRow" false (by decide +kernel) rfl (fun h => Bool.noConfusion h) (Nat.le_of_ble_eq_true rfl) ?_
  show hk_V Gd (l, cX26_put, "HeadReckons$ByteRow", 4, (some .boolean), 9, 10300, false) (hx_endT Gd s0 (hk_cs s0 3 222) _) 0 [(0, .ref th), (1, .int n), (2, .long v)] [] s0
  refine hv_aload_n 0 dX26_put_0 rfl rfl ?_
  refine hv_getR (x := some a) fl_X26_7 ((if_pos (bf_k hb)).trans (congrArg some hf)) dX26_put_1 ?_
  refine hv_iload_n 1 dX26_put_4 rfl rfl ?_
  refine hv_lload_n 2 dX26_put_5 rfl rfl ?_
  refine hv_l2i dX26_put_6 ?_
  refine hv_i2b dX26_put_7 ?_
  exact hx_bast hx_efT ha hk ho (Nat.le_of_ble_eq_true rfl) (Nat.le_of_ble_eq_true rfl) (Nat.le_of_ble_eq_true rfl) dX26_put_8 hx_leave
set_option maxHeartbeats 4000000 in
theorem wr_ByteRow_copy {l : Launch} {Gd : hk_G} {th to a b k k2 : Nat} {i j n : Int32} {s0 : hk_St} (hb : hk_k s0 th = some (23, 0)) (hf : hk_fR s0 2300 th = some a) (hb2 : hk_k s0 to = some (23, 0)) (hf2 : hk_fR s0 2300 to = some b) (ha : hk_k s0 a = some (100 + 1, k)) (ha2 : hk_k s0 b = some (100 + 1, k2)) (h1 : ¬ i < 0) (h2 : ¬ j < 0) (h3 : ¬ n < 0) (h4 : i.toNatClampNeg + n.toNatClampNeg ≤ k) (h5 : j.toNatClampNeg + n.toNatClampNeg ≤ k2) (hfit : ∀ q, q < n.toNatClampNeg → fits (.byte) (.int (hk_aI s0 a (i.toNatClampNeg + q))) = true) : hk_Met Gd l yX26_copy cX26_copy 5 none 9 10300 [.ref th, .int i, .ref to, .int j, .int n] s0 none (hk_cpI s0 a b i.toNatClampNeg j.toNatClampNeg n.toNatClampNeg) := by
  refine hk_start "HeadReckons$ByteRow" false (by decide +kernel) rfl (fun h => Bool.noConfusion h) (Nat.le_of_ble_eq_true rfl) ?_
  show hk_V Gd (l, cX26_copy, "HeadReckons$ByteRow", 5, none, 9, 10300, false) (hk_end Gd s0 none (hk_cpI s0 a b i.toNatClampNeg j.toNatClampNeg n.toNatClampNeg)) 0 [(0, .ref th), (1, .int i), (2, .ref to), (3, .int j), (4, .int n)] [] s0
  refine hv_aload_n 0 dX26_copy_0 rfl rfl ?_
  refine hv_getR (x := some a) fl_X26_7 ((if_pos (bf_k hb)).trans (congrArg some hf)) dX26_copy_1 ?_
  refine hv_iload_n 1 dX26_copy_4 rfl rfl ?_
  refine hv_aload_n 2 dX26_copy_5 rfl rfl ?_
  refine hv_cast (ci := 23) (r := (RX26, TX26, 1)) (bf_k hb2) (by decide) rfl q1524 (Or.inl rfl) dX26_copy_6 ?_
  refine hv_getR (x := some b) fl_X26_7 ((if_pos (bf_k hb2)).trans (congrArg some hf2)) dX26_copy_9 ?_
  refine hv_iload_n 3 dX26_copy_12 rfl rfl ?_
  refine hv_iload 4 dX26_copy_13 rfl ?_
  refine hv_cpI (ty := 1) (t := .byte) [] (by decide) rfl ha ha2 h1 h2 h3 h4 h5 hfit rfl q1525 q1520 q1519 q137 (Nat.le_of_ble_eq_true rfl) (Nat.le_of_ble_eq_true rfl) (Nat.le_of_ble_eq_true rfl) rfl dX26_copy_15 ?_
  exact hv_vret rfl dX26_copy_18
set_option maxHeartbeats 4000000 in
theorem wt_ByteRow_copy {l : Launch} {Gd : hk_G} {th to a b k k2 : Nat} {i j n : Int32} {s0 : hk_St} (htr : l.stackTraces = false) (hb : hk_k s0 th = some (23, 0)) (hf : hk_fR s0 2300 th = some a) (hb2 : hk_k s0 to = some (23, 0)) (hf2 : hk_fR s0 2300 to = some b) (ha : hk_k s0 a = some (100 + 1, k)) (ha2 : hk_k s0 b = some (100 + 1, k2)) (hk : k < 2 ^ 31) (hk2 : k2 < 2 ^ 31) (hout : ¬ (¬ i < 0 ∧ ¬ j < 0 ∧ ¬ n < 0 ∧ ¬ i.toInt + n.toInt > k ∧ ¬ j.toInt + n.toInt > k2)) : hx_MT Gd l yX26_copy cX26_copy 5 none 9 10300 [.ref th, .int i, .ref to, .int j, .int n] s0 (hk_cs s0 3 510) "java/lang/ArrayIndexOutOfBoundsException" := by
  refine hx_startT htr "HeadReckons$ByteRow" false (by decide +kernel) rfl (fun h => Bool.noConfusion h) (Nat.le_of_ble_eq_true rfl) ?_
  show hk_V Gd (l, cX26_copy, "HeadReckons$ByteRow", 5, none, 9, 10300, false) (hx_endT Gd s0 (hk_cs s0 3 510) _) 0 [(0, .ref th), (1, .int i), (2, .ref to), (3, .int j), (4, .int n)] [] s0
  refine hv_aload_n 0 dX26_copy_0 rfl rfl ?_
  refine hv_getR (x := some a) fl_X26_7 ((if_pos (bf_k hb)).trans (congrArg some hf)) dX26_copy_1 ?_
  refine hv_iload_n 1 dX26_copy_4 rfl rfl ?_
  refine hv_aload_n 2 dX26_copy_5 rfl rfl ?_
  refine hv_cast (ci := 23) (r := (RX26, TX26, 1)) (bf_k hb2) (by decide) rfl q1524 (Or.inl rfl) dX26_copy_6 ?_
  refine hv_getR (x := some b) fl_X26_7 ((if_pos (bf_k hb2)).trans (congrArg some hf2)) dX26_copy_9 ?_
  refine hv_iload_n 3 dX26_copy_12 rfl rfl ?_
  refine hv_iload 4 dX26_copy_13 rfl ?_
  exact hx_copyZ (ty := 1) (t := .byte) [] hx_efT (by decide) rfl rfl ha ha2 hk hk2 hout q1525 q1520 q1519 q137 (Nat.le_of_ble_eq_true rfl) (Nat.le_of_ble_eq_true rfl) (Nat.le_of_ble_eq_true rfl) rfl dX26_copy_15 hx_leave
set_option maxHeartbeats 4000000 in
theorem wc_ByteRow_copy {l : Launch} {Gd : hk_G} {th to a ci : Nat} {i j n : Int32} {s0 : hk_St} {r : vw_C} (htr : l.stackTraces = false) (hb : hk_k s0 th = some (23, 0)) (hf : hk_fR s0 2300 th = some a) (hb2 : hk_k s0 to = some (ci, 0)) (h100 : ci < 100) (hc : hk_cl[ci]? = some r) (hnc : (r.1, "HeadReckons$ByteRow") ∈ hx_ncs) (hpk : packageOf r.1 = "") (hln : r.1.toList.length ≤ 24) : hx_MT Gd l yX26_copy cX26_copy 5 none 9 10300 [.ref th, .int i, .ref to, .int j, .int n] s0 (hk_cs s0 3 1010) "java/lang/ClassCastException" := by
  refine hx_startT htr "HeadReckons$ByteRow" false (by decide +kernel) rfl (fun h => Bool.noConfusion h) (Nat.le_of_ble_eq_true rfl) ?_
  show hk_V Gd (l, cX26_copy, "HeadReckons$ByteRow", 5, none, 9, 10300, false) (hx_endT Gd s0 (hk_cs s0 3 1010) _) 0 [(0, .ref th), (1, .int i), (2, .ref to), (3, .int j), (4, .int n)] [] s0
  refine hv_aload_n 0 dX26_copy_0 rfl rfl ?_
  refine hv_getR (x := some a) fl_X26_7 ((if_pos (bf_k hb)).trans (congrArg some hf)) dX26_copy_1 ?_
  refine hv_iload_n 1 dX26_copy_4 rfl rfl ?_
  refine hv_aload_n 2 dX26_copy_5 rfl rfl ?_
  exact hx_cast hx_efT hb2 h100 hc q1524 hnc ⟨hpk, by decide +kernel⟩ ⟨hln, by decide⟩ (Nat.le_of_ble_eq_true rfl) (Nat.le_of_ble_eq_true rfl) (Nat.le_of_ble_eq_true rfl) dX26_copy_6 hx_leave
set_option maxHeartbeats 4000000 in
theorem wr_ShortRow_init {l : Launch} {Gd : hk_G} {th k : Nat} {n : Int32} {s0 : hk_St} (h0 : ¬ n < 0) (hk : n.toNatClampNeg = k) (h6 : k ≤ 60) (hb : hk_k s0 th = some (24, 0)) (hne : th ≠ hk_nx s0) : hk_Met Gd l yX27_init cX27_init 2 none 3 90 [.ref th, .int n] s0 none (hk_sfR (hk_mk s0 (100 + 2) k k) 2400 th (some (hk_nx s0))) := by
  refine hk_start "HeadReckons$ShortRow" true (by decide +kernel) rfl (by decide) (Nat.le_of_ble_eq_true rfl) ?_
  show hk_V Gd (l, cX27_init, "HeadReckons$ShortRow", 2, none, 3, 90, true) (hk_end Gd s0 none _) 0 [(0, .ref th), (1, .int n)] [] s0
  refine hv_aload_n 0 dX27_init_0 rfl rfl ?_
  refine hv_callIN [] [] [] (wk_xRow_init (s0 := s0) rfl) cs_X27_1 rfl ⟨Nat.le_of_ble_eq_true rfl, Nat.le_of_ble_eq_true rfl⟩ rfl (Nat.le_of_ble_eq_true rfl) rfl dX27_init_1 ?_
  refine hv_aload_n 0 dX27_init_4 rfl rfl ?_
  refine hv_iload_n 1 dX27_init_5 rfl rfl ?_
  refine hv_newa (atype := .short) (ty := 2) (n' := k) (by decide) rfl q1432 h0 hk (by omega) dX27_init_6 ?_
  refine hv_putR (x := some (hk_nx s0)) fp_X27_7 (if_pos (bf_k (show hk_k (hk_mk s0 (100 + 2) k k) th = some (24, 0) from (if_neg hne).trans hb))) (fun _ => rfl) dX27_init_8 ?_
  exact hv_vret rfl dX27_init_11
set_option maxHeartbeats 4000000 in
theorem wt_ShortRow_init {l : Launch} {Gd : hk_G} {th : Nat} {n : Int32} {s0 : hk_St} (htr : l.stackTraces = false) (h0 : n < 0) : hx_MT Gd l yX27_init cX27_init 2 none 9 10300 [.ref th, .int n] s0 (hk_cs s0 3 54) "java/lang/NegativeArraySizeException" := by
  refine hx_startT htr "HeadReckons$ShortRow" true (by decide +kernel) rfl (by decide) (Nat.le_of_ble_eq_true rfl) ?_
  show hk_V Gd (l, cX27_init, "HeadReckons$ShortRow", 2, none, 9, 10300, true) (hx_endT Gd s0 (hk_cs s0 3 54) _) 0 [(0, .ref th), (1, .int n)] [] s0
  refine hv_aload_n 0 dX27_init_0 rfl rfl ?_
  refine hv_callIN [] [] [] (wk_xRow_init (s0 := s0) rfl) cs_X27_1 rfl ⟨Nat.le_of_ble_eq_true rfl, Nat.le_of_ble_eq_true rfl⟩ rfl (Nat.le_of_ble_eq_true rfl) rfl dX27_init_1 ?_
  refine hv_aload_n 0 dX27_init_4 rfl rfl ?_
  refine hv_iload_n 1 dX27_init_5 rfl rfl ?_
  exact hx_newaZ hx_efT h0 (Nat.le_of_ble_eq_true rfl) (Nat.le_of_ble_eq_true rfl) (Nat.le_of_ble_eq_true rfl) dX27_init_6 hx_leave
set_option maxHeartbeats 4000000 in
theorem wt_ShortRow_at {l : Launch} {Gd : hk_G} {th a k : Nat} {n : Int32} {s0 : hk_St} (htr : l.stackTraces = false) (hb : hk_k s0 th = some (24, 0)) (hf : hk_fR s0 2400 th = some a) (ha : hk_k s0 a = some (100 + 2, k)) (hk : k < 2 ^ 31) (ho : ¬ vp_in n k) : hx_MT Gd l yX27_at cX27_at 2 (some .long) 9 10300 [.ref th, .int n] s0 (hk_cs s0 3 222) "java/lang/ArrayIndexOutOfBoundsException" := by
  refine hx_startT htr "HeadReckons$ShortRow" false (by decide +kernel) rfl (fun h => Bool.noConfusion h) (Nat.le_of_ble_eq_true rfl) ?_
  show hk_V Gd (l, cX27_at, "HeadReckons$ShortRow", 2, (some .long), 9, 10300, false) (hx_endT Gd s0 (hk_cs s0 3 222) _) 0 [(0, .ref th), (1, .int n)] [] s0
  refine hv_aload_n 0 dX27_at_0 rfl rfl ?_
  refine hv_getR (x := some a) fl_X27_7 ((if_pos (bf_k hb)).trans (congrArg some hf)) dX27_at_1 ?_
  refine hv_iload_n 1 dX27_at_4 rfl rfl ?_
  exact hx_sald hx_efT ha hk ho (Nat.le_of_ble_eq_true rfl) (Nat.le_of_ble_eq_true rfl) (Nat.le_of_ble_eq_true rfl) dX27_at_5 hx_leave
set_option maxHeartbeats 4000000 in
theorem wt_ShortRow_put {l : Launch} {Gd : hk_G} {th a k : Nat} {n : Int32} {v : Int64} {s0 : hk_St} (htr : l.stackTraces = false) (hb : hk_k s0 th = some (24, 0)) (hf : hk_fR s0 2400 th = some a) (ha : hk_k s0 a = some (100 + 2, k)) (hk : k < 2 ^ 31) (ho : ¬ vp_in n k) : hx_MT Gd l yX27_put cX27_put 4 (some .boolean) 9 10300 [.ref th, .int n, .long v] s0 (hk_cs s0 3 222) "java/lang/ArrayIndexOutOfBoundsException" := by
  refine hx_startT htr "HeadReckons$ShortRow" false (by decide +kernel) rfl (fun h => Bool.noConfusion h) (Nat.le_of_ble_eq_true rfl) ?_
  show hk_V Gd (l, cX27_put, "HeadReckons$ShortRow", 4, (some .boolean), 9, 10300, false) (hx_endT Gd s0 (hk_cs s0 3 222) _) 0 [(0, .ref th), (1, .int n), (2, .long v)] [] s0
  refine hv_aload_n 0 dX27_put_0 rfl rfl ?_
  refine hv_getR (x := some a) fl_X27_7 ((if_pos (bf_k hb)).trans (congrArg some hf)) dX27_put_1 ?_
  refine hv_iload_n 1 dX27_put_4 rfl rfl ?_
  refine hv_lload_n 2 dX27_put_5 rfl rfl ?_
  refine hv_l2i dX27_put_6 ?_
  refine hv_i2s dX27_put_7 ?_
  exact hx_sast hx_efT ha hk ho (Nat.le_of_ble_eq_true rfl) (Nat.le_of_ble_eq_true rfl) (Nat.le_of_ble_eq_true rfl) dX27_put_8 hx_leave
set_option maxHeartbeats 4000000 in
theorem wr_ShortRow_copy {l : Launch} {Gd : hk_G} {th to a b k k2 : Nat} {i j n : Int32} {s0 : hk_St} (hb : hk_k s0 th = some (24, 0)) (hf : hk_fR s0 2400 th = some a) (hb2 : hk_k s0 to = some (24, 0)) (hf2 : hk_fR s0 2400 to = some b) (ha : hk_k s0 a = some (100 + 2, k)) (ha2 : hk_k s0 b = some (100 + 2, k2)) (h1 : ¬ i < 0) (h2 : ¬ j < 0) (h3 : ¬ n < 0) (h4 : i.toNatClampNeg + n.toNatClampNeg ≤ k) (h5 : j.toNatClampNeg + n.toNatClampNeg ≤ k2) (hfit : ∀ q, q < n.toNatClampNeg → fits (.short) (.int (hk_aI s0 a (i.toNatClampNeg + q))) = true) : hk_Met Gd l yX27_copy cX27_copy 5 none 9 10300 [.ref th, .int i, .ref to, .int j, .int n] s0 none (hk_cpI s0 a b i.toNatClampNeg j.toNatClampNeg n.toNatClampNeg) := by
  refine hk_start "HeadReckons$ShortRow" false (by decide +kernel) rfl (fun h => Bool.noConfusion h) (Nat.le_of_ble_eq_true rfl) ?_
  show hk_V Gd (l, cX27_copy, "HeadReckons$ShortRow", 5, none, 9, 10300, false) (hk_end Gd s0 none (hk_cpI s0 a b i.toNatClampNeg j.toNatClampNeg n.toNatClampNeg)) 0 [(0, .ref th), (1, .int i), (2, .ref to), (3, .int j), (4, .int n)] [] s0
  refine hv_aload_n 0 dX27_copy_0 rfl rfl ?_
  refine hv_getR (x := some a) fl_X27_7 ((if_pos (bf_k hb)).trans (congrArg some hf)) dX27_copy_1 ?_
  refine hv_iload_n 1 dX27_copy_4 rfl rfl ?_
  refine hv_aload_n 2 dX27_copy_5 rfl rfl ?_
  refine hv_cast (ci := 24) (r := (RX27, TX27, 1)) (bf_k hb2) (by decide) rfl q1539 (Or.inl rfl) dX27_copy_6 ?_
  refine hv_getR (x := some b) fl_X27_7 ((if_pos (bf_k hb2)).trans (congrArg some hf2)) dX27_copy_9 ?_
  refine hv_iload_n 3 dX27_copy_12 rfl rfl ?_
  refine hv_iload 4 dX27_copy_13 rfl ?_
  refine hv_cpI (ty := 2) (t := .short) [] (by decide) rfl ha ha2 h1 h2 h3 h4 h5 hfit rfl q1540 q1520 q1519 q137 (Nat.le_of_ble_eq_true rfl) (Nat.le_of_ble_eq_true rfl) (Nat.le_of_ble_eq_true rfl) rfl dX27_copy_15 ?_
  exact hv_vret rfl dX27_copy_18
set_option maxHeartbeats 4000000 in
theorem wt_ShortRow_copy {l : Launch} {Gd : hk_G} {th to a b k k2 : Nat} {i j n : Int32} {s0 : hk_St} (htr : l.stackTraces = false) (hb : hk_k s0 th = some (24, 0)) (hf : hk_fR s0 2400 th = some a) (hb2 : hk_k s0 to = some (24, 0)) (hf2 : hk_fR s0 2400 to = some b) (ha : hk_k s0 a = some (100 + 2, k)) (ha2 : hk_k s0 b = some (100 + 2, k2)) (hk : k < 2 ^ 31) (hk2 : k2 < 2 ^ 31) (hout : ¬ (¬ i < 0 ∧ ¬ j < 0 ∧ ¬ n < 0 ∧ ¬ i.toInt + n.toInt > k ∧ ¬ j.toInt + n.toInt > k2)) : hx_MT Gd l yX27_copy cX27_copy 5 none 9 10300 [.ref th, .int i, .ref to, .int j, .int n] s0 (hk_cs s0 3 510) "java/lang/ArrayIndexOutOfBoundsException" := by
  refine hx_startT htr "HeadReckons$ShortRow" false (by decide +kernel) rfl (fun h => Bool.noConfusion h) (Nat.le_of_ble_eq_true rfl) ?_
  show hk_V Gd (l, cX27_copy, "HeadReckons$ShortRow", 5, none, 9, 10300, false) (hx_endT Gd s0 (hk_cs s0 3 510) _) 0 [(0, .ref th), (1, .int i), (2, .ref to), (3, .int j), (4, .int n)] [] s0
  refine hv_aload_n 0 dX27_copy_0 rfl rfl ?_
  refine hv_getR (x := some a) fl_X27_7 ((if_pos (bf_k hb)).trans (congrArg some hf)) dX27_copy_1 ?_
  refine hv_iload_n 1 dX27_copy_4 rfl rfl ?_
  refine hv_aload_n 2 dX27_copy_5 rfl rfl ?_
  refine hv_cast (ci := 24) (r := (RX27, TX27, 1)) (bf_k hb2) (by decide) rfl q1539 (Or.inl rfl) dX27_copy_6 ?_
  refine hv_getR (x := some b) fl_X27_7 ((if_pos (bf_k hb2)).trans (congrArg some hf2)) dX27_copy_9 ?_
  refine hv_iload_n 3 dX27_copy_12 rfl rfl ?_
  refine hv_iload 4 dX27_copy_13 rfl ?_
  exact hx_copyZ (ty := 2) (t := .short) [] hx_efT (by decide) rfl rfl ha ha2 hk hk2 hout q1540 q1520 q1519 q137 (Nat.le_of_ble_eq_true rfl) (Nat.le_of_ble_eq_true rfl) (Nat.le_of_ble_eq_true rfl) rfl dX27_copy_15 hx_leave
set_option maxHeartbeats 4000000 in
theorem wc_ShortRow_copy {l : Launch} {Gd : hk_G} {th to a ci : Nat} {i j n : Int32} {s0 : hk_St} {r : vw_C} (htr : l.stackTraces = false) (hb : hk_k s0 th = some (24, 0)) (hf : hk_fR s0 2400 th = some a) (hb2 : hk_k s0 to = some (ci, 0)) (h100 : ci < 100) (hc : hk_cl[ci]? = some r) (hnc : (r.1, "HeadReckons$ShortRow") ∈ hx_ncs) (hpk : packageOf r.1 = "") (hln : r.1.toList.length ≤ 24) : hx_MT Gd l yX27_copy cX27_copy 5 none 9 10300 [.ref th, .int i, .ref to, .int j, .int n] s0 (hk_cs s0 3 1010) "java/lang/ClassCastException" := by
  refine hx_startT htr "HeadReckons$ShortRow" false (by decide +kernel) rfl (fun h => Bool.noConfusion h) (Nat.le_of_ble_eq_true rfl) ?_
  show hk_V Gd (l, cX27_copy, "HeadReckons$ShortRow", 5, none, 9, 10300, false) (hx_endT Gd s0 (hk_cs s0 3 1010) _) 0 [(0, .ref th), (1, .int i), (2, .ref to), (3, .int j), (4, .int n)] [] s0
  refine hv_aload_n 0 dX27_copy_0 rfl rfl ?_
  refine hv_getR (x := some a) fl_X27_7 ((if_pos (bf_k hb)).trans (congrArg some hf)) dX27_copy_1 ?_
  refine hv_iload_n 1 dX27_copy_4 rfl rfl ?_
  refine hv_aload_n 2 dX27_copy_5 rfl rfl ?_
  exact hx_cast hx_efT hb2 h100 hc q1539 hnc ⟨hpk, by decide +kernel⟩ ⟨hln, by decide⟩ (Nat.le_of_ble_eq_true rfl) (Nat.le_of_ble_eq_true rfl) (Nat.le_of_ble_eq_true rfl) dX27_copy_6 hx_leave
set_option maxHeartbeats 4000000 in
theorem wr_IntRow_init {l : Launch} {Gd : hk_G} {th k : Nat} {n : Int32} {s0 : hk_St} (h0 : ¬ n < 0) (hk : n.toNatClampNeg = k) (h6 : k ≤ 60) (hb : hk_k s0 th = some (25, 0)) (hne : th ≠ hk_nx s0) : hk_Met Gd l yX28_init cX28_init 2 none 3 90 [.ref th, .int n] s0 none (hk_sfR (hk_mk s0 (100 + 0) k k) 2500 th (some (hk_nx s0))) := by
  refine hk_start "HeadReckons$IntRow" true (by decide +kernel) rfl (by decide) (Nat.le_of_ble_eq_true rfl) ?_
  show hk_V Gd (l, cX28_init, "HeadReckons$IntRow", 2, none, 3, 90, true) (hk_end Gd s0 none _) 0 [(0, .ref th), (1, .int n)] [] s0
  refine hv_aload_n 0 dX28_init_0 rfl rfl ?_
  refine hv_callIN [] [] [] (wk_xRow_init (s0 := s0) rfl) cs_X28_1 rfl ⟨Nat.le_of_ble_eq_true rfl, Nat.le_of_ble_eq_true rfl⟩ rfl (Nat.le_of_ble_eq_true rfl) rfl dX28_init_1 ?_
  refine hv_aload_n 0 dX28_init_4 rfl rfl ?_
  refine hv_iload_n 1 dX28_init_5 rfl rfl ?_
  refine hv_newa (atype := .int) (ty := 0) (n' := k) (by decide) rfl q163 h0 hk (by omega) dX28_init_6 ?_
  refine hv_putR (x := some (hk_nx s0)) fp_X28_7 (if_pos (bf_k (show hk_k (hk_mk s0 (100 + 0) k k) th = some (25, 0) from (if_neg hne).trans hb))) (fun _ => rfl) dX28_init_8 ?_
  exact hv_vret rfl dX28_init_11
set_option maxHeartbeats 4000000 in
theorem wt_IntRow_init {l : Launch} {Gd : hk_G} {th : Nat} {n : Int32} {s0 : hk_St} (htr : l.stackTraces = false) (h0 : n < 0) : hx_MT Gd l yX28_init cX28_init 2 none 9 10300 [.ref th, .int n] s0 (hk_cs s0 3 54) "java/lang/NegativeArraySizeException" := by
  refine hx_startT htr "HeadReckons$IntRow" true (by decide +kernel) rfl (by decide) (Nat.le_of_ble_eq_true rfl) ?_
  show hk_V Gd (l, cX28_init, "HeadReckons$IntRow", 2, none, 9, 10300, true) (hx_endT Gd s0 (hk_cs s0 3 54) _) 0 [(0, .ref th), (1, .int n)] [] s0
  refine hv_aload_n 0 dX28_init_0 rfl rfl ?_
  refine hv_callIN [] [] [] (wk_xRow_init (s0 := s0) rfl) cs_X28_1 rfl ⟨Nat.le_of_ble_eq_true rfl, Nat.le_of_ble_eq_true rfl⟩ rfl (Nat.le_of_ble_eq_true rfl) rfl dX28_init_1 ?_
  refine hv_aload_n 0 dX28_init_4 rfl rfl ?_
  refine hv_iload_n 1 dX28_init_5 rfl rfl ?_
  exact hx_newaZ hx_efT h0 (Nat.le_of_ble_eq_true rfl) (Nat.le_of_ble_eq_true rfl) (Nat.le_of_ble_eq_true rfl) dX28_init_6 hx_leave
set_option maxHeartbeats 4000000 in
theorem wt_IntRow_at {l : Launch} {Gd : hk_G} {th a k : Nat} {n : Int32} {s0 : hk_St} (htr : l.stackTraces = false) (hb : hk_k s0 th = some (25, 0)) (hf : hk_fR s0 2500 th = some a) (ha : hk_k s0 a = some (100 + 0, k)) (hk : k < 2 ^ 31) (ho : ¬ vp_in n k) : hx_MT Gd l yX28_at cX28_at 2 (some .long) 9 10300 [.ref th, .int n] s0 (hk_cs s0 3 222) "java/lang/ArrayIndexOutOfBoundsException" := by
  refine hx_startT htr "HeadReckons$IntRow" false (by decide +kernel) rfl (fun h => Bool.noConfusion h) (Nat.le_of_ble_eq_true rfl) ?_
  show hk_V Gd (l, cX28_at, "HeadReckons$IntRow", 2, (some .long), 9, 10300, false) (hx_endT Gd s0 (hk_cs s0 3 222) _) 0 [(0, .ref th), (1, .int n)] [] s0
  refine hv_aload_n 0 dX28_at_0 rfl rfl ?_
  refine hv_getR (x := some a) fl_X28_7 ((if_pos (bf_k hb)).trans (congrArg some hf)) dX28_at_1 ?_
  refine hv_iload_n 1 dX28_at_4 rfl rfl ?_
  exact hx_iald hx_efT ha hk ho (Nat.le_of_ble_eq_true rfl) (Nat.le_of_ble_eq_true rfl) (Nat.le_of_ble_eq_true rfl) dX28_at_5 hx_leave
set_option maxHeartbeats 4000000 in
theorem wt_IntRow_put {l : Launch} {Gd : hk_G} {th a k : Nat} {n : Int32} {v : Int64} {s0 : hk_St} (htr : l.stackTraces = false) (hb : hk_k s0 th = some (25, 0)) (hf : hk_fR s0 2500 th = some a) (ha : hk_k s0 a = some (100 + 0, k)) (hk : k < 2 ^ 31) (ho : ¬ vp_in n k) : hx_MT Gd l yX28_put cX28_put 4 (some .boolean) 9 10300 [.ref th, .int n, .long v] s0 (hk_cs s0 3 222) "java/lang/ArrayIndexOutOfBoundsException" := by
  refine hx_startT htr "HeadReckons$IntRow" false (by decide +kernel) rfl (fun h => Bool.noConfusion h) (Nat.le_of_ble_eq_true rfl) ?_
  show hk_V Gd (l, cX28_put, "HeadReckons$IntRow", 4, (some .boolean), 9, 10300, false) (hx_endT Gd s0 (hk_cs s0 3 222) _) 0 [(0, .ref th), (1, .int n), (2, .long v)] [] s0
  refine hv_aload_n 0 dX28_put_0 rfl rfl ?_
  refine hv_getR (x := some a) fl_X28_7 ((if_pos (bf_k hb)).trans (congrArg some hf)) dX28_put_1 ?_
  refine hv_iload_n 1 dX28_put_4 rfl rfl ?_
  refine hv_lload_n 2 dX28_put_5 rfl rfl ?_
  refine hv_l2i dX28_put_6 ?_
  exact hx_iast hx_efT ha hk ho (Nat.le_of_ble_eq_true rfl) (Nat.le_of_ble_eq_true rfl) (Nat.le_of_ble_eq_true rfl) dX28_put_7 hx_leave
set_option maxHeartbeats 4000000 in
theorem wr_IntRow_copy {l : Launch} {Gd : hk_G} {th to a b k k2 : Nat} {i j n : Int32} {s0 : hk_St} (hb : hk_k s0 th = some (25, 0)) (hf : hk_fR s0 2500 th = some a) (hb2 : hk_k s0 to = some (25, 0)) (hf2 : hk_fR s0 2500 to = some b) (ha : hk_k s0 a = some (100 + 0, k)) (ha2 : hk_k s0 b = some (100 + 0, k2)) (h1 : ¬ i < 0) (h2 : ¬ j < 0) (h3 : ¬ n < 0) (h4 : i.toNatClampNeg + n.toNatClampNeg ≤ k) (h5 : j.toNatClampNeg + n.toNatClampNeg ≤ k2) (hfit : ∀ q, q < n.toNatClampNeg → fits (.int) (.int (hk_aI s0 a (i.toNatClampNeg + q))) = true) : hk_Met Gd l yX28_copy cX28_copy 5 none 9 10300 [.ref th, .int i, .ref to, .int j, .int n] s0 none (hk_cpI s0 a b i.toNatClampNeg j.toNatClampNeg n.toNatClampNeg) := by
  refine hk_start "HeadReckons$IntRow" false (by decide +kernel) rfl (fun h => Bool.noConfusion h) (Nat.le_of_ble_eq_true rfl) ?_
  show hk_V Gd (l, cX28_copy, "HeadReckons$IntRow", 5, none, 9, 10300, false) (hk_end Gd s0 none (hk_cpI s0 a b i.toNatClampNeg j.toNatClampNeg n.toNatClampNeg)) 0 [(0, .ref th), (1, .int i), (2, .ref to), (3, .int j), (4, .int n)] [] s0
  refine hv_aload_n 0 dX28_copy_0 rfl rfl ?_
  refine hv_getR (x := some a) fl_X28_7 ((if_pos (bf_k hb)).trans (congrArg some hf)) dX28_copy_1 ?_
  refine hv_iload_n 1 dX28_copy_4 rfl rfl ?_
  refine hv_aload_n 2 dX28_copy_5 rfl rfl ?_
  refine hv_cast (ci := 25) (r := (RX28, TX28, 1)) (bf_k hb2) (by decide) rfl q1529 (Or.inl rfl) dX28_copy_6 ?_
  refine hv_getR (x := some b) fl_X28_7 ((if_pos (bf_k hb2)).trans (congrArg some hf2)) dX28_copy_9 ?_
  refine hv_iload_n 3 dX28_copy_12 rfl rfl ?_
  refine hv_iload 4 dX28_copy_13 rfl ?_
  refine hv_cpI (ty := 0) (t := .int) [] (by decide) rfl ha ha2 h1 h2 h3 h4 h5 hfit rfl q1530 q1520 q1519 q137 (Nat.le_of_ble_eq_true rfl) (Nat.le_of_ble_eq_true rfl) (Nat.le_of_ble_eq_true rfl) rfl dX28_copy_15 ?_
  exact hv_vret rfl dX28_copy_18
set_option maxHeartbeats 4000000 in
theorem wt_IntRow_copy {l : Launch} {Gd : hk_G} {th to a b k k2 : Nat} {i j n : Int32} {s0 : hk_St} (htr : l.stackTraces = false) (hb : hk_k s0 th = some (25, 0)) (hf : hk_fR s0 2500 th = some a) (hb2 : hk_k s0 to = some (25, 0)) (hf2 : hk_fR s0 2500 to = some b) (ha : hk_k s0 a = some (100 + 0, k)) (ha2 : hk_k s0 b = some (100 + 0, k2)) (hk : k < 2 ^ 31) (hk2 : k2 < 2 ^ 31) (hout : ¬ (¬ i < 0 ∧ ¬ j < 0 ∧ ¬ n < 0 ∧ ¬ i.toInt + n.toInt > k ∧ ¬ j.toInt + n.toInt > k2)) : hx_MT Gd l yX28_copy cX28_copy 5 none 9 10300 [.ref th, .int i, .ref to, .int j, .int n] s0 (hk_cs s0 3 510) "java/lang/ArrayIndexOutOfBoundsException" := by
  refine hx_startT htr "HeadReckons$IntRow" false (by decide +kernel) rfl (fun h => Bool.noConfusion h) (Nat.le_of_ble_eq_true rfl) ?_
  show hk_V Gd (l, cX28_copy, "HeadReckons$IntRow", 5, none, 9, 10300, false) (hx_endT Gd s0 (hk_cs s0 3 510) _) 0 [(0, .ref th), (1, .int i), (2, .ref to), (3, .int j), (4, .int n)] [] s0
  refine hv_aload_n 0 dX28_copy_0 rfl rfl ?_
  refine hv_getR (x := some a) fl_X28_7 ((if_pos (bf_k hb)).trans (congrArg some hf)) dX28_copy_1 ?_
  refine hv_iload_n 1 dX28_copy_4 rfl rfl ?_
  refine hv_aload_n 2 dX28_copy_5 rfl rfl ?_
  refine hv_cast (ci := 25) (r := (RX28, TX28, 1)) (bf_k hb2) (by decide) rfl q1529 (Or.inl rfl) dX28_copy_6 ?_
  refine hv_getR (x := some b) fl_X28_7 ((if_pos (bf_k hb2)).trans (congrArg some hf2)) dX28_copy_9 ?_
  refine hv_iload_n 3 dX28_copy_12 rfl rfl ?_
  refine hv_iload 4 dX28_copy_13 rfl ?_
  exact hx_copyZ (ty := 0) (t := .int) [] hx_efT (by decide) rfl rfl ha ha2 hk hk2 hout q1530 q1520 q1519 q137 (Nat.le_of_ble_eq_true rfl) (Nat.le_of_ble_eq_true rfl) (Nat.le_of_ble_eq_true rfl) rfl dX28_copy_15 hx_leave
set_option maxHeartbeats 4000000 in
theorem wc_IntRow_copy {l : Launch} {Gd : hk_G} {th to a ci : Nat} {i j n : Int32} {s0 : hk_St} {r : vw_C} (htr : l.stackTraces = false) (hb : hk_k s0 th = some (25, 0)) (hf : hk_fR s0 2500 th = some a) (hb2 : hk_k s0 to = some (ci, 0)) (h100 : ci < 100) (hc : hk_cl[ci]? = some r) (hnc : (r.1, "HeadReckons$IntRow") ∈ hx_ncs) (hpk : packageOf r.1 = "") (hln : r.1.toList.length ≤ 24) : hx_MT Gd l yX28_copy cX28_copy 5 none 9 10300 [.ref th, .int i, .ref to, .int j, .int n] s0 (hk_cs s0 3 1010) "java/lang/ClassCastException" := by
  refine hx_startT htr "HeadReckons$IntRow" false (by decide +kernel) rfl (fun h => Bool.noConfusion h) (Nat.le_of_ble_eq_true rfl) ?_
  show hk_V Gd (l, cX28_copy, "HeadReckons$IntRow", 5, none, 9, 10300, false) (hx_endT Gd s0 (hk_cs s0 3 1010) _) 0 [(0, .ref th), (1, .int i), (2, .ref to), (3, .int j), (4, .int n)] [] s0
  refine hv_aload_n 0 dX28_copy_0 rfl rfl ?_
  refine hv_getR (x := some a) fl_X28_7 ((if_pos (bf_k hb)).trans (congrArg some hf)) dX28_copy_1 ?_
  refine hv_iload_n 1 dX28_copy_4 rfl rfl ?_
  refine hv_aload_n 2 dX28_copy_5 rfl rfl ?_
  exact hx_cast hx_efT hb2 h100 hc q1529 hnc ⟨hpk, by decide +kernel⟩ ⟨hln, by decide⟩ (Nat.le_of_ble_eq_true rfl) (Nat.le_of_ble_eq_true rfl) (Nat.le_of_ble_eq_true rfl) dX28_copy_6 hx_leave
set_option maxHeartbeats 4000000 in
theorem wr_LongRow_init {l : Launch} {Gd : hk_G} {th k : Nat} {n : Int32} {s0 : hk_St} (h0 : ¬ n < 0) (hk : n.toNatClampNeg = k) (h6 : k ≤ 60) (hb : hk_k s0 th = some (26, 0)) (hne : th ≠ hk_nx s0) : hk_Met Gd l yX29_init cX29_init 2 none 3 90 [.ref th, .int n] s0 none (hk_sfR (hk_mk s0 (100 + 4) k k) 2600 th (some (hk_nx s0))) := by
  refine hk_start "HeadReckons$LongRow" true (by decide +kernel) rfl (by decide) (Nat.le_of_ble_eq_true rfl) ?_
  show hk_V Gd (l, cX29_init, "HeadReckons$LongRow", 2, none, 3, 90, true) (hk_end Gd s0 none _) 0 [(0, .ref th), (1, .int n)] [] s0
  refine hv_aload_n 0 dX29_init_0 rfl rfl ?_
  refine hv_callIN [] [] [] (wk_xRow_init (s0 := s0) rfl) cs_X29_1 rfl ⟨Nat.le_of_ble_eq_true rfl, Nat.le_of_ble_eq_true rfl⟩ rfl (Nat.le_of_ble_eq_true rfl) rfl dX29_init_1 ?_
  refine hv_aload_n 0 dX29_init_4 rfl rfl ?_
  refine hv_iload_n 1 dX29_init_5 rfl rfl ?_
  refine hv_newa (atype := .long) (ty := 4) (n' := k) (by decide) rfl q226 h0 hk (by omega) dX29_init_6 ?_
  refine hv_putR (x := some (hk_nx s0)) fp_X29_7 (if_pos (bf_k (show hk_k (hk_mk s0 (100 + 4) k k) th = some (26, 0) from (if_neg hne).trans hb))) (fun _ => rfl) dX29_init_8 ?_
  exact hv_vret rfl dX29_init_11
set_option maxHeartbeats 4000000 in
theorem wt_LongRow_init {l : Launch} {Gd : hk_G} {th : Nat} {n : Int32} {s0 : hk_St} (htr : l.stackTraces = false) (h0 : n < 0) : hx_MT Gd l yX29_init cX29_init 2 none 9 10300 [.ref th, .int n] s0 (hk_cs s0 3 54) "java/lang/NegativeArraySizeException" := by
  refine hx_startT htr "HeadReckons$LongRow" true (by decide +kernel) rfl (by decide) (Nat.le_of_ble_eq_true rfl) ?_
  show hk_V Gd (l, cX29_init, "HeadReckons$LongRow", 2, none, 9, 10300, true) (hx_endT Gd s0 (hk_cs s0 3 54) _) 0 [(0, .ref th), (1, .int n)] [] s0
  refine hv_aload_n 0 dX29_init_0 rfl rfl ?_
  refine hv_callIN [] [] [] (wk_xRow_init (s0 := s0) rfl) cs_X29_1 rfl ⟨Nat.le_of_ble_eq_true rfl, Nat.le_of_ble_eq_true rfl⟩ rfl (Nat.le_of_ble_eq_true rfl) rfl dX29_init_1 ?_
  refine hv_aload_n 0 dX29_init_4 rfl rfl ?_
  refine hv_iload_n 1 dX29_init_5 rfl rfl ?_
  exact hx_newaZ hx_efT h0 (Nat.le_of_ble_eq_true rfl) (Nat.le_of_ble_eq_true rfl) (Nat.le_of_ble_eq_true rfl) dX29_init_6 hx_leave
set_option maxHeartbeats 4000000 in
theorem wt_LongRow_at {l : Launch} {Gd : hk_G} {th a k : Nat} {n : Int32} {s0 : hk_St} (htr : l.stackTraces = false) (hb : hk_k s0 th = some (26, 0)) (hf : hk_fR s0 2600 th = some a) (ha : hk_k s0 a = some (100 + 4, k)) (hk : k < 2 ^ 31) (ho : ¬ vp_in n k) : hx_MT Gd l yX29_at cX29_at 2 (some .long) 9 10300 [.ref th, .int n] s0 (hk_cs s0 3 222) "java/lang/ArrayIndexOutOfBoundsException" := by
  refine hx_startT htr "HeadReckons$LongRow" false (by decide +kernel) rfl (fun h => Bool.noConfusion h) (Nat.le_of_ble_eq_true rfl) ?_
  show hk_V Gd (l, cX29_at, "HeadReckons$LongRow", 2, (some .long), 9, 10300, false) (hx_endT Gd s0 (hk_cs s0 3 222) _) 0 [(0, .ref th), (1, .int n)] [] s0
  refine hv_aload_n 0 dX29_at_0 rfl rfl ?_
  refine hv_getR (x := some a) fl_X29_7 ((if_pos (bf_k hb)).trans (congrArg some hf)) dX29_at_1 ?_
  refine hv_iload_n 1 dX29_at_4 rfl rfl ?_
  exact hx_lald hx_efT ha hk ho (Nat.le_of_ble_eq_true rfl) (Nat.le_of_ble_eq_true rfl) (Nat.le_of_ble_eq_true rfl) dX29_at_5 hx_leave
set_option maxHeartbeats 4000000 in
theorem wt_LongRow_put {l : Launch} {Gd : hk_G} {th a k : Nat} {n : Int32} {v : Int64} {s0 : hk_St} (htr : l.stackTraces = false) (hb : hk_k s0 th = some (26, 0)) (hf : hk_fR s0 2600 th = some a) (ha : hk_k s0 a = some (100 + 4, k)) (hk : k < 2 ^ 31) (ho : ¬ vp_in n k) : hx_MT Gd l yX29_put cX29_put 4 (some .boolean) 9 10300 [.ref th, .int n, .long v] s0 (hk_cs s0 3 222) "java/lang/ArrayIndexOutOfBoundsException" := by
  refine hx_startT htr "HeadReckons$LongRow" false (by decide +kernel) rfl (fun h => Bool.noConfusion h) (Nat.le_of_ble_eq_true rfl) ?_
  show hk_V Gd (l, cX29_put, "HeadReckons$LongRow", 4, (some .boolean), 9, 10300, false) (hx_endT Gd s0 (hk_cs s0 3 222) _) 0 [(0, .ref th), (1, .int n), (2, .long v)] [] s0
  refine hv_aload_n 0 dX29_put_0 rfl rfl ?_
  refine hv_getR (x := some a) fl_X29_7 ((if_pos (bf_k hb)).trans (congrArg some hf)) dX29_put_1 ?_
  refine hv_iload_n 1 dX29_put_4 rfl rfl ?_
  refine hv_lload_n 2 dX29_put_5 rfl rfl ?_
  exact hx_last hx_efT ha hk ho (Nat.le_of_ble_eq_true rfl) (Nat.le_of_ble_eq_true rfl) (Nat.le_of_ble_eq_true rfl) dX29_put_6 hx_leave
set_option maxHeartbeats 4000000 in
theorem wr_LongRow_copy {l : Launch} {Gd : hk_G} {th to a b k k2 : Nat} {i j n : Int32} {s0 : hk_St} (hb : hk_k s0 th = some (26, 0)) (hf : hk_fR s0 2600 th = some a) (hb2 : hk_k s0 to = some (26, 0)) (hf2 : hk_fR s0 2600 to = some b) (ha : hk_k s0 a = some (100 + 4, k)) (ha2 : hk_k s0 b = some (100 + 4, k2)) (h1 : ¬ i < 0) (h2 : ¬ j < 0) (h3 : ¬ n < 0) (h4 : i.toNatClampNeg + n.toNatClampNeg ≤ k) (h5 : j.toNatClampNeg + n.toNatClampNeg ≤ k2)  : hk_Met Gd l yX29_copy cX29_copy 5 none 9 10300 [.ref th, .int i, .ref to, .int j, .int n] s0 none (hk_cpL s0 a b i.toNatClampNeg j.toNatClampNeg n.toNatClampNeg) := by
  refine hk_start "HeadReckons$LongRow" false (by decide +kernel) rfl (fun h => Bool.noConfusion h) (Nat.le_of_ble_eq_true rfl) ?_
  show hk_V Gd (l, cX29_copy, "HeadReckons$LongRow", 5, none, 9, 10300, false) (hk_end Gd s0 none (hk_cpL s0 a b i.toNatClampNeg j.toNatClampNeg n.toNatClampNeg)) 0 [(0, .ref th), (1, .int i), (2, .ref to), (3, .int j), (4, .int n)] [] s0
  refine hv_aload_n 0 dX29_copy_0 rfl rfl ?_
  refine hv_getR (x := some a) fl_X29_7 ((if_pos (bf_k hb)).trans (congrArg some hf)) dX29_copy_1 ?_
  refine hv_iload_n 1 dX29_copy_4 rfl rfl ?_
  refine hv_aload_n 2 dX29_copy_5 rfl rfl ?_
  refine hv_cast (ci := 26) (r := (RX29, TX29, 1)) (bf_k hb2) (by decide) rfl q1534 (Or.inl rfl) dX29_copy_6 ?_
  refine hv_getR (x := some b) fl_X29_7 ((if_pos (bf_k hb2)).trans (congrArg some hf2)) dX29_copy_9 ?_
  refine hv_iload_n 3 dX29_copy_12 rfl rfl ?_
  refine hv_iload 4 dX29_copy_13 rfl ?_
  refine hv_cpL [] ha ha2 h1 h2 h3 h4 h5 q1535 q1520 q1519 q137 (Nat.le_of_ble_eq_true rfl) (Nat.le_of_ble_eq_true rfl) (Nat.le_of_ble_eq_true rfl) rfl dX29_copy_15 ?_
  exact hv_vret rfl dX29_copy_18
set_option maxHeartbeats 4000000 in
theorem wt_LongRow_copy {l : Launch} {Gd : hk_G} {th to a b k k2 : Nat} {i j n : Int32} {s0 : hk_St} (htr : l.stackTraces = false) (hb : hk_k s0 th = some (26, 0)) (hf : hk_fR s0 2600 th = some a) (hb2 : hk_k s0 to = some (26, 0)) (hf2 : hk_fR s0 2600 to = some b) (ha : hk_k s0 a = some (100 + 4, k)) (ha2 : hk_k s0 b = some (100 + 4, k2)) (hk : k < 2 ^ 31) (hk2 : k2 < 2 ^ 31) (hout : ¬ (¬ i < 0 ∧ ¬ j < 0 ∧ ¬ n < 0 ∧ ¬ i.toInt + n.toInt > k ∧ ¬ j.toInt + n.toInt > k2)) : hx_MT Gd l yX29_copy cX29_copy 5 none 9 10300 [.ref th, .int i, .ref to, .int j, .int n] s0 (hk_cs s0 3 510) "java/lang/ArrayIndexOutOfBoundsException" := by
  refine hx_startT htr "HeadReckons$LongRow" false (by decide +kernel) rfl (fun h => Bool.noConfusion h) (Nat.le_of_ble_eq_true rfl) ?_
  show hk_V Gd (l, cX29_copy, "HeadReckons$LongRow", 5, none, 9, 10300, false) (hx_endT Gd s0 (hk_cs s0 3 510) _) 0 [(0, .ref th), (1, .int i), (2, .ref to), (3, .int j), (4, .int n)] [] s0
  refine hv_aload_n 0 dX29_copy_0 rfl rfl ?_
  refine hv_getR (x := some a) fl_X29_7 ((if_pos (bf_k hb)).trans (congrArg some hf)) dX29_copy_1 ?_
  refine hv_iload_n 1 dX29_copy_4 rfl rfl ?_
  refine hv_aload_n 2 dX29_copy_5 rfl rfl ?_
  refine hv_cast (ci := 26) (r := (RX29, TX29, 1)) (bf_k hb2) (by decide) rfl q1534 (Or.inl rfl) dX29_copy_6 ?_
  refine hv_getR (x := some b) fl_X29_7 ((if_pos (bf_k hb2)).trans (congrArg some hf2)) dX29_copy_9 ?_
  refine hv_iload_n 3 dX29_copy_12 rfl rfl ?_
  refine hv_iload 4 dX29_copy_13 rfl ?_
  exact hx_copyZ (ty := 4) (t := .long) [] hx_efT (by decide) rfl rfl ha ha2 hk hk2 hout q1535 q1520 q1519 q137 (Nat.le_of_ble_eq_true rfl) (Nat.le_of_ble_eq_true rfl) (Nat.le_of_ble_eq_true rfl) rfl dX29_copy_15 hx_leave
set_option maxHeartbeats 4000000 in
theorem wc_LongRow_copy {l : Launch} {Gd : hk_G} {th to a ci : Nat} {i j n : Int32} {s0 : hk_St} {r : vw_C} (htr : l.stackTraces = false) (hb : hk_k s0 th = some (26, 0)) (hf : hk_fR s0 2600 th = some a) (hb2 : hk_k s0 to = some (ci, 0)) (h100 : ci < 100) (hc : hk_cl[ci]? = some r) (hnc : (r.1, "HeadReckons$LongRow") ∈ hx_ncs) (hpk : packageOf r.1 = "") (hln : r.1.toList.length ≤ 24) : hx_MT Gd l yX29_copy cX29_copy 5 none 9 10300 [.ref th, .int i, .ref to, .int j, .int n] s0 (hk_cs s0 3 1010) "java/lang/ClassCastException" := by
  refine hx_startT htr "HeadReckons$LongRow" false (by decide +kernel) rfl (fun h => Bool.noConfusion h) (Nat.le_of_ble_eq_true rfl) ?_
  show hk_V Gd (l, cX29_copy, "HeadReckons$LongRow", 5, none, 9, 10300, false) (hx_endT Gd s0 (hk_cs s0 3 1010) _) 0 [(0, .ref th), (1, .int i), (2, .ref to), (3, .int j), (4, .int n)] [] s0
  refine hv_aload_n 0 dX29_copy_0 rfl rfl ?_
  refine hv_getR (x := some a) fl_X29_7 ((if_pos (bf_k hb)).trans (congrArg some hf)) dX29_copy_1 ?_
  refine hv_iload_n 1 dX29_copy_4 rfl rfl ?_
  refine hv_aload_n 2 dX29_copy_5 rfl rfl ?_
  exact hx_cast hx_efT hb2 h100 hc q1534 hnc ⟨hpk, by decide +kernel⟩ ⟨hln, by decide⟩ (Nat.le_of_ble_eq_true rfl) (Nat.le_of_ble_eq_true rfl) (Nat.le_of_ble_eq_true rfl) dX29_copy_6 hx_leave
set_option maxHeartbeats 4000000 in
theorem wr_BooleanRow_init {l : Launch} {Gd : hk_G} {th k : Nat} {n : Int32} {s0 : hk_St} (h0 : ¬ n < 0) (hk : n.toNatClampNeg = k) (h6 : k ≤ 60) (hb : hk_k s0 th = some (27, 0)) (hne : th ≠ hk_nx s0) : hk_Met Gd l yX30_init cX30_init 2 none 3 90 [.ref th, .int n] s0 none (hk_sfR (hk_mk s0 (100 + 3) k k) 2700 th (some (hk_nx s0))) := by
  refine hk_start "HeadReckons$BooleanRow" true (by decide +kernel) rfl (by decide) (Nat.le_of_ble_eq_true rfl) ?_
  show hk_V Gd (l, cX30_init, "HeadReckons$BooleanRow", 2, none, 3, 90, true) (hk_end Gd s0 none _) 0 [(0, .ref th), (1, .int n)] [] s0
  refine hv_aload_n 0 dX30_init_0 rfl rfl ?_
  refine hv_callIN [] [] [] (wk_xRow_init (s0 := s0) rfl) cs_X30_1 rfl ⟨Nat.le_of_ble_eq_true rfl, Nat.le_of_ble_eq_true rfl⟩ rfl (Nat.le_of_ble_eq_true rfl) rfl dX30_init_1 ?_
  refine hv_aload_n 0 dX30_init_4 rfl rfl ?_
  refine hv_iload_n 1 dX30_init_5 rfl rfl ?_
  refine hv_newa (atype := .boolean) (ty := 3) (n' := k) (by decide) rfl q1462 h0 hk (by omega) dX30_init_6 ?_
  refine hv_putR (x := some (hk_nx s0)) fp_X30_7 (if_pos (bf_k (show hk_k (hk_mk s0 (100 + 3) k k) th = some (27, 0) from (if_neg hne).trans hb))) (fun _ => rfl) dX30_init_8 ?_
  exact hv_vret rfl dX30_init_11
set_option maxHeartbeats 4000000 in
theorem wt_BooleanRow_init {l : Launch} {Gd : hk_G} {th : Nat} {n : Int32} {s0 : hk_St} (htr : l.stackTraces = false) (h0 : n < 0) : hx_MT Gd l yX30_init cX30_init 2 none 9 10300 [.ref th, .int n] s0 (hk_cs s0 3 54) "java/lang/NegativeArraySizeException" := by
  refine hx_startT htr "HeadReckons$BooleanRow" true (by decide +kernel) rfl (by decide) (Nat.le_of_ble_eq_true rfl) ?_
  show hk_V Gd (l, cX30_init, "HeadReckons$BooleanRow", 2, none, 9, 10300, true) (hx_endT Gd s0 (hk_cs s0 3 54) _) 0 [(0, .ref th), (1, .int n)] [] s0
  refine hv_aload_n 0 dX30_init_0 rfl rfl ?_
  refine hv_callIN [] [] [] (wk_xRow_init (s0 := s0) rfl) cs_X30_1 rfl ⟨Nat.le_of_ble_eq_true rfl, Nat.le_of_ble_eq_true rfl⟩ rfl (Nat.le_of_ble_eq_true rfl) rfl dX30_init_1 ?_
  refine hv_aload_n 0 dX30_init_4 rfl rfl ?_
  refine hv_iload_n 1 dX30_init_5 rfl rfl ?_
  exact hx_newaZ hx_efT h0 (Nat.le_of_ble_eq_true rfl) (Nat.le_of_ble_eq_true rfl) (Nat.le_of_ble_eq_true rfl) dX30_init_6 hx_leave
set_option maxHeartbeats 4000000 in
theorem wt_BooleanRow_at {l : Launch} {Gd : hk_G} {th a k : Nat} {n : Int32} {s0 : hk_St} (htr : l.stackTraces = false) (hb : hk_k s0 th = some (27, 0)) (hf : hk_fR s0 2700 th = some a) (ha : hk_k s0 a = some (100 + 3, k)) (hk : k < 2 ^ 31) (ho : ¬ vp_in n k) : hx_MT Gd l yX30_at cX30_at 2 (some .long) 9 10300 [.ref th, .int n] s0 (hk_cs s0 3 222) "java/lang/ArrayIndexOutOfBoundsException" := by
  refine hx_startT htr "HeadReckons$BooleanRow" false (by decide +kernel) rfl (fun h => Bool.noConfusion h) (Nat.le_of_ble_eq_true rfl) ?_
  show hk_V Gd (l, cX30_at, "HeadReckons$BooleanRow", 2, (some .long), 9, 10300, false) (hx_endT Gd s0 (hk_cs s0 3 222) _) 0 [(0, .ref th), (1, .int n)] [] s0
  refine hv_aload_n 0 dX30_at_0 rfl rfl ?_
  refine hv_getR (x := some a) fl_X30_7 ((if_pos (bf_k hb)).trans (congrArg some hf)) dX30_at_1 ?_
  refine hv_iload_n 1 dX30_at_4 rfl rfl ?_
  exact hx_zald hx_efT ha hk ho (Nat.le_of_ble_eq_true rfl) (Nat.le_of_ble_eq_true rfl) (Nat.le_of_ble_eq_true rfl) dX30_at_5 hx_leave
set_option maxHeartbeats 4000000 in
theorem wt_BooleanRow_put {l : Launch} {Gd : hk_G} {th a k : Nat} {n : Int32} {v : Int64} {s0 : hk_St} (htr : l.stackTraces = false) (hb : hk_k s0 th = some (27, 0)) (hf : hk_fR s0 2700 th = some a) (ha : hk_k s0 a = some (100 + 3, k)) (hk : k < 2 ^ 31) (ho : ¬ vp_in n k) : hx_MT Gd l yX30_put cX30_put 4 (some .boolean) 9 10300 [.ref th, .int n, .long v] s0 (hk_cs s0 3 222) "java/lang/ArrayIndexOutOfBoundsException" := by
  refine hx_startT htr "HeadReckons$BooleanRow" false (by decide +kernel) rfl (fun h => Bool.noConfusion h) (Nat.le_of_ble_eq_true rfl) ?_
  show hk_V Gd (l, cX30_put, "HeadReckons$BooleanRow", 4, (some .boolean), 9, 10300, false) (hx_endT Gd s0 (hk_cs s0 3 222) _) 0 [(0, .ref th), (1, .int n), (2, .long v)] [] s0
  refine hv_aload_n 0 dX30_put_0 rfl rfl ?_
  refine hv_getR (x := some a) fl_X30_7 ((if_pos (bf_k hb)).trans (congrArg some hf)) dX30_put_1 ?_
  refine hv_iload_n 1 dX30_put_4 rfl rfl ?_
  refine hv_lload_n 2 dX30_put_5 rfl rfl ?_
  refine hv_lconst (v := 0) dX30_put_6 (by decide) ?_
  refine hv_lcmp_eq (tgt := 15) dX30_put_7 dX30_put_8 (by decide) (fun c2 => ?_) (fun c2 => ?_)
  · refine hv_iconst (v := 0) dX30_put_15 (by decide) ?_
    exact hx_zast hx_efT ha hk ho (Nat.le_of_ble_eq_true rfl) (Nat.le_of_ble_eq_true rfl) (Nat.le_of_ble_eq_true rfl) dX30_put_16 hx_leave
  · refine hv_iconst (v := 1) dX30_put_11 (by decide) ?_
    refine hv_goto (tgt := 16) dX30_put_12 (by decide) ?_
    exact hx_zast hx_efT ha hk ho (Nat.le_of_ble_eq_true rfl) (Nat.le_of_ble_eq_true rfl) (Nat.le_of_ble_eq_true rfl) dX30_put_16 hx_leave
set_option maxHeartbeats 4000000 in
theorem wr_BooleanRow_copy {l : Launch} {Gd : hk_G} {th to a b k k2 : Nat} {i j n : Int32} {s0 : hk_St} (hb : hk_k s0 th = some (27, 0)) (hf : hk_fR s0 2700 th = some a) (hb2 : hk_k s0 to = some (27, 0)) (hf2 : hk_fR s0 2700 to = some b) (ha : hk_k s0 a = some (100 + 3, k)) (ha2 : hk_k s0 b = some (100 + 3, k2)) (h1 : ¬ i < 0) (h2 : ¬ j < 0) (h3 : ¬ n < 0) (h4 : i.toNatClampNeg + n.toNatClampNeg ≤ k) (h5 : j.toNatClampNeg + n.toNatClampNeg ≤ k2) (hfit : ∀ q, q < n.toNatClampNeg → fits (.boolean) (.int (hk_aI s0 a (i.toNatClampNeg + q))) = true) : hk_Met Gd l yX30_copy cX30_copy 5 none 9 10300 [.ref th, .int i, .ref to, .int j, .int n] s0 none (hk_cpI s0 a b i.toNatClampNeg j.toNatClampNeg n.toNatClampNeg) := by
  refine hk_start "HeadReckons$BooleanRow" false (by decide +kernel) rfl (fun h => Bool.noConfusion h) (Nat.le_of_ble_eq_true rfl) ?_
  show hk_V Gd (l, cX30_copy, "HeadReckons$BooleanRow", 5, none, 9, 10300, false) (hk_end Gd s0 none (hk_cpI s0 a b i.toNatClampNeg j.toNatClampNeg n.toNatClampNeg)) 0 [(0, .ref th), (1, .int i), (2, .ref to), (3, .int j), (4, .int n)] [] s0
  refine hv_aload_n 0 dX30_copy_0 rfl rfl ?_
  refine hv_getR (x := some a) fl_X30_7 ((if_pos (bf_k hb)).trans (congrArg some hf)) dX30_copy_1 ?_
  refine hv_iload_n 1 dX30_copy_4 rfl rfl ?_
  refine hv_aload_n 2 dX30_copy_5 rfl rfl ?_
  refine hv_cast (ci := 27) (r := (RX30, TX30, 1)) (bf_k hb2) (by decide) rfl q1517 (Or.inl rfl) dX30_copy_6 ?_
  refine hv_getR (x := some b) fl_X30_7 ((if_pos (bf_k hb2)).trans (congrArg some hf2)) dX30_copy_9 ?_
  refine hv_iload_n 3 dX30_copy_12 rfl rfl ?_
  refine hv_iload 4 dX30_copy_13 rfl ?_
  refine hv_cpI (ty := 3) (t := .boolean) [] (by decide) rfl ha ha2 h1 h2 h3 h4 h5 hfit rfl q1518 q1520 q1519 q137 (Nat.le_of_ble_eq_true rfl) (Nat.le_of_ble_eq_true rfl) (Nat.le_of_ble_eq_true rfl) rfl dX30_copy_15 ?_
  exact hv_vret rfl dX30_copy_18
set_option maxHeartbeats 4000000 in
theorem wt_BooleanRow_copy {l : Launch} {Gd : hk_G} {th to a b k k2 : Nat} {i j n : Int32} {s0 : hk_St} (htr : l.stackTraces = false) (hb : hk_k s0 th = some (27, 0)) (hf : hk_fR s0 2700 th = some a) (hb2 : hk_k s0 to = some (27, 0)) (hf2 : hk_fR s0 2700 to = some b) (ha : hk_k s0 a = some (100 + 3, k)) (ha2 : hk_k s0 b = some (100 + 3, k2)) (hk : k < 2 ^ 31) (hk2 : k2 < 2 ^ 31) (hout : ¬ (¬ i < 0 ∧ ¬ j < 0 ∧ ¬ n < 0 ∧ ¬ i.toInt + n.toInt > k ∧ ¬ j.toInt + n.toInt > k2)) : hx_MT Gd l yX30_copy cX30_copy 5 none 9 10300 [.ref th, .int i, .ref to, .int j, .int n] s0 (hk_cs s0 3 510) "java/lang/ArrayIndexOutOfBoundsException" := by
  refine hx_startT htr "HeadReckons$BooleanRow" false (by decide +kernel) rfl (fun h => Bool.noConfusion h) (Nat.le_of_ble_eq_true rfl) ?_
  show hk_V Gd (l, cX30_copy, "HeadReckons$BooleanRow", 5, none, 9, 10300, false) (hx_endT Gd s0 (hk_cs s0 3 510) _) 0 [(0, .ref th), (1, .int i), (2, .ref to), (3, .int j), (4, .int n)] [] s0
  refine hv_aload_n 0 dX30_copy_0 rfl rfl ?_
  refine hv_getR (x := some a) fl_X30_7 ((if_pos (bf_k hb)).trans (congrArg some hf)) dX30_copy_1 ?_
  refine hv_iload_n 1 dX30_copy_4 rfl rfl ?_
  refine hv_aload_n 2 dX30_copy_5 rfl rfl ?_
  refine hv_cast (ci := 27) (r := (RX30, TX30, 1)) (bf_k hb2) (by decide) rfl q1517 (Or.inl rfl) dX30_copy_6 ?_
  refine hv_getR (x := some b) fl_X30_7 ((if_pos (bf_k hb2)).trans (congrArg some hf2)) dX30_copy_9 ?_
  refine hv_iload_n 3 dX30_copy_12 rfl rfl ?_
  refine hv_iload 4 dX30_copy_13 rfl ?_
  exact hx_copyZ (ty := 3) (t := .boolean) [] hx_efT (by decide) rfl rfl ha ha2 hk hk2 hout q1518 q1520 q1519 q137 (Nat.le_of_ble_eq_true rfl) (Nat.le_of_ble_eq_true rfl) (Nat.le_of_ble_eq_true rfl) rfl dX30_copy_15 hx_leave
set_option maxHeartbeats 4000000 in
theorem wc_BooleanRow_copy {l : Launch} {Gd : hk_G} {th to a ci : Nat} {i j n : Int32} {s0 : hk_St} {r : vw_C} (htr : l.stackTraces = false) (hb : hk_k s0 th = some (27, 0)) (hf : hk_fR s0 2700 th = some a) (hb2 : hk_k s0 to = some (ci, 0)) (h100 : ci < 100) (hc : hk_cl[ci]? = some r) (hnc : (r.1, "HeadReckons$BooleanRow") ∈ hx_ncs) (hpk : packageOf r.1 = "") (hln : r.1.toList.length ≤ 24) : hx_MT Gd l yX30_copy cX30_copy 5 none 9 10300 [.ref th, .int i, .ref to, .int j, .int n] s0 (hk_cs s0 3 1010) "java/lang/ClassCastException" := by
  refine hx_startT htr "HeadReckons$BooleanRow" false (by decide +kernel) rfl (fun h => Bool.noConfusion h) (Nat.le_of_ble_eq_true rfl) ?_
  show hk_V Gd (l, cX30_copy, "HeadReckons$BooleanRow", 5, none, 9, 10300, false) (hx_endT Gd s0 (hk_cs s0 3 1010) _) 0 [(0, .ref th), (1, .int i), (2, .ref to), (3, .int j), (4, .int n)] [] s0
  refine hv_aload_n 0 dX30_copy_0 rfl rfl ?_
  refine hv_getR (x := some a) fl_X30_7 ((if_pos (bf_k hb)).trans (congrArg some hf)) dX30_copy_1 ?_
  refine hv_iload_n 1 dX30_copy_4 rfl rfl ?_
  refine hv_aload_n 2 dX30_copy_5 rfl rfl ?_
  exact hx_cast hx_efT hb2 h100 hc q1517 hnc ⟨hpk, by decide +kernel⟩ ⟨hln, by decide⟩ (Nat.le_of_ble_eq_true rfl) (Nat.le_of_ble_eq_true rfl) (Nat.le_of_ble_eq_true rfl) dX30_copy_6 hx_leave
set_option maxHeartbeats 4000000 in
theorem wr_newByteRow {l : Launch} {Gd : hk_G} {k : Nat} {p n : Int32} {s0 : hk_St} (hp : p = 0) (h0 : ¬ n < 0) (hk : n.toNatClampNeg = k) (h6 : k ≤ 60) : hk_Met Gd l yX0_newRow cX0_newRow 2 (some (.object "HeadReckons$Row")) 4 120 [.int p, .int n] s0 (some (.ref (hk_nx s0))) (hk_sfR (hk_mk (hk_mk s0 23 0 1) (100 + 1) k k) 2300 (hk_nx s0) (some (hk_nx s0 + 1))) := by
  refine hk_start "HeadReckons" false (by decide +kernel) rfl (fun h => Bool.noConfusion h) (Nat.le_of_ble_eq_true rfl) ?_
  show hk_V Gd (l, cX0_newRow, "HeadReckons", 2, (some (.object "HeadReckons$Row")), 4, 120, false) (hk_end Gd s0 (some (.ref (hk_nx s0))) (hk_sfR (hk_mk (hk_mk s0 23 0 1) (100 + 1) k k) 2300 (hk_nx s0) (some (hk_nx s0 + 1)))) 0 [(0, .int p), (1, .int n)] [] s0
  refine hv_iload_n 0 dX0_newRow_0 rfl rfl ?_
  refine hv_tableIn (tgt := 32) (off := 31) dX0_newRow_1 (by rw [hp]; decide) (by rw [hp]; decide) (by rw [hp]; rfl) (by decide) ?_
  refine hv_new (ci := 23) (r := (RX26, TX26, 1)) rfl hk_ok23 (by decide) q1409 q1410 q132 dX0_newRow_32 ?_
  refine hv_dup dX0_newRow_35 rfl ?_
  refine hv_iload_n 1 dX0_newRow_36 rfl rfl ?_
  refine hv_callI [.int n] [.ref (hk_nx s0)] [.ref (hk_nx s0)] (wr_ByteRow_init (s0 := (hk_mk s0 23 0 1)) h0 hk h6 (if_pos rfl) (Nat.ne_of_lt (Nat.lt_succ_self _))) cs_X0_414 rfl ⟨Nat.le_of_ble_eq_true rfl, Nat.le_of_ble_eq_true rfl⟩ rfl (Nat.le_of_ble_eq_true rfl) rfl dX0_newRow_37 ?_
  exact hv_aret (v := some (hk_nx s0)) rfl dX0_newRow_40
set_option maxHeartbeats 4000000 in
theorem wt_newByteRow {l : Launch} {Gd : hk_G} {p n : Int32} {s0 : hk_St} (htr : l.stackTraces = false) (hp : p = 0) (h0 : n < 0) : hx_MT Gd l yX0_newRow cX0_newRow 2 (some (.object "HeadReckons$Row")) 10 10330 [.int p, .int n] s0 (hk_cs (hk_mk s0 23 0 1) 3 54) "java/lang/NegativeArraySizeException" := by
  refine hx_startT htr "HeadReckons" false (by decide +kernel) rfl (fun h => Bool.noConfusion h) (Nat.le_of_ble_eq_true rfl) ?_
  show hk_V Gd (l, cX0_newRow, "HeadReckons", 2, (some (.object "HeadReckons$Row")), 10, 10330, false) (hx_endT Gd s0 (hk_cs (hk_mk s0 23 0 1) 3 54) _) 0 [(0, .int p), (1, .int n)] [] s0
  refine hv_iload_n 0 dX0_newRow_0 rfl rfl ?_
  refine hv_tableIn (tgt := 32) (off := 31) dX0_newRow_1 (by rw [hp]; decide) (by rw [hp]; decide) (by rw [hp]; rfl) (by decide) ?_
  refine hv_new (ci := 23) (r := (RX26, TX26, 1)) rfl hk_ok23 (by decide) q1409 q1410 q132 dX0_newRow_32 ?_
  refine hv_dup dX0_newRow_35 rfl ?_
  refine hv_iload_n 1 dX0_newRow_36 rfl rfl ?_
  exact hx_callI [.int n] [.ref (hk_nx s0)] hx_efT (wt_ByteRow_init (s0 := (hk_mk s0 23 0 1)) htr h0) cs_X0_414 rfl ⟨Nat.le_of_ble_eq_true rfl, Nat.le_of_ble_eq_true rfl⟩ rfl (Nat.le_of_ble_eq_true rfl) dX0_newRow_37 hx_leave
set_option maxHeartbeats 4000000 in
theorem wr_newShortRow {l : Launch} {Gd : hk_G} {k : Nat} {p n : Int32} {s0 : hk_St} (hp : p = 1) (h0 : ¬ n < 0) (hk : n.toNatClampNeg = k) (h6 : k ≤ 60) : hk_Met Gd l yX0_newRow cX0_newRow 2 (some (.object "HeadReckons$Row")) 4 120 [.int p, .int n] s0 (some (.ref (hk_nx s0))) (hk_sfR (hk_mk (hk_mk s0 24 0 1) (100 + 2) k k) 2400 (hk_nx s0) (some (hk_nx s0 + 1))) := by
  refine hk_start "HeadReckons" false (by decide +kernel) rfl (fun h => Bool.noConfusion h) (Nat.le_of_ble_eq_true rfl) ?_
  show hk_V Gd (l, cX0_newRow, "HeadReckons", 2, (some (.object "HeadReckons$Row")), 4, 120, false) (hk_end Gd s0 (some (.ref (hk_nx s0))) (hk_sfR (hk_mk (hk_mk s0 24 0 1) (100 + 2) k k) 2400 (hk_nx s0) (some (hk_nx s0 + 1)))) 0 [(0, .int p), (1, .int n)] [] s0
  refine hv_iload_n 0 dX0_newRow_0 rfl rfl ?_
  refine hv_tableIn (tgt := 41) (off := 40) dX0_newRow_1 (by rw [hp]; decide) (by rw [hp]; decide) (by rw [hp]; rfl) (by decide) ?_
  refine hv_new (ci := 24) (r := (RX27, TX27, 1)) rfl hk_ok24 (by decide) q1422 q1423 q133 dX0_newRow_41 ?_
  refine hv_dup dX0_newRow_44 rfl ?_
  refine hv_iload_n 1 dX0_newRow_45 rfl rfl ?_
  refine hv_callI [.int n] [.ref (hk_nx s0)] [.ref (hk_nx s0)] (wr_ShortRow_init (s0 := (hk_mk s0 24 0 1)) h0 hk h6 (if_pos rfl) (Nat.ne_of_lt (Nat.lt_succ_self _))) cs_X0_419 rfl ⟨Nat.le_of_ble_eq_true rfl, Nat.le_of_ble_eq_true rfl⟩ rfl (Nat.le_of_ble_eq_true rfl) rfl dX0_newRow_46 ?_
  exact hv_aret (v := some (hk_nx s0)) rfl dX0_newRow_49
set_option maxHeartbeats 4000000 in
theorem wt_newShortRow {l : Launch} {Gd : hk_G} {p n : Int32} {s0 : hk_St} (htr : l.stackTraces = false) (hp : p = 1) (h0 : n < 0) : hx_MT Gd l yX0_newRow cX0_newRow 2 (some (.object "HeadReckons$Row")) 10 10330 [.int p, .int n] s0 (hk_cs (hk_mk s0 24 0 1) 3 54) "java/lang/NegativeArraySizeException" := by
  refine hx_startT htr "HeadReckons" false (by decide +kernel) rfl (fun h => Bool.noConfusion h) (Nat.le_of_ble_eq_true rfl) ?_
  show hk_V Gd (l, cX0_newRow, "HeadReckons", 2, (some (.object "HeadReckons$Row")), 10, 10330, false) (hx_endT Gd s0 (hk_cs (hk_mk s0 24 0 1) 3 54) _) 0 [(0, .int p), (1, .int n)] [] s0
  refine hv_iload_n 0 dX0_newRow_0 rfl rfl ?_
  refine hv_tableIn (tgt := 41) (off := 40) dX0_newRow_1 (by rw [hp]; decide) (by rw [hp]; decide) (by rw [hp]; rfl) (by decide) ?_
  refine hv_new (ci := 24) (r := (RX27, TX27, 1)) rfl hk_ok24 (by decide) q1422 q1423 q133 dX0_newRow_41 ?_
  refine hv_dup dX0_newRow_44 rfl ?_
  refine hv_iload_n 1 dX0_newRow_45 rfl rfl ?_
  exact hx_callI [.int n] [.ref (hk_nx s0)] hx_efT (wt_ShortRow_init (s0 := (hk_mk s0 24 0 1)) htr h0) cs_X0_419 rfl ⟨Nat.le_of_ble_eq_true rfl, Nat.le_of_ble_eq_true rfl⟩ rfl (Nat.le_of_ble_eq_true rfl) dX0_newRow_46 hx_leave
set_option maxHeartbeats 4000000 in
theorem wr_newIntRow {l : Launch} {Gd : hk_G} {k : Nat} {p n : Int32} {s0 : hk_St} (hp : p = 2) (h0 : ¬ n < 0) (hk : n.toNatClampNeg = k) (h6 : k ≤ 60) : hk_Met Gd l yX0_newRow cX0_newRow 2 (some (.object "HeadReckons$Row")) 4 120 [.int p, .int n] s0 (some (.ref (hk_nx s0))) (hk_sfR (hk_mk (hk_mk s0 25 0 1) (100 + 0) k k) 2500 (hk_nx s0) (some (hk_nx s0 + 1))) := by
  refine hk_start "HeadReckons" false (by decide +kernel) rfl (fun h => Bool.noConfusion h) (Nat.le_of_ble_eq_true rfl) ?_
  show hk_V Gd (l, cX0_newRow, "HeadReckons", 2, (some (.object "HeadReckons$Row")), 4, 120, false) (hk_end Gd s0 (some (.ref (hk_nx s0))) (hk_sfR (hk_mk (hk_mk s0 25 0 1) (100 + 0) k k) 2500 (hk_nx s0) (some (hk_nx s0 + 1)))) 0 [(0, .int p), (1, .int n)] [] s0
  refine hv_iload_n 0 dX0_newRow_0 rfl rfl ?_
  refine hv_tableIn (tgt := 50) (off := 49) dX0_newRow_1 (by rw [hp]; decide) (by rw [hp]; decide) (by rw [hp]; rfl) (by decide) ?_
  refine hv_new (ci := 25) (r := (RX28, TX28, 1)) rfl hk_ok25 (by decide) q955 q1433 q134 dX0_newRow_50 ?_
  refine hv_dup dX0_newRow_53 rfl ?_
  refine hv_iload_n 1 dX0_newRow_54 rfl rfl ?_
  refine hv_callI [.int n] [.ref (hk_nx s0)] [.ref (hk_nx s0)] (wr_IntRow_init (s0 := (hk_mk s0 25 0 1)) h0 hk h6 (if_pos rfl) (Nat.ne_of_lt (Nat.lt_succ_self _))) cs_X0_420 rfl ⟨Nat.le_of_ble_eq_true rfl, Nat.le_of_ble_eq_true rfl⟩ rfl (Nat.le_of_ble_eq_true rfl) rfl dX0_newRow_55 ?_
  exact hv_aret (v := some (hk_nx s0)) rfl dX0_newRow_58
set_option maxHeartbeats 4000000 in
theorem wt_newIntRow {l : Launch} {Gd : hk_G} {p n : Int32} {s0 : hk_St} (htr : l.stackTraces = false) (hp : p = 2) (h0 : n < 0) : hx_MT Gd l yX0_newRow cX0_newRow 2 (some (.object "HeadReckons$Row")) 10 10330 [.int p, .int n] s0 (hk_cs (hk_mk s0 25 0 1) 3 54) "java/lang/NegativeArraySizeException" := by
  refine hx_startT htr "HeadReckons" false (by decide +kernel) rfl (fun h => Bool.noConfusion h) (Nat.le_of_ble_eq_true rfl) ?_
  show hk_V Gd (l, cX0_newRow, "HeadReckons", 2, (some (.object "HeadReckons$Row")), 10, 10330, false) (hx_endT Gd s0 (hk_cs (hk_mk s0 25 0 1) 3 54) _) 0 [(0, .int p), (1, .int n)] [] s0
  refine hv_iload_n 0 dX0_newRow_0 rfl rfl ?_
  refine hv_tableIn (tgt := 50) (off := 49) dX0_newRow_1 (by rw [hp]; decide) (by rw [hp]; decide) (by rw [hp]; rfl) (by decide) ?_
  refine hv_new (ci := 25) (r := (RX28, TX28, 1)) rfl hk_ok25 (by decide) q955 q1433 q134 dX0_newRow_50 ?_
  refine hv_dup dX0_newRow_53 rfl ?_
  refine hv_iload_n 1 dX0_newRow_54 rfl rfl ?_
  exact hx_callI [.int n] [.ref (hk_nx s0)] hx_efT (wt_IntRow_init (s0 := (hk_mk s0 25 0 1)) htr h0) cs_X0_420 rfl ⟨Nat.le_of_ble_eq_true rfl, Nat.le_of_ble_eq_true rfl⟩ rfl (Nat.le_of_ble_eq_true rfl) dX0_newRow_55 hx_leave
set_option maxHeartbeats 4000000 in
theorem wr_newLongRow {l : Launch} {Gd : hk_G} {k : Nat} {p n : Int32} {s0 : hk_St} (hp : p = 3) (h0 : ¬ n < 0) (hk : n.toNatClampNeg = k) (h6 : k ≤ 60) : hk_Met Gd l yX0_newRow cX0_newRow 2 (some (.object "HeadReckons$Row")) 4 120 [.int p, .int n] s0 (some (.ref (hk_nx s0))) (hk_sfR (hk_mk (hk_mk s0 26 0 1) (100 + 4) k k) 2600 (hk_nx s0) (some (hk_nx s0 + 1))) := by
  refine hk_start "HeadReckons" false (by decide +kernel) rfl (fun h => Bool.noConfusion h) (Nat.le_of_ble_eq_true rfl) ?_
  show hk_V Gd (l, cX0_newRow, "HeadReckons", 2, (some (.object "HeadReckons$Row")), 4, 120, false) (hk_end Gd s0 (some (.ref (hk_nx s0))) (hk_sfR (hk_mk (hk_mk s0 26 0 1) (100 + 4) k k) 2600 (hk_nx s0) (some (hk_nx s0 + 1)))) 0 [(0, .int p), (1, .int n)] [] s0
  refine hv_iload_n 0 dX0_newRow_0 rfl rfl ?_
  refine hv_tableIn (tgt := 59) (off := 58) dX0_newRow_1 (by rw [hp]; decide) (by rw [hp]; decide) (by rw [hp]; rfl) (by decide) ?_
  refine hv_new (ci := 26) (r := (RX29, TX29, 1)) rfl hk_ok26 (by decide) q1442 q1443 q135 dX0_newRow_59 ?_
  refine hv_dup dX0_newRow_62 rfl ?_
  refine hv_iload_n 1 dX0_newRow_63 rfl rfl ?_
  refine hv_callI [.int n] [.ref (hk_nx s0)] [.ref (hk_nx s0)] (wr_LongRow_init (s0 := (hk_mk s0 26 0 1)) h0 hk h6 (if_pos rfl) (Nat.ne_of_lt (Nat.lt_succ_self _))) cs_X0_423 rfl ⟨Nat.le_of_ble_eq_true rfl, Nat.le_of_ble_eq_true rfl⟩ rfl (Nat.le_of_ble_eq_true rfl) rfl dX0_newRow_64 ?_
  exact hv_aret (v := some (hk_nx s0)) rfl dX0_newRow_67
set_option maxHeartbeats 4000000 in
theorem wt_newLongRow {l : Launch} {Gd : hk_G} {p n : Int32} {s0 : hk_St} (htr : l.stackTraces = false) (hp : p = 3) (h0 : n < 0) : hx_MT Gd l yX0_newRow cX0_newRow 2 (some (.object "HeadReckons$Row")) 10 10330 [.int p, .int n] s0 (hk_cs (hk_mk s0 26 0 1) 3 54) "java/lang/NegativeArraySizeException" := by
  refine hx_startT htr "HeadReckons" false (by decide +kernel) rfl (fun h => Bool.noConfusion h) (Nat.le_of_ble_eq_true rfl) ?_
  show hk_V Gd (l, cX0_newRow, "HeadReckons", 2, (some (.object "HeadReckons$Row")), 10, 10330, false) (hx_endT Gd s0 (hk_cs (hk_mk s0 26 0 1) 3 54) _) 0 [(0, .int p), (1, .int n)] [] s0
  refine hv_iload_n 0 dX0_newRow_0 rfl rfl ?_
  refine hv_tableIn (tgt := 59) (off := 58) dX0_newRow_1 (by rw [hp]; decide) (by rw [hp]; decide) (by rw [hp]; rfl) (by decide) ?_
  refine hv_new (ci := 26) (r := (RX29, TX29, 1)) rfl hk_ok26 (by decide) q1442 q1443 q135 dX0_newRow_59 ?_
  refine hv_dup dX0_newRow_62 rfl ?_
  refine hv_iload_n 1 dX0_newRow_63 rfl rfl ?_
  exact hx_callI [.int n] [.ref (hk_nx s0)] hx_efT (wt_LongRow_init (s0 := (hk_mk s0 26 0 1)) htr h0) cs_X0_423 rfl ⟨Nat.le_of_ble_eq_true rfl, Nat.le_of_ble_eq_true rfl⟩ rfl (Nat.le_of_ble_eq_true rfl) dX0_newRow_64 hx_leave
set_option maxHeartbeats 4000000 in
theorem wr_newBooleanRow {l : Launch} {Gd : hk_G} {k : Nat} {p n : Int32} {s0 : hk_St} (hp : p = 4) (h0 : ¬ n < 0) (hk : n.toNatClampNeg = k) (h6 : k ≤ 60) : hk_Met Gd l yX0_newRow cX0_newRow 2 (some (.object "HeadReckons$Row")) 4 120 [.int p, .int n] s0 (some (.ref (hk_nx s0))) (hk_sfR (hk_mk (hk_mk s0 27 0 1) (100 + 3) k k) 2700 (hk_nx s0) (some (hk_nx s0 + 1))) := by
  refine hk_start "HeadReckons" false (by decide +kernel) rfl (fun h => Bool.noConfusion h) (Nat.le_of_ble_eq_true rfl) ?_
  show hk_V Gd (l, cX0_newRow, "HeadReckons", 2, (some (.object "HeadReckons$Row")), 4, 120, false) (hk_end Gd s0 (some (.ref (hk_nx s0))) (hk_sfR (hk_mk (hk_mk s0 27 0 1) (100 + 3) k k) 2700 (hk_nx s0) (some (hk_nx s0 + 1)))) 0 [(0, .int p), (1, .int n)] [] s0
  refine hv_iload_n 0 dX0_newRow_0 rfl rfl ?_
  refine hv_tableD (tgt := 68) [0, 1, 2, 3] dX0_newRow_1 (by decide) (by decide) (by rw [hp]; decide) (by decide) ?_
  refine hv_new (ci := 27) (r := (RX30, TX30, 1)) rfl hk_ok27 (by decide) q1452 q1453 q136 dX0_newRow_68 ?_
  refine hv_dup dX0_newRow_71 rfl ?_
  refine hv_iload_n 1 dX0_newRow_72 rfl rfl ?_
  refine hv_callI [.int n] [.ref (hk_nx s0)] [.ref (hk_nx s0)] (wr_BooleanRow_init (s0 := (hk_mk s0 27 0 1)) h0 hk h6 (if_pos rfl) (Nat.ne_of_lt (Nat.lt_succ_self _))) cs_X0_426 rfl ⟨Nat.le_of_ble_eq_true rfl, Nat.le_of_ble_eq_true rfl⟩ rfl (Nat.le_of_ble_eq_true rfl) rfl dX0_newRow_73 ?_
  exact hv_aret (v := some (hk_nx s0)) rfl dX0_newRow_76
set_option maxHeartbeats 4000000 in
theorem wt_newBooleanRow {l : Launch} {Gd : hk_G} {p n : Int32} {s0 : hk_St} (htr : l.stackTraces = false) (hp : p = 4) (h0 : n < 0) : hx_MT Gd l yX0_newRow cX0_newRow 2 (some (.object "HeadReckons$Row")) 10 10330 [.int p, .int n] s0 (hk_cs (hk_mk s0 27 0 1) 3 54) "java/lang/NegativeArraySizeException" := by
  refine hx_startT htr "HeadReckons" false (by decide +kernel) rfl (fun h => Bool.noConfusion h) (Nat.le_of_ble_eq_true rfl) ?_
  show hk_V Gd (l, cX0_newRow, "HeadReckons", 2, (some (.object "HeadReckons$Row")), 10, 10330, false) (hx_endT Gd s0 (hk_cs (hk_mk s0 27 0 1) 3 54) _) 0 [(0, .int p), (1, .int n)] [] s0
  refine hv_iload_n 0 dX0_newRow_0 rfl rfl ?_
  refine hv_tableD (tgt := 68) [0, 1, 2, 3] dX0_newRow_1 (by decide) (by decide) (by rw [hp]; decide) (by decide) ?_
  refine hv_new (ci := 27) (r := (RX30, TX30, 1)) rfl hk_ok27 (by decide) q1452 q1453 q136 dX0_newRow_68 ?_
  refine hv_dup dX0_newRow_71 rfl ?_
  refine hv_iload_n 1 dX0_newRow_72 rfl rfl ?_
  exact hx_callI [.int n] [.ref (hk_nx s0)] hx_efT (wt_BooleanRow_init (s0 := (hk_mk s0 27 0 1)) htr h0) cs_X0_426 rfl ⟨Nat.le_of_ble_eq_true rfl, Nat.le_of_ble_eq_true rfl⟩ rfl (Nat.le_of_ble_eq_true rfl) dX0_newRow_73 hx_leave