set_option maxRecDepth 100000
def xReader_init (th : Nat) (p1 : Nat) (s0 : hk_St) : Option hk_St :=
  (hk_pR [6] 603 s0 th (some p1)).bind fun s1 =>
  (hk_pI [6] 601 s1 th (-1 : Int32)).bind fun s2 =>
  some s2
abbrev N_xReader_init (l : Launch) : hk_N := (l, cX6_init, "HeadReckons$Reader", 2, none, 1, 20, true)
set_option maxHeartbeats 4000000 in
theorem wk_xReader_init {l : Launch} {Gd : hk_G} {th : Nat} {p1 : Nat} {s0 : hk_St} {fin : hk_St} (h : xReader_init th p1 s0 = some fin) : hk_Met Gd l yX6_init cX6_init 2 none 1 20 [.ref th, .ref p1] s0 none fin := by
  refine hk_start "HeadReckons$Reader" true (by decide +kernel) rfl (by decide) (Nat.le_of_ble_eq_true rfl) ?_
  show hk_V Gd (N_xReader_init l) (hk_end Gd s0 none fin) 0 [(0, .ref th), (1, .ref p1)] [] s0
  unfold xReader_init at h
  refine hv_aload_n 0 dX6_init_0 rfl rfl ?_
  refine hv_aload_n 1 dX6_init_1 rfl rfl ?_
  obtain ⟨s1, e_s1, h⟩ := hq_ob h
  refine hv_putR fp_X6_3 e_s1 (fun _ => rfl) dX6_init_2 ?_
  refine hv_aload_n 0 dX6_init_5 rfl rfl ?_
  refine hv_objInit q393 q144 q145 dX6_init_6 (Nat.le_of_ble_eq_true rfl) (Nat.le_of_ble_eq_true rfl) ?_
  refine hv_aload_n 0 dX6_init_9 rfl rfl ?_
  refine hv_iconst (v := -1) dX6_init_10 (by decide) ?_
  obtain ⟨s2, e_s2, h⟩ := hq_ob h
  refine hv_putI fp_X6_15 e_s2 (fun q => by cases q) dX6_init_11 ?_
  have h := Option.some.inj h
  subst h
  exact hv_vret rfl dX6_init_14
def xLine_init (th : Nat) (s0 : hk_St) : Option hk_St :=
  some s0
abbrev N_xLine_init (l : Launch) : hk_N := (l, cX7_init, "HeadReckons$Line", 1, none, 1, 20, true)
set_option maxHeartbeats 4000000 in
theorem wk_xLine_init {l : Launch} {Gd : hk_G} {th : Nat} {s0 : hk_St} {fin : hk_St} (h : xLine_init th s0 = some fin) : hk_Met Gd l yX7_init cX7_init 1 none 1 20 [.ref th] s0 none fin := by
  refine hk_start "HeadReckons$Line" true (by decide +kernel) rfl (by decide) (Nat.le_of_ble_eq_true rfl) ?_
  show hk_V Gd (N_xLine_init l) (hk_end Gd s0 none fin) 0 [(0, .ref th)] [] s0
  unfold xLine_init at h
  refine hv_aload_n 0 dX7_init_0 rfl rfl ?_
  refine hv_objInit q421 q144 q145 dX7_init_1 (Nat.le_of_ble_eq_true rfl) (Nat.le_of_ble_eq_true rfl) ?_
  have h := Option.some.inj h
  subst h
  exact hv_vret rfl dX7_init_4
def xReader_here (th : Nat) (s0 : hk_St) : Option (Int32) :=
  (hk_gI [6] 600 s0 th).bind fun x1 =>
  (hk_gR [6] 603 s0 th).bind fun x2 =>
  hk_nn x2 fun a3 =>
  (hk_gI [0] 1 s0 a3).bind fun x4 =>
  if x4 ≤ x1 then
    some (-1 : Int32)
  else
  (hk_gR [6] 603 s0 th).bind fun x6 =>
  hk_nn x6 fun a7 =>
  (hk_gR [0] 0 s0 a7).bind fun x8 =>
  (hk_gI [6] 600 s0 th).bind fun x9 =>
  hk_nn x8 fun a10 =>
  (hk_lI 1 s0 a10 x9).bind fun x11 =>
  some x11
abbrev N_xReader_here (l : Launch) : hk_N := (l, cX6_here, "HeadReckons$Reader", 1, (some .int), 0, 0, false)
set_option maxHeartbeats 4000000 in
theorem wk_xReader_here {l : Launch} {Gd : hk_G} {th : Nat} {s0 : hk_St} {r : Int32} (h : xReader_here th s0 = some r) : hk_Met Gd l yX6_here cX6_here 1 (some .int) 0 0 [.ref th] s0 (some (.int r)) s0 := by
  refine hk_start "HeadReckons$Reader" false (by decide +kernel) rfl (by decide) (Nat.le_of_ble_eq_true rfl) ?_
  show hk_V Gd (N_xReader_here l) (hk_end Gd s0 (some (.int r)) s0) 0 [(0, .ref th)] [] s0
  unfold xReader_here at h
  refine hv_aload_n 0 dX6_here_0 rfl rfl ?_
  obtain ⟨x1, e_x1, h⟩ := hq_ob h
  refine hv_getI fl_X6_19 e_x1 dX6_here_1 ?_
  refine hv_aload_n 0 dX6_here_4 rfl rfl ?_
  obtain ⟨x2, e_x2, h⟩ := hq_ob h
  refine hv_getR fl_X6_3 e_x2 dX6_here_5 ?_
  obtain ⟨a3, e_a3, h⟩ := hq_nn h
  rw [e_a3]
  obtain ⟨x4, e_x4, h⟩ := hq_ob h
  refine hv_getI fl_X6_22 e_x4 dX6_here_8 ?_
  refine hv_icmp_ge (tgt := 29) dX6_here_11 (by decide) (fun c5 => ?_) (fun c5 => ?_)
  · replace h := hq_ip c5 h
    refine hv_iconst (v := -1) dX6_here_29 (by decide) ?_
    have h := Option.some.inj h
    subst h
    exact hv_iret rfl dX6_here_30
  · replace h := hq_in c5 h
    refine hv_aload_n 0 dX6_here_14 rfl rfl ?_
    obtain ⟨x6, e_x6, h⟩ := hq_ob h
    refine hv_getR fl_X6_3 e_x6 dX6_here_15 ?_
    obtain ⟨a7, e_a7, h⟩ := hq_nn h
    rw [e_a7]
    obtain ⟨x8, e_x8, h⟩ := hq_ob h
    refine hv_getR fl_X6_25 e_x8 dX6_here_18 ?_
    refine hv_aload_n 0 dX6_here_21 rfl rfl ?_
    obtain ⟨x9, e_x9, h⟩ := hq_ob h
    refine hv_getI fl_X6_19 e_x9 dX6_here_22 ?_
    obtain ⟨a10, e_a10, h⟩ := hq_nn h
    rw [e_a10]
    obtain ⟨x11, e_x11, h⟩ := hq_ob h
    refine hv_bald e_x11 dX6_here_25 ?_
    refine hv_goto (tgt := 30) dX6_here_26 (by decide) ?_
    have h := Option.some.inj h
    subst h
    exact hv_iret rfl dX6_here_30
def xReader_isOne (th : Nat) (i : Nat) (s0 : hk_St) : Option (Int32) :=
  (xReader_here th s0).bind fun x1 =>
  hk_gd (hk_bf [6] s0 th) <|
  if x1 < 0 then
    some (0 : Int32)
  else
  (xReader_here th s0).bind fun x4 =>
  hk_gd (hk_bf [6] s0 th) <|
  (jjJ0_indexOf i x4).bind fun x6 =>
  if x6 < 0 then
    some (0 : Int32)
  else
  some (1 : Int32)
abbrev N_xReader_isOne (l : Launch) : hk_N := (l, cX6_isOne, "HeadReckons$Reader", 2, (some .boolean), 22, 643, false)
set_option maxHeartbeats 4000000 in
theorem wk_xReader_isOne {l : Launch} {Gd : hk_G} {i : Nat} (hi : i < 4) {th : Nat} {s0 : hk_St} {r : Int32} (h : xReader_isOne th i s0 = some r) : hk_Met Gd l yX6_isOne cX6_isOne 2 (some .boolean) 22 643 [.ref th, .ref (hk_aK Gd i)] s0 (some (.int r)) s0 := by
  refine hk_start "HeadReckons$Reader" false (by decide +kernel) rfl (by decide) (Nat.le_of_ble_eq_true rfl) ?_
  show hk_V Gd (N_xReader_isOne l) (hk_end Gd s0 (some (.int r)) s0) 0 [(0, .ref th), (1, .ref (hk_aK Gd i))] [] s0
  unfold xReader_isOne at h
  refine hv_aload_n 0 dX6_isOne_0 rfl rfl ?_
  obtain ⟨x1, e_x1, h⟩ := hq_ob h
  obtain ⟨g2, h⟩ := hq_gd h
  refine hv_callV [] [] [.int x1] (wk_xReader_here e_x1) cs_X6_29 g2 rfl ⟨Nat.le_of_ble_eq_true rfl, Nat.le_of_ble_eq_true rfl⟩ rfl (Nat.le_of_ble_eq_true rfl) rfl dX6_isOne_1 ?_
  refine hv_if_lt (tgt := 22) dX6_isOne_4 (by decide) (fun c3 => ?_) (fun c3 => ?_)
  · replace h := hq_ip c3 h
    refine hv_iconst (v := 0) dX6_isOne_22 (by decide) ?_
    have h := Option.some.inj h
    subst h
    exact hv_zret (ty := .boolean) rfl rfl dX6_isOne_23
  · replace h := hq_in c3 h
    refine hv_aload_n 1 dX6_isOne_7 rfl rfl ?_
    refine hv_aload_n 0 dX6_isOne_8 rfl rfl ?_
    obtain ⟨x4, e_x4, h⟩ := hq_ob h
    obtain ⟨g5, h⟩ := hq_gd h
    refine hv_callV [] [.ref (hk_aK Gd i)] [.int x4, .ref (hk_aK Gd i)] (wk_xReader_here e_x4) cs_X6_29 g5 rfl ⟨Nat.le_of_ble_eq_true rfl, Nat.le_of_ble_eq_true rfl⟩ rfl (Nat.le_of_ble_eq_true rfl) rfl dX6_isOne_9 ?_
    obtain ⟨x6, e_x6, h⟩ := hq_ob h
    refine hv_callVS [.int x4] [] [.int x6] (wk_jjJ0_indexOf hi e_x6) cs_X6_33 hi rfl ⟨Nat.le_of_ble_eq_true rfl, Nat.le_of_ble_eq_true rfl⟩ rfl (Nat.le_of_ble_eq_true rfl) rfl dX6_isOne_12 ?_
    refine hv_if_lt (tgt := 22) dX6_isOne_15 (by decide) (fun c7 => ?_) (fun c7 => ?_)
    · replace h := hq_ip c7 h
      refine hv_iconst (v := 0) dX6_isOne_22 (by decide) ?_
      have h := Option.some.inj h
      subst h
      exact hv_zret (ty := .boolean) rfl rfl dX6_isOne_23
    · replace h := hq_in c7 h
      refine hv_iconst (v := 1) dX6_isOne_18 (by decide) ?_
      refine hv_goto (tgt := 23) dX6_isOne_19 (by decide) ?_
      have h := Option.some.inj h
      subst h
      exact hv_zret (ty := .boolean) rfl rfl dX6_isOne_23
def xNode_init (th : Nat) (s0 : hk_St) : Option hk_St :=
  some s0
abbrev N_xNode_init (l : Launch) : hk_N := (l, cX8_init, "HeadReckons$Node", 1, none, 1, 20, true)
set_option maxHeartbeats 4000000 in
theorem wk_xNode_init {l : Launch} {Gd : hk_G} {th : Nat} {s0 : hk_St} {fin : hk_St} (h : xNode_init th s0 = some fin) : hk_Met Gd l yX8_init cX8_init 1 none 1 20 [.ref th] s0 none fin := by
  refine hk_start "HeadReckons$Node" true (by decide +kernel) rfl (by decide) (Nat.le_of_ble_eq_true rfl) ?_
  show hk_V Gd (N_xNode_init l) (hk_end Gd s0 none fin) 0 [(0, .ref th)] [] s0
  unfold xNode_init at h
  refine hv_aload_n 0 dX8_init_0 rfl rfl ?_
  refine hv_objInit q562 q144 q145 dX8_init_1 (Nat.le_of_ble_eq_true rfl) (Nat.le_of_ble_eq_true rfl) ?_
  have h := Option.some.inj h
  subst h
  exact hv_vret rfl dX8_init_4
def xName_init (th : Nat) (p1 : Int32) (s0 : hk_St) : Option hk_St :=
  (xNode_init th s0).bind fun s1 =>
  (hk_pI [8] 800 s1 th p1).bind fun s2 =>
  some s2
abbrev N_xName_init (l : Launch) : hk_N := (l, cX9_init, "HeadReckons$Name", 2, none, 2, 40, true)
set_option maxHeartbeats 4000000 in
theorem wk_xName_init {l : Launch} {Gd : hk_G} {th : Nat} {p1 : Int32} {s0 : hk_St} {fin : hk_St} (h : xName_init th p1 s0 = some fin) : hk_Met Gd l yX9_init cX9_init 2 none 2 40 [.ref th, .int p1] s0 none fin := by
  refine hk_start "HeadReckons$Name" true (by decide +kernel) rfl (by decide) (Nat.le_of_ble_eq_true rfl) ?_
  show hk_V Gd (N_xName_init l) (hk_end Gd s0 none fin) 0 [(0, .ref th), (1, .int p1)] [] s0
  unfold xName_init at h
  refine hv_aload_n 0 dX9_init_0 rfl rfl ?_
  obtain ⟨s1, e_s1, h⟩ := hq_ob h
  refine hv_callIN [] [] [] (wk_xNode_init e_s1) cs_X9_1 rfl ⟨Nat.le_of_ble_eq_true rfl, Nat.le_of_ble_eq_true rfl⟩ rfl (Nat.le_of_ble_eq_true rfl) rfl dX9_init_1 ?_
  refine hv_aload_n 0 dX9_init_4 rfl rfl ?_
  refine hv_iload_n 1 dX9_init_5 rfl rfl ?_
  obtain ⟨s2, e_s2, h⟩ := hq_ob h
  refine hv_putI fp_X9_7 e_s2 (fun _ => rfl) dX9_init_6 ?_
  have h := Option.some.inj h
  subst h
  exact hv_vret rfl dX9_init_9
def xReader_opens (th : Nat) (s0 : hk_St) : Option (Int32 × hk_St) :=
  (hk_gI [6] 602 s0 th).bind fun x1 =>
  if x1 = (6 : Int32) then
    some ((0 : Int32), s0)
  else
  (hk_gI [6] 602 s0 th).bind fun x3 =>
    (hk_pI [6] 602 s0 th (x3 + (1 : Int32))).bind fun s4 =>
    (hk_gI [6] 600 s4 th).bind fun x5 =>
    (hk_pI [6] 600 s4 th (x5 + (1 : Int32))).bind fun s6 =>
    some ((1 : Int32), s6)
abbrev N_xReader_opens (l : Launch) : hk_N := (l, cX6_opens, "HeadReckons$Reader", 1, (some .boolean), 0, 0, false)
set_option maxHeartbeats 4000000 in
theorem wk_xReader_opens {l : Launch} {Gd : hk_G} {th : Nat} {s0 : hk_St} {r : Int32} {fin : hk_St} (h : xReader_opens th s0 = some (r, fin)) : hk_Met Gd l yX6_opens cX6_opens 1 (some .boolean) 0 0 [.ref th] s0 (some (.int r)) fin := by
  refine hk_start "HeadReckons$Reader" false (by decide +kernel) rfl (by decide) (Nat.le_of_ble_eq_true rfl) ?_
  show hk_V Gd (N_xReader_opens l) (hk_end Gd s0 (some (.int r)) fin) 0 [(0, .ref th)] [] s0
  unfold xReader_opens at h
  refine hv_aload_n 0 dX6_opens_0 rfl rfl ?_
  obtain ⟨x1, e_x1, h⟩ := hq_ob h
  refine hv_getI fl_X6_95 e_x1 dX6_opens_1 ?_
  refine hv_bipush (v := 6) dX6_opens_4 (by decide) ?_
  refine hv_icmp_ne (tgt := 11) dX6_opens_6 (by decide) (fun c2 => ?_) (fun c2 => ?_)
  · replace h := hq_in c2 h
    refine hv_aload_n 0 dX6_opens_11 rfl rfl ?_
    refine hv_dup dX6_opens_12 rfl ?_
    obtain ⟨x3, e_x3, h⟩ := hq_ob h
    refine hv_getI fl_X6_95 e_x3 dX6_opens_13 ?_
    refine hv_iconst (v := 1) dX6_opens_16 (by decide) ?_
    refine hv_iadd dX6_opens_17 ?_
    obtain ⟨s4, e_s4, h⟩ := hq_ob h
    refine hv_putI fp_X6_95 e_s4 (fun q => by cases q) dX6_opens_18 ?_
    refine hv_aload_n 0 dX6_opens_21 rfl rfl ?_
    refine hv_dup dX6_opens_22 rfl ?_
    obtain ⟨x5, e_x5, h⟩ := hq_ob h
    refine hv_getI fl_X6_19 e_x5 dX6_opens_23 ?_
    refine hv_iconst (v := 1) dX6_opens_26 (by decide) ?_
    refine hv_iadd dX6_opens_27 ?_
    obtain ⟨s6, e_s6, h⟩ := hq_ob h
    refine hv_putI fp_X6_19 e_s6 (fun q => by cases q) dX6_opens_28 ?_
    refine hv_iconst (v := 1) dX6_opens_31 (by decide) ?_
    obtain ⟨h1, h2⟩ := hq_ret h
    subst h1
    subst h2
    exact hv_zret (ty := .boolean) rfl rfl dX6_opens_32
  · replace h := hq_ip c2 h
    refine hv_iconst (v := 0) dX6_opens_9 (by decide) ?_
    obtain ⟨h1, h2⟩ := hq_ret h
    subst h1
    subst h2
    exact hv_zret (ty := .boolean) rfl rfl dX6_opens_10
def xReader_wrong (th : Nat) (s0 : hk_St) : Option (Option Nat × hk_St) :=
  (hk_gI [6] 601 s0 th).bind fun x1 =>
  if 0 ≤ x1 then
    some (none, s0)
  else
  (hk_gI [6] 600 s0 th).bind fun x3 =>
  (hk_pI [6] 601 s0 th x3).bind fun s4 =>
  some (none, s4)
abbrev N_xReader_wrong (l : Launch) : hk_N := (l, cX6_wrong, "HeadReckons$Reader", 1, (some (.object "HeadReckons$Node")), 0, 0, false)
set_option maxHeartbeats 4000000 in
theorem wk_xReader_wrong {l : Launch} {Gd : hk_G} {th : Nat} {s0 : hk_St} {r : Option Nat} {fin : hk_St} (h : xReader_wrong th s0 = some (r, fin)) : hk_Met Gd l yX6_wrong cX6_wrong 1 (some (.object "HeadReckons$Node")) 0 0 [.ref th] s0 (some (va_rf r)) fin := by
  refine hk_start "HeadReckons$Reader" false (by decide +kernel) rfl (by decide) (Nat.le_of_ble_eq_true rfl) ?_
  show hk_V Gd (N_xReader_wrong l) (hk_end Gd s0 (some (va_rf r)) fin) 0 [(0, .ref th)] [] s0
  unfold xReader_wrong at h
  refine hv_aload_n 0 dX6_wrong_0 rfl rfl ?_
  obtain ⟨x1, e_x1, h⟩ := hq_ob h
  refine hv_getI fl_X6_15 e_x1 dX6_wrong_1 ?_
  refine hv_if_ge (tgt := 15) dX6_wrong_4 (by decide) (fun c2 => ?_) (fun c2 => ?_)
  · replace h := hq_ip c2 h
    refine hv_null dX6_wrong_15 ?_
    obtain ⟨h1, h2⟩ := hq_ret h
    subst h1
    subst h2
    exact hv_aret rfl dX6_wrong_16
  · replace h := hq_in c2 h
    refine hv_aload_n 0 dX6_wrong_7 rfl rfl ?_
    refine hv_aload_n 0 dX6_wrong_8 rfl rfl ?_
    obtain ⟨x3, e_x3, h⟩ := hq_ob h
    refine hv_getI fl_X6_19 e_x3 dX6_wrong_9 ?_
    obtain ⟨s4, e_s4, h⟩ := hq_ob h
    refine hv_putI fp_X6_15 e_s4 (fun q => by cases q) dX6_wrong_12 ?_
    refine hv_null dX6_wrong_15 ?_
    obtain ⟨h1, h2⟩ := hq_ret h
    subst h1
    subst h2
    exact hv_aret rfl dX6_wrong_16
def xDenied_init (th : Nat) (p1 : Nat) (s0 : hk_St) : Option hk_St :=
  (xNode_init th s0).bind fun s1 =>
  (hk_pR [9] 900 s1 th (some p1)).bind fun s2 =>
  some s2
abbrev N_xDenied_init (l : Launch) : hk_N := (l, cX10_init, "HeadReckons$Denied", 2, none, 2, 40, true)
set_option maxHeartbeats 4000000 in
theorem wk_xDenied_init {l : Launch} {Gd : hk_G} {th : Nat} {p1 : Nat} {s0 : hk_St} {fin : hk_St} (h : xDenied_init th p1 s0 = some fin) : hk_Met Gd l yX10_init cX10_init 2 none 2 40 [.ref th, .ref p1] s0 none fin := by
  refine hk_start "HeadReckons$Denied" true (by decide +kernel) rfl (by decide) (Nat.le_of_ble_eq_true rfl) ?_
  show hk_V Gd (N_xDenied_init l) (hk_end Gd s0 none fin) 0 [(0, .ref th), (1, .ref p1)] [] s0
  unfold xDenied_init at h
  refine hv_aload_n 0 dX10_init_0 rfl rfl ?_
  obtain ⟨s1, e_s1, h⟩ := hq_ob h
  refine hv_callIN [] [] [] (wk_xNode_init e_s1) cs_X10_1 rfl ⟨Nat.le_of_ble_eq_true rfl, Nat.le_of_ble_eq_true rfl⟩ rfl (Nat.le_of_ble_eq_true rfl) rfl dX10_init_1 ?_
  refine hv_aload_n 0 dX10_init_4 rfl rfl ?_
  refine hv_aload_n 1 dX10_init_5 rfl rfl ?_
  obtain ⟨s2, e_s2, h⟩ := hq_ob h
  refine hv_putR fp_X10_7 e_s2 (fun _ => rfl) dX10_init_6 ?_
  have h := Option.some.inj h
  subst h
  exact hv_vret rfl dX10_init_9
def xTurned_init (th : Nat) (p1 : Nat) (s0 : hk_St) : Option hk_St :=
  (xNode_init th s0).bind fun s1 =>
  (hk_pR [10] 1000 s1 th (some p1)).bind fun s2 =>
  some s2
abbrev N_xTurned_init (l : Launch) : hk_N := (l, cX11_init, "HeadReckons$Turned", 2, none, 2, 40, true)
set_option maxHeartbeats 4000000 in
theorem wk_xTurned_init {l : Launch} {Gd : hk_G} {th : Nat} {p1 : Nat} {s0 : hk_St} {fin : hk_St} (h : xTurned_init th p1 s0 = some fin) : hk_Met Gd l yX11_init cX11_init 2 none 2 40 [.ref th, .ref p1] s0 none fin := by
  refine hk_start "HeadReckons$Turned" true (by decide +kernel) rfl (by decide) (Nat.le_of_ble_eq_true rfl) ?_
  show hk_V Gd (N_xTurned_init l) (hk_end Gd s0 none fin) 0 [(0, .ref th), (1, .ref p1)] [] s0
  unfold xTurned_init at h
  refine hv_aload_n 0 dX11_init_0 rfl rfl ?_
  obtain ⟨s1, e_s1, h⟩ := hq_ob h
  refine hv_callIN [] [] [] (wk_xNode_init e_s1) cs_X11_1 rfl ⟨Nat.le_of_ble_eq_true rfl, Nat.le_of_ble_eq_true rfl⟩ rfl (Nat.le_of_ble_eq_true rfl) rfl dX11_init_1 ?_
  refine hv_aload_n 0 dX11_init_4 rfl rfl ?_
  refine hv_aload_n 1 dX11_init_5 rfl rfl ?_
  obtain ⟨s2, e_s2, h⟩ := hq_ob h
  refine hv_putR fp_X11_7 e_s2 (fun _ => rfl) dX11_init_6 ?_
  have h := Option.some.inj h
  subst h
  exact hv_vret rfl dX11_init_9
def xLeaf_init (th : Nat) (p1 : Int32) (s0 : hk_St) : Option hk_St :=
  (xNode_init th s0).bind fun s1 =>
  (hk_pI [11] 1100 s1 th p1).bind fun s2 =>
  some s2
abbrev N_xLeaf_init (l : Launch) : hk_N := (l, cX12_init, "HeadReckons$Leaf", 2, none, 2, 40, true)
set_option maxHeartbeats 4000000 in
theorem wk_xLeaf_init {l : Launch} {Gd : hk_G} {th : Nat} {p1 : Int32} {s0 : hk_St} {fin : hk_St} (h : xLeaf_init th p1 s0 = some fin) : hk_Met Gd l yX12_init cX12_init 2 none 2 40 [.ref th, .int p1] s0 none fin := by
  refine hk_start "HeadReckons$Leaf" true (by decide +kernel) rfl (by decide) (Nat.le_of_ble_eq_true rfl) ?_
  show hk_V Gd (N_xLeaf_init l) (hk_end Gd s0 none fin) 0 [(0, .ref th), (1, .int p1)] [] s0
  unfold xLeaf_init at h
  refine hv_aload_n 0 dX12_init_0 rfl rfl ?_
  obtain ⟨s1, e_s1, h⟩ := hq_ob h
  refine hv_callIN [] [] [] (wk_xNode_init e_s1) cs_X12_1 rfl ⟨Nat.le_of_ble_eq_true rfl, Nat.le_of_ble_eq_true rfl⟩ rfl (Nat.le_of_ble_eq_true rfl) rfl dX12_init_1 ?_
  refine hv_aload_n 0 dX12_init_4 rfl rfl ?_
  refine hv_iload_n 1 dX12_init_5 rfl rfl ?_
  obtain ⟨s2, e_s2, h⟩ := hq_ob h
  refine hv_putI fp_X12_7 e_s2 (fun _ => rfl) dX12_init_6 ?_
  have h := Option.some.inj h
  subst h
  exact hv_vret rfl dX12_init_9
def xReader_operand_L179b (rc_operand : Nat → hk_St → Option (Option Nat × hk_St)) (rc_either : Nat → hk_St → Option (Option Nat × hk_St)) (th : Nat) (e0 : Int32 → Int32 → hk_St → Option (Option Nat × hk_St)) (rc : Int32 → Int32 → hk_St → Option (Option Nat × hk_St)) (v34 : Int32) (v35 : Int32) (s36 : hk_St) : Option (Option Nat × hk_St) :=
  if (4 : Int32) ≤ v34 then
    e0 v34 v35 s36
  else
  (xReader_here th s36).bind fun x41 =>
  hk_gd (hk_bf [6] s36 th) <|
  if (x_in x41 (48 : Int32) (57 : Int32)) = 0 then
    e0 v34 v35 s36
  else
  (xReader_here th s36).bind fun x44 =>
  hk_gd (hk_bf [6] s36 th) <|
  hk_nm ((((10 : Int32) * v35) + x44) - (48 : Int32)) fun x46 =>
  hk_nm (v34 + (1 : Int32)) fun x47 =>
  (hk_gI [6] 600 s36 th).bind fun x48 =>
  (hk_pI [6] 600 s36 th (x48 + (1 : Int32))).bind fun s49 =>
  rc x47 x46 s49
def xReader_operand_L179 (rc_operand : Nat → hk_St → Option (Option Nat × hk_St)) (rc_either : Nat → hk_St → Option (Option Nat × hk_St)) (th : Nat) (e0 : Int32 → Int32 → hk_St → Option (Option Nat × hk_St)) : Nat → Int32 → Int32 → hk_St → Option (Option Nat × hk_St)
  | 0 => fun _ _ _ => none
  | n + 1 => xReader_operand_L179b rc_operand rc_either th e0 (xReader_operand_L179 rc_operand rc_either th e0 n)
def xReader_operand (rc_operand : Nat → hk_St → Option (Option Nat × hk_St)) (rc_either : Nat → hk_St → Option (Option Nat × hk_St)) (th : Nat) (s0 : hk_St) : Option (Option Nat × hk_St) :=
  hk_nm (fun (s1 : hk_St) =>
    (xReader_wrong th s1).bind fun q2 =>
    hk_gd (hk_bf [6] s1 th) <|
    some (q2.1, q2.2)) fun k245 =>
  hk_nm (fun (v4 : Int32) (s5 : hk_St) =>
    (xReader_opens th s5).bind fun q6 =>
    hk_gd (hk_bf [6] s5 th) <|
    if q6.1 = 0 then
      (xReader_wrong th q6.2).bind fun q24 =>
    hk_gd (hk_bf [6] q6.2 th) <|
    some (q24.1, q24.2)
    else
    (rc_operand th q6.2).bind fun q9 =>
      hk_gd (hk_bf [6] q6.2 th) <|
      (hk_gI [6] 602 q9.2 th).bind fun x11 =>
      (hk_pI [6] 602 q9.2 th (x11 - (1 : Int32))).bind fun s12 =>
      (hk_gI [6] 601 s12 th).bind fun x13 =>
      if x13 < 0 then
        if v4 = (33 : Int32) then
          hk_nm (hk_nx s12) fun a20 =>
        hk_nm (hk_mk s12 9 0 1) fun s21 =>
        hk_nn q9.1 fun a22 =>
        (xDenied_init a20 a22 s21).bind fun s23 =>
        some (some a20, s23)
        else
        hk_nm (hk_nx s12) fun a16 =>
          hk_nm (hk_mk s12 10 0 1) fun s17 =>
          hk_nn q9.1 fun a18 =>
          (xTurned_init a16 a18 s17).bind fun s19 =>
          some (some a16, s19)
      else
      some (none, s12)) fun k45 =>
  (xReader_here th s0).bind fun x26 =>
  hk_gd (hk_bf [6] s0 th) <|
  (xReader_isOne th 3 s0).bind fun x28 =>
  hk_gd (hk_bf [6] s0 th) <|
  if x28 = 0 then
    if x26 = (33 : Int32) then
      k45 x26 s0
    else
    if x26 = (45 : Int32) then
      k45 x26 s0
    else
    if x26 = (40 : Int32) then
        (xReader_opens th s0).bind fun q57 =>
      hk_gd (hk_bf [6] s0 th) <|
      if q57.1 = 0 then
        (xReader_wrong th q57.2).bind fun q73 =>
      hk_gd (hk_bf [6] q57.2 th) <|
      some (q73.1, q73.2)
      else
      (rc_either th q57.2).bind fun q60 =>
        hk_gd (hk_bf [6] q57.2 th) <|
        (hk_gI [6] 601 q60.2 th).bind fun x62 =>
        if x62 < 0 then
          (xReader_here th q60.2).bind fun x64 =>
          hk_gd (hk_bf [6] q60.2 th) <|
          if x64 = (41 : Int32) then
            (hk_gI [6] 600 q60.2 th).bind fun x67 =>
            (hk_pI [6] 600 q60.2 th (x67 + (1 : Int32))).bind fun s68 =>
            (hk_gI [6] 602 s68 th).bind fun x69 =>
            (hk_pI [6] 602 s68 th (x69 - (1 : Int32))).bind fun s70 =>
            some (q60.1, s70)
          else
          (xReader_wrong th q60.2).bind fun q71 =>
          hk_gd (hk_bf [6] q60.2 th) <|
          some (q71.1, q71.2)
        else
        some (none, q60.2)
      else
      xReader_operand_L179 rc_operand rc_either th  (fun (v37 : Int32) (v38 : Int32) (s39 : hk_St) =>
          if v37 = 0 then
            k245 s39
          else
          (xReader_here th s39).bind fun x51 =>
          hk_gd (hk_bf [6] s39 th) <|
          if (x_in x51 (48 : Int32) (57 : Int32)) = 0 then
            hk_nm (hk_nx s39) fun a54 =>
            hk_nm (hk_mk s39 11 0 1) fun s55 =>
            (xLeaf_init a54 v38 s55).bind fun s56 =>
            some (some a54, s56)
          else
          k245 s39) hk_F (0 : Int32) (0 : Int32) s0
  else
  (hk_gI [6] 600 s0 th).bind fun x75 =>
  (hk_pI [6] 600 s0 th (x75 + (1 : Int32))).bind fun s76 =>
  hk_nm (hk_nx s76) fun a77 =>
  hk_nm (hk_mk s76 8 0 1) fun s78 =>
  (xName_init a77 x26 s78).bind fun s79 =>
  some (some a77, s79)
abbrev N_xReader_operand (l : Launch) (fr lo : Nat) : hk_N := (l, cX6_operand, "HeadReckons$Reader", 4, (some (.object "HeadReckons$Node")), fr, lo, false)
set_option maxHeartbeats 4000000 in
theorem wk_xReader_operand_L179b {l : Launch} {Gd : hk_G} {fr lo fr' lo' : Nat} (hroom : fr' + 1 ≤ fr ∧ lo' + 60 ≤ lo ∧ 40 ≤ fr ∧ 1500 ≤ lo) {rc_operand : Nat → hk_St → Option (Option Nat × hk_St)} (h_operand : ∀ (b0 : Nat) (z : hk_St) (r : Option Nat) (z2 : hk_St), rc_operand b0 z = some (r, z2) → hk_Met Gd l yX6_operand cX6_operand 4 (some (.object "HeadReckons$Node")) fr' lo' [.ref b0] z (some (va_rf r)) z2) {rc_either : Nat → hk_St → Option (Option Nat × hk_St)} (h_either : ∀ (b0 : Nat) (z : hk_St) (r : Option Nat) (z2 : hk_St), rc_either b0 z = some (r, z2) → hk_Met Gd l yX6_either cX6_either 2 (some (.object "HeadReckons$Node")) fr' lo' [.ref b0] z (some (va_rf r)) z2) {th : Nat} {s0 : hk_St} {r : Option Nat} {fin : hk_St} {e0 : Int32 → Int32 → hk_St → Option (Option Nat × hk_St)} {rc : Int32 → Int32 → hk_St → Option (Option Nat × hk_St)} (hrc : ∀ (v34 : Int32) (v35 : Int32) (s36 : hk_St), rc v34 v35 s36 = some (r, fin) → hk_V Gd (N_xReader_operand l fr lo) (hk_end Gd s0 (some (va_rf r)) fin) 179 [(0, .ref th), (2, .int v34), (3, .int v35)] [] s36) (he0 : ∀ (v37 : Int32) (v38 : Int32) (s39 : hk_St), e0 v37 v38 s39 = some (r, fin) → hk_V Gd (N_xReader_operand l fr lo) (hk_end Gd s0 (some (va_rf r)) fin) 227 [(0, .ref th), (2, .int v37), (3, .int v38)] [] s39) {v34 : Int32} {v35 : Int32} {s36 : hk_St} (h : xReader_operand_L179b rc_operand rc_either th e0 rc v34 v35 s36 = some (r, fin)) : hk_V Gd (N_xReader_operand l fr lo) (hk_end Gd s0 (some (va_rf r)) fin) 179 [(0, .ref th), (2, .int v34), (3, .int v35)] [] s36 := by
  unfold xReader_operand_L179b at h
  refine hv_iload_n 1 dX6_operand_179 rfl rfl ?_
  refine hv_iconst (v := 4) dX6_operand_180 (by decide) ?_
  refine hv_icmp_ge (tgt := 227) dX6_operand_181 (by decide) (fun c40 => ?_) (fun c40 => ?_)
  · replace h := hq_ip c40 h
    exact he0 _ _ _ h
  · replace h := hq_in c40 h
    refine hv_aload_n 0 dX6_operand_184 rfl rfl ?_
    obtain ⟨x41, e_x41, h⟩ := hq_ob h
    obtain ⟨g42, h⟩ := hq_gd h
    refine hv_callV [] [] [.int x41] (wk_xReader_here e_x41) cs_X6_29 g42 rfl ⟨by show _ ≤ fr; omega, by show _ ≤ lo; omega⟩ rfl (Nat.le_of_ble_eq_true rfl) rfl dX6_operand_185 ?_
    refine hv_bipush (v := 48) dX6_operand_188 (by decide) ?_
    refine hv_bipush (v := 57) dX6_operand_190 (by decide) ?_
    refine hv_callSN [.int x41, .int (48 : Int32), .int (57 : Int32)] [] [.int (x_in x41 (48 : Int32) (57 : Int32))] (wk_x_in rfl) cs_X6_120 rfl ⟨by show _ ≤ fr; omega, by show _ ≤ lo; omega⟩ rfl (Nat.le_of_ble_eq_true rfl) rfl dX6_operand_192 ?_
    refine hv_if_eq (tgt := 227) dX6_operand_195 (by decide) (fun c43 => ?_) (fun c43 => ?_)
    · replace h := hq_ip c43 h
      exact he0 _ _ _ h
    · replace h := hq_in c43 h
      refine hv_bipush (v := 10) dX6_operand_198 (by decide) ?_
      refine hv_iload_n 2 dX6_operand_200 rfl rfl ?_
      refine hv_imul dX6_operand_201 ?_
      refine hv_aload_n 0 dX6_operand_202 rfl rfl ?_
      obtain ⟨x44, e_x44, h⟩ := hq_ob h
      obtain ⟨g45, h⟩ := hq_gd h
      refine hv_callV [] [.int ((10 : Int32) * v35)] [.int x44, .int ((10 : Int32) * v35)] (wk_xReader_here e_x44) cs_X6_29 g45 rfl ⟨by show _ ≤ fr; omega, by show _ ≤ lo; omega⟩ rfl (Nat.le_of_ble_eq_true rfl) rfl dX6_operand_203 ?_
      refine hv_iadd dX6_operand_206 ?_
      refine hv_bipush (v := 48) dX6_operand_207 (by decide) ?_
      refine hv_isub dX6_operand_209 ?_
      obtain ⟨x46, e_x46, h⟩ := hq_nm h
      rw [← e_x46]
      refine hv_istore_n (L' := [(3, .int x46), (0, .ref th), (2, .int v34)]) dX6_operand_210 rfl (Nat.le_of_ble_eq_true rfl) rfl ?_
      obtain ⟨x47, e_x47, h⟩ := hq_nm h
      refine hv_iinc (v := x47) (L' := [(2, .int x47), (3, .int x46), (0, .ref th)]) 2 dX6_operand_211 rfl (by rw [e_x47]; rfl) (Nat.le_of_ble_eq_true rfl) rfl ?_
      refine hv_aload_n 2 dX6_operand_214 rfl rfl ?_
      refine hv_dup dX6_operand_215 rfl ?_
      obtain ⟨x48, e_x48, h⟩ := hq_ob h
      refine hv_getI fl_X6_19 e_x48 dX6_operand_216 ?_
      refine hv_iconst (v := 1) dX6_operand_219 (by decide) ?_
      refine hv_iadd dX6_operand_220 ?_
      obtain ⟨s49, e_s49, h⟩ := hq_ob h
      refine hv_putI fp_X6_19 e_s49 (fun q => by cases q) dX6_operand_221 ?_
      refine hv_goto (tgt := 179) dX6_operand_224 (by decide) ?_
      refine hv_sub [2, 0, 1] rfl ?_
      exact hrc _ _ _ h
theorem wk_xReader_operand_L179 {l : Launch} {Gd : hk_G} {fr lo fr' lo' : Nat} (hroom : fr' + 1 ≤ fr ∧ lo' + 60 ≤ lo ∧ 40 ≤ fr ∧ 1500 ≤ lo) {rc_operand : Nat → hk_St → Option (Option Nat × hk_St)} (h_operand : ∀ (b0 : Nat) (z : hk_St) (r : Option Nat) (z2 : hk_St), rc_operand b0 z = some (r, z2) → hk_Met Gd l yX6_operand cX6_operand 4 (some (.object "HeadReckons$Node")) fr' lo' [.ref b0] z (some (va_rf r)) z2) {rc_either : Nat → hk_St → Option (Option Nat × hk_St)} (h_either : ∀ (b0 : Nat) (z : hk_St) (r : Option Nat) (z2 : hk_St), rc_either b0 z = some (r, z2) → hk_Met Gd l yX6_either cX6_either 2 (some (.object "HeadReckons$Node")) fr' lo' [.ref b0] z (some (va_rf r)) z2) {th : Nat} {s0 : hk_St} {r : Option Nat} {fin : hk_St} {e0 : Int32 → Int32 → hk_St → Option (Option Nat × hk_St)} (he0 : ∀ (v37 : Int32) (v38 : Int32) (s39 : hk_St), e0 v37 v38 s39 = some (r, fin) → hk_V Gd (N_xReader_operand l fr lo) (hk_end Gd s0 (some (va_rf r)) fin) 227 [(0, .ref th), (2, .int v37), (3, .int v38)] [] s39) : ∀ (n : Nat) (v34 : Int32) (v35 : Int32) (s36 : hk_St), xReader_operand_L179 rc_operand rc_either th e0 n v34 v35 s36 = some (r, fin) → hk_V Gd (N_xReader_operand l fr lo) (hk_end Gd s0 (some (va_rf r)) fin) 179 [(0, .ref th), (2, .int v34), (3, .int v35)] [] s36 := by
  intro n
  induction n with
  | zero => intro v34 v35 s36 h; cases h
  | succ n ih => intro v34 v35 s36 h; exact wk_xReader_operand_L179b hroom h_operand h_either ih he0 h
set_option maxHeartbeats 4000000 in
theorem wk_xReader_operand {l : Launch} {Gd : hk_G} {fr lo fr' lo' : Nat} (hroom : fr' + 1 ≤ fr ∧ lo' + 60 ≤ lo ∧ 40 ≤ fr ∧ 1500 ≤ lo) {rc_operand : Nat → hk_St → Option (Option Nat × hk_St)} (h_operand : ∀ (b0 : Nat) (z : hk_St) (r : Option Nat) (z2 : hk_St), rc_operand b0 z = some (r, z2) → hk_Met Gd l yX6_operand cX6_operand 4 (some (.object "HeadReckons$Node")) fr' lo' [.ref b0] z (some (va_rf r)) z2) {rc_either : Nat → hk_St → Option (Option Nat × hk_St)} (h_either : ∀ (b0 : Nat) (z : hk_St) (r : Option Nat) (z2 : hk_St), rc_either b0 z = some (r, z2) → hk_Met Gd l yX6_either cX6_either 2 (some (.object "HeadReckons$Node")) fr' lo' [.ref b0] z (some (va_rf r)) z2) {th : Nat} {s0 : hk_St} {r : Option Nat} {fin : hk_St} (h : xReader_operand rc_operand rc_either th s0 = some (r, fin)) : hk_Met Gd l yX6_operand cX6_operand 4 (some (.object "HeadReckons$Node")) fr lo [.ref th] s0 (some (va_rf r)) fin := by
  refine hk_start "HeadReckons$Reader" false (by decide +kernel) rfl (by decide) (Nat.le_of_ble_eq_true rfl) ?_
  show hk_V Gd (N_xReader_operand l fr lo) (hk_end Gd s0 (some (va_rf r)) fin) 0 [(0, .ref th)] [] s0
  unfold xReader_operand at h
  obtain ⟨k245, e_k245, h⟩ := hq_nm h
  have wk245 : ∀ (s1 : hk_St), k245 s1 = some (r, fin) → hk_V Gd (N_xReader_operand l fr lo) (hk_end Gd s0 (some (va_rf r)) fin) 245 [(0, .ref th)] [] s1 := by
    intro s1 h
    rw [e_k245] at h
    refine hv_aload_n 0 dX6_operand_245 rfl rfl ?_
    obtain ⟨q2, e_q2, h⟩ := hq_ob h
    obtain ⟨g3, h⟩ := hq_gd h
    refine hv_callV [] [] [va_rf q2.1] (wk_xReader_wrong e_q2) cs_X6_109 g3 rfl ⟨by show _ ≤ fr; omega, by show _ ≤ lo; omega⟩ rfl (Nat.le_of_ble_eq_true rfl) rfl dX6_operand_246 ?_
    refine hv_goto (tgt := 260) dX6_operand_249 (by decide) ?_
    obtain ⟨h1, h2⟩ := hq_ret h
    subst h1
    subst h2
    exact hv_aret rfl dX6_operand_260
  clear e_k245
  obtain ⟨k45, e_k45, h⟩ := hq_nm h
  have wk45 : ∀ (v4 : Int32) (s5 : hk_St), k45 v4 s5 = some (r, fin) → hk_V Gd (N_xReader_operand l fr lo) (hk_end Gd s0 (some (va_rf r)) fin) 45 [(0, .ref th), (1, .int v4)] [] s5 := by
    intro v4 s5 h
    rw [e_k45] at h
    refine hv_aload_n 0 dX6_operand_45 rfl rfl ?_
    obtain ⟨q6, e_q6, h⟩ := hq_ob h
    obtain ⟨g7, h⟩ := hq_gd h
    refine hv_callV [] [] [.int q6.1] (wk_xReader_opens e_q6) cs_X6_105 g7 rfl ⟨by show _ ≤ fr; omega, by show _ ≤ lo; omega⟩ rfl (Nat.le_of_ble_eq_true rfl) rfl dX6_operand_46 ?_
    refine hv_if_ne (tgt := 57) dX6_operand_49 (by decide) (fun c8 => ?_) (fun c8 => ?_)
    · replace h := hq_in c8 h
      refine hv_aload_n 0 dX6_operand_57 rfl rfl ?_
      obtain ⟨q9, e_q9, h⟩ := hq_ob h
      obtain ⟨g10, h⟩ := hq_gd h
      refine hv_callV [] [] [va_rf q9.1] (h_operand _ _ _ _ e_q9) cs_X6_90 g10 rfl ⟨by show _ ≤ fr; omega, by show _ ≤ lo; omega⟩ rfl (Nat.le_of_ble_eq_true rfl) rfl dX6_operand_58 ?_
      refine hv_astore_nq (L' := [(2, va_rf q9.1), (0, .ref th), (1, .int v4)]) dX6_operand_61 rfl (Nat.le_of_ble_eq_true rfl) rfl ?_
      refine hv_aload_n 1 dX6_operand_62 rfl rfl ?_
      refine hv_dup dX6_operand_63 rfl ?_
      obtain ⟨x11, e_x11, h⟩ := hq_ob h
      refine hv_getI fl_X6_95 e_x11 dX6_operand_64 ?_
      refine hv_iconst (v := 1) dX6_operand_67 (by decide) ?_
      refine hv_isub dX6_operand_68 ?_
      obtain ⟨s12, e_s12, h⟩ := hq_ob h
      refine hv_putI fp_X6_95 e_s12 (fun q => by cases q) dX6_operand_69 ?_
      refine hv_aload_n 1 dX6_operand_72 rfl rfl ?_
      obtain ⟨x13, e_x13, h⟩ := hq_ob h
      refine hv_getI fl_X6_15 e_x13 dX6_operand_73 ?_
      refine hv_if_lt (tgt := 81) dX6_operand_76 (by decide) (fun c14 => ?_) (fun c14 => ?_)
      · replace h := hq_ip c14 h
        refine hv_iload_n 2 dX6_operand_81 rfl rfl ?_
        refine hv_bipush (v := 33) dX6_operand_82 (by decide) ?_
        refine hv_icmp_ne (tgt := 98) dX6_operand_84 (by decide) (fun c15 => ?_) (fun c15 => ?_)
        · replace h := hq_in c15 h
          obtain ⟨a16, e_a16, h⟩ := hq_nm h
          obtain ⟨s17, e_s17, h⟩ := hq_nm h
          refine hv_new (ci := 10) (r := (RX11, TX11, 1)) rfl hk_ok10 (by decide) q585 q586 q109 dX6_operand_98 ?_
          rw [show hk_mk s12 10 0 ((RX11, TX11, 1) : vw_C).2.2 = s17 from e_s17.symm, ← e_a16]
          refine hv_dup dX6_operand_101 rfl ?_
          refine hv_aload_nq 0 dX6_operand_102 rfl rfl ?_
          obtain ⟨a18, e_a18, h⟩ := hq_nn h
          rw [e_a18]
          obtain ⟨s19, e_s19, h⟩ := hq_ob h
          refine hv_callI [.ref a18] [.ref a16] [.ref a16] (wk_xTurned_init e_s19) cs_X6_119 rfl ⟨by show _ ≤ fr; omega, by show _ ≤ lo; omega⟩ rfl (Nat.le_of_ble_eq_true rfl) rfl dX6_operand_103 ?_
          obtain ⟨h1, h2⟩ := hq_ret h
          subst h1
          subst h2
          exact hv_aret rfl dX6_operand_106
        · replace h := hq_ip c15 h
          obtain ⟨a20, e_a20, h⟩ := hq_nm h
          obtain ⟨s21, e_s21, h⟩ := hq_nm h
          refine hv_new (ci := 9) (r := (RX10, TX10, 1)) rfl hk_ok9 (by decide) q575 q576 q108 dX6_operand_87 ?_
          rw [show hk_mk s12 9 0 ((RX10, TX10, 1) : vw_C).2.2 = s21 from e_s21.symm, ← e_a20]
          refine hv_dup dX6_operand_90 rfl ?_
          refine hv_aload_nq 0 dX6_operand_91 rfl rfl ?_
          obtain ⟨a22, e_a22, h⟩ := hq_nn h
          rw [e_a22]
          obtain ⟨s23, e_s23, h⟩ := hq_ob h
          refine hv_callI [.ref a22] [.ref a20] [.ref a20] (wk_xDenied_init e_s23) cs_X6_114 rfl ⟨by show _ ≤ fr; omega, by show _ ≤ lo; omega⟩ rfl (Nat.le_of_ble_eq_true rfl) rfl dX6_operand_92 ?_
          refine hv_goto (tgt := 106) dX6_operand_95 (by decide) ?_
          obtain ⟨h1, h2⟩ := hq_ret h
          subst h1
          subst h2
          exact hv_aret rfl dX6_operand_106
      · replace h := hq_in c14 h
        refine hv_null dX6_operand_79 ?_
        obtain ⟨h1, h2⟩ := hq_ret h
        subst h1
        subst h2
        exact hv_aret rfl dX6_operand_80
    · replace h := hq_ip c8 h
      refine hv_aload_n 0 dX6_operand_52 rfl rfl ?_
      obtain ⟨q24, e_q24, h⟩ := hq_ob h
      obtain ⟨g25, h⟩ := hq_gd h
      refine hv_callV [] [] [va_rf q24.1] (wk_xReader_wrong e_q24) cs_X6_109 g25 rfl ⟨by show _ ≤ fr; omega, by show _ ≤ lo; omega⟩ rfl (Nat.le_of_ble_eq_true rfl) rfl dX6_operand_53 ?_
      obtain ⟨h1, h2⟩ := hq_ret h
      subst h1
      subst h2
      exact hv_aret rfl dX6_operand_56
  clear e_k45
  refine hv_aload_n 0 dX6_operand_0 rfl rfl ?_
  obtain ⟨x26, e_x26, h⟩ := hq_ob h
  obtain ⟨g27, h⟩ := hq_gd h
  refine hv_callV [] [] [.int x26] (wk_xReader_here e_x26) cs_X6_29 g27 rfl ⟨by show _ ≤ fr; omega, by show _ ≤ lo; omega⟩ rfl (Nat.le_of_ble_eq_true rfl) rfl dX6_operand_1 ?_
  refine hv_istore_n (L' := [(1, .int x26), (0, .ref th)]) dX6_operand_4 rfl (Nat.le_of_ble_eq_true rfl) rfl ?_
  refine hv_aload_n 1 dX6_operand_5 rfl rfl ?_
  refine hs_ldc (i := 3) (by decide) rfl rfl dX6_operand_6 ?_
  obtain ⟨x28, e_x28, h⟩ := hq_ob h
  obtain ⟨g29, h⟩ := hq_gd h
  refine hv_callV [.ref (hk_aK Gd 3)] [] [.int x28] (wk_xReader_isOne (by decide) e_x28) cs_X6_81 g29 rfl ⟨by show _ ≤ fr; omega, by show _ ≤ lo; omega⟩ rfl (Nat.le_of_ble_eq_true rfl) rfl dX6_operand_8 ?_
  refine hv_if_eq (tgt := 33) dX6_operand_11 (by decide) (fun c30 => ?_) (fun c30 => ?_)
  · replace h := hq_ip c30 h
    refine hv_iload_n 0 dX6_operand_33 rfl rfl ?_
    refine hv_bipush (v := 33) dX6_operand_34 (by decide) ?_
    refine hv_icmp_eq (tgt := 45) dX6_operand_36 (by decide) (fun c31 => ?_) (fun c31 => ?_)
    · replace h := hq_ip c31 h
      refine hv_sub [1, 0] rfl ?_
      exact wk45 _ _ h
    · replace h := hq_in c31 h
      refine hv_iload_n 0 dX6_operand_39 rfl rfl ?_
      refine hv_bipush (v := 45) dX6_operand_40 (by decide) ?_
      refine hv_icmp_ne (tgt := 107) dX6_operand_42 (by decide) (fun c32 => ?_) (fun c32 => ?_)
      · replace h := hq_in c32 h
        refine hv_iload_n 0 dX6_operand_107 rfl rfl ?_
        refine hv_bipush (v := 40) dX6_operand_108 (by decide) ?_
        refine hv_icmp_ne (tgt := 175) dX6_operand_110 (by decide) (fun c33 => ?_) (fun c33 => ?_)
        · replace h := hq_in c33 h
          refine hv_iconst (v := 0) dX6_operand_175 (by decide) ?_
          refine hv_istore_n (L' := [(2, .int (0 : Int32)), (1, .int x26), (0, .ref th)]) dX6_operand_176 rfl (Nat.le_of_ble_eq_true rfl) rfl ?_
          refine hv_iconst (v := 0) dX6_operand_177 (by decide) ?_
          refine hv_istore_n (L' := [(3, .int (0 : Int32)), (2, .int (0 : Int32)), (1, .int x26), (0, .ref th)]) dX6_operand_178 rfl (Nat.le_of_ble_eq_true rfl) rfl ?_
          refine hv_sub [3, 1, 0] rfl ?_
          refine wk_xReader_operand_L179 hroom h_operand h_either ?_ hk_F _ _ _ h
          · intro v37 v38 s39 h
            refine hv_iload_n 1 dX6_operand_227 rfl rfl ?_
            refine hv_if_eq (tgt := 245) dX6_operand_228 (by decide) (fun c50 => ?_) (fun c50 => ?_)
            · replace h := hq_ip c50 h
              refine hv_sub [0] rfl ?_
              exact wk245 _ h
            · replace h := hq_in c50 h
              refine hv_aload_n 0 dX6_operand_231 rfl rfl ?_
              obtain ⟨x51, e_x51, h⟩ := hq_ob h
              obtain ⟨g52, h⟩ := hq_gd h
              refine hv_callV [] [] [.int x51] (wk_xReader_here e_x51) cs_X6_29 g52 rfl ⟨by show _ ≤ fr; omega, by show _ ≤ lo; omega⟩ rfl (Nat.le_of_ble_eq_true rfl) rfl dX6_operand_232 ?_
              refine hv_bipush (v := 48) dX6_operand_235 (by decide) ?_
              refine hv_bipush (v := 57) dX6_operand_237 (by decide) ?_
              refine hv_callSN [.int x51, .int (48 : Int32), .int (57 : Int32)] [] [.int (x_in x51 (48 : Int32) (57 : Int32))] (wk_x_in rfl) cs_X6_120 rfl ⟨by show _ ≤ fr; omega, by show _ ≤ lo; omega⟩ rfl (Nat.le_of_ble_eq_true rfl) rfl dX6_operand_239 ?_
              refine hv_if_eq (tgt := 252) dX6_operand_242 (by decide) (fun c53 => ?_) (fun c53 => ?_)
              · replace h := hq_ip c53 h
                obtain ⟨a54, e_a54, h⟩ := hq_nm h
                obtain ⟨s55, e_s55, h⟩ := hq_nm h
                refine hv_new (ci := 11) (r := (RX12, TX12, 1)) rfl hk_ok11 (by decide) q596 q597 q110 dX6_operand_252 ?_
                rw [show hk_mk s39 11 0 ((RX12, TX12, 1) : vw_C).2.2 = s55 from e_s55.symm, ← e_a54]
                refine hv_dup dX6_operand_255 rfl ?_
                refine hv_iload_n 2 dX6_operand_256 rfl rfl ?_
                obtain ⟨s56, e_s56, h⟩ := hq_ob h
                refine hv_callI [.int v38] [.ref a54] [.ref a54] (wk_xLeaf_init e_s56) cs_X6_126 rfl ⟨by show _ ≤ fr; omega, by show _ ≤ lo; omega⟩ rfl (Nat.le_of_ble_eq_true rfl) rfl dX6_operand_257 ?_
                obtain ⟨h1, h2⟩ := hq_ret h
                subst h1
                subst h2
                exact hv_aret rfl dX6_operand_260
              · replace h := hq_in c53 h
                refine hv_sub [0] rfl ?_
                exact wk245 _ h
        · replace h := hq_ip c33 h
          refine hv_aload_n 1 dX6_operand_113 rfl rfl ?_
          obtain ⟨q57, e_q57, h⟩ := hq_ob h
          obtain ⟨g58, h⟩ := hq_gd h
          refine hv_callV [] [] [.int q57.1] (wk_xReader_opens e_q57) cs_X6_105 g58 rfl ⟨by show _ ≤ fr; omega, by show _ ≤ lo; omega⟩ rfl (Nat.le_of_ble_eq_true rfl) rfl dX6_operand_114 ?_
          refine hv_if_ne (tgt := 125) dX6_operand_117 (by decide) (fun c59 => ?_) (fun c59 => ?_)
          · replace h := hq_in c59 h
            refine hv_aload_n 1 dX6_operand_125 rfl rfl ?_
            obtain ⟨q60, e_q60, h⟩ := hq_ob h
            obtain ⟨g61, h⟩ := hq_gd h
            refine hv_callV [] [] [va_rf q60.1] (h_either _ _ _ _ e_q60) cs_X6_50 g61 rfl ⟨by show _ ≤ fr; omega, by show _ ≤ lo; omega⟩ rfl (Nat.le_of_ble_eq_true rfl) rfl dX6_operand_126 ?_
            refine hv_astore_nq (L' := [(2, va_rf q60.1), (1, .int x26), (0, .ref th)]) dX6_operand_129 rfl (Nat.le_of_ble_eq_true rfl) rfl ?_
            refine hv_aload_n 2 dX6_operand_130 rfl rfl ?_
            obtain ⟨x62, e_x62, h⟩ := hq_ob h
            refine hv_getI fl_X6_15 e_x62 dX6_operand_131 ?_
            refine hv_if_lt (tgt := 139) dX6_operand_134 (by decide) (fun c63 => ?_) (fun c63 => ?_)
            · replace h := hq_ip c63 h
              refine hv_aload_n 2 dX6_operand_139 rfl rfl ?_
              obtain ⟨x64, e_x64, h⟩ := hq_ob h
              obtain ⟨g65, h⟩ := hq_gd h
              refine hv_callV [] [] [.int x64] (wk_xReader_here e_x64) cs_X6_29 g65 rfl ⟨by show _ ≤ fr; omega, by show _ ≤ lo; omega⟩ rfl (Nat.le_of_ble_eq_true rfl) rfl dX6_operand_140 ?_
              refine hv_bipush (v := 41) dX6_operand_143 (by decide) ?_
              refine hv_icmp_eq (tgt := 153) dX6_operand_145 (by decide) (fun c66 => ?_) (fun c66 => ?_)
              · replace h := hq_ip c66 h
                refine hv_aload_n 2 dX6_operand_153 rfl rfl ?_
                refine hv_dup dX6_operand_154 rfl ?_
                obtain ⟨x67, e_x67, h⟩ := hq_ob h
                refine hv_getI fl_X6_19 e_x67 dX6_operand_155 ?_
                refine hv_iconst (v := 1) dX6_operand_158 (by decide) ?_
                refine hv_iadd dX6_operand_159 ?_
                obtain ⟨s68, e_s68, h⟩ := hq_ob h
                refine hv_putI fp_X6_19 e_s68 (fun q => by cases q) dX6_operand_160 ?_
                refine hv_aload_n 2 dX6_operand_163 rfl rfl ?_
                refine hv_dup dX6_operand_164 rfl ?_
                obtain ⟨x69, e_x69, h⟩ := hq_ob h
                refine hv_getI fl_X6_95 e_x69 dX6_operand_165 ?_
                refine hv_iconst (v := 1) dX6_operand_168 (by decide) ?_
                refine hv_isub dX6_operand_169 ?_
                obtain ⟨s70, e_s70, h⟩ := hq_ob h
                refine hv_putI fp_X6_95 e_s70 (fun q => by cases q) dX6_operand_170 ?_
                refine hv_aload_nq 0 dX6_operand_173 rfl rfl ?_
                obtain ⟨h1, h2⟩ := hq_ret h
                subst h1
                subst h2
                exact hv_aret rfl dX6_operand_174
              · replace h := hq_in c66 h
                refine hv_aload_n 2 dX6_operand_148 rfl rfl ?_
                obtain ⟨q71, e_q71, h⟩ := hq_ob h
                obtain ⟨g72, h⟩ := hq_gd h
                refine hv_callV [] [] [va_rf q71.1] (wk_xReader_wrong e_q71) cs_X6_109 g72 rfl ⟨by show _ ≤ fr; omega, by show _ ≤ lo; omega⟩ rfl (Nat.le_of_ble_eq_true rfl) rfl dX6_operand_149 ?_
                obtain ⟨h1, h2⟩ := hq_ret h
                subst h1
                subst h2
                exact hv_aret rfl dX6_operand_152
            · replace h := hq_in c63 h
              refine hv_null dX6_operand_137 ?_
              obtain ⟨h1, h2⟩ := hq_ret h
              subst h1
              subst h2
              exact hv_aret rfl dX6_operand_138
          · replace h := hq_ip c59 h
            refine hv_aload_n 1 dX6_operand_120 rfl rfl ?_
            obtain ⟨q73, e_q73, h⟩ := hq_ob h
            obtain ⟨g74, h⟩ := hq_gd h
            refine hv_callV [] [] [va_rf q73.1] (wk_xReader_wrong e_q73) cs_X6_109 g74 rfl ⟨by show _ ≤ fr; omega, by show _ ≤ lo; omega⟩ rfl (Nat.le_of_ble_eq_true rfl) rfl dX6_operand_121 ?_
            obtain ⟨h1, h2⟩ := hq_ret h
            subst h1
            subst h2
            exact hv_aret rfl dX6_operand_124
      · replace h := hq_ip c32 h
        refine hv_sub [1, 0] rfl ?_
        exact wk45 _ _ h
  · replace h := hq_in c30 h
    refine hv_aload_n 1 dX6_operand_14 rfl rfl ?_
    refine hv_dup dX6_operand_15 rfl ?_
    obtain ⟨x75, e_x75, h⟩ := hq_ob h
    refine hv_getI fl_X6_19 e_x75 dX6_operand_16 ?_
    refine hv_iconst (v := 1) dX6_operand_19 (by decide) ?_
    refine hv_iadd dX6_operand_20 ?_
    obtain ⟨s76, e_s76, h⟩ := hq_ob h
    refine hv_putI fp_X6_19 e_s76 (fun q => by cases q) dX6_operand_21 ?_
    obtain ⟨a77, e_a77, h⟩ := hq_nm h
    obtain ⟨s78, e_s78, h⟩ := hq_nm h
    refine hv_new (ci := 8) (r := (RX9, TX9, 1)) rfl hk_ok8 (by decide) q554 q555 q107 dX6_operand_24 ?_
    rw [show hk_mk s76 8 0 ((RX9, TX9, 1) : vw_C).2.2 = s78 from e_s78.symm, ← e_a77]
    refine hv_dup dX6_operand_27 rfl ?_
    refine hv_iload_n 0 dX6_operand_28 rfl rfl ?_
    obtain ⟨s79, e_s79, h⟩ := hq_ob h
    refine hv_callI [.int x26] [.ref a77] [.ref a77] (wk_xName_init e_s79) cs_X6_102 rfl ⟨by show _ ≤ fr; omega, by show _ ≤ lo; omega⟩ rfl (Nat.le_of_ble_eq_true rfl) rfl dX6_operand_29 ?_
    obtain ⟨h1, h2⟩ := hq_ret h
    subst h1
    subst h2
    exact hv_aret rfl dX6_operand_32
def xPair_init (th : Nat) (p1 : Int32) (p2 : Nat) (p3 : Nat) (s0 : hk_St) : Option hk_St :=
  (xNode_init th s0).bind fun s1 =>
  (hk_pI [12] 1200 s1 th p1).bind fun s2 =>
  (hk_pR [12] 1201 s2 th (some p2)).bind fun s3 =>
  (hk_pR [12] 1202 s3 th (some p3)).bind fun s4 =>
  some s4
abbrev N_xPair_init (l : Launch) : hk_N := (l, cX13_init, "HeadReckons$Pair", 4, none, 2, 40, true)
set_option maxHeartbeats 4000000 in
theorem wk_xPair_init {l : Launch} {Gd : hk_G} {th : Nat} {p1 : Int32} {p2 : Nat} {p3 : Nat} {s0 : hk_St} {fin : hk_St} (h : xPair_init th p1 p2 p3 s0 = some fin) : hk_Met Gd l yX13_init cX13_init 4 none 2 40 [.ref th, .int p1, .ref p2, .ref p3] s0 none fin := by
  refine hk_start "HeadReckons$Pair" true (by decide +kernel) rfl (by decide) (Nat.le_of_ble_eq_true rfl) ?_
  show hk_V Gd (N_xPair_init l) (hk_end Gd s0 none fin) 0 [(0, .ref th), (1, .int p1), (2, .ref p2), (3, .ref p3)] [] s0
  unfold xPair_init at h
  refine hv_aload_n 0 dX13_init_0 rfl rfl ?_
  obtain ⟨s1, e_s1, h⟩ := hq_ob h
  refine hv_callIN [] [] [] (wk_xNode_init e_s1) cs_X13_1 rfl ⟨Nat.le_of_ble_eq_true rfl, Nat.le_of_ble_eq_true rfl⟩ rfl (Nat.le_of_ble_eq_true rfl) rfl dX13_init_1 ?_
  refine hv_aload_n 0 dX13_init_4 rfl rfl ?_
  refine hv_iload_n 1 dX13_init_5 rfl rfl ?_
  obtain ⟨s2, e_s2, h⟩ := hq_ob h
  refine hv_putI fp_X13_7 e_s2 (fun _ => rfl) dX13_init_6 ?_
  refine hv_aload_n 0 dX13_init_9 rfl rfl ?_
  refine hv_aload_n 2 dX13_init_10 rfl rfl ?_
  obtain ⟨s3, e_s3, h⟩ := hq_ob h
  refine hv_putR fp_X13_13 e_s3 (fun _ => rfl) dX13_init_11 ?_
  refine hv_aload_n 0 dX13_init_14 rfl rfl ?_
  refine hv_aload_n 3 dX13_init_15 rfl rfl ?_
  obtain ⟨s4, e_s4, h⟩ := hq_ob h
  refine hv_putR fp_X13_17 e_s4 (fun _ => rfl) dX13_init_16 ?_
  have h := Option.some.inj h
  subst h
  exact hv_vret rfl dX13_init_19
def xReader_joined (th : Nat) (p1 : Int32) (p2 : Option Nat) (p3 : Option Nat) (s0 : hk_St) : Option (Option Nat × hk_St) :=
  (hk_gI [6] 601 s0 th).bind fun x1 =>
  if x1 < 0 then
    hk_nm (hk_nx s0) fun a3 =>
    hk_nm (hk_mk s0 12 0 3) fun s4 =>
    hk_nn p2 fun a5 =>
    hk_nn p3 fun a6 =>
    (xPair_init a3 p1 a5 a6 s4).bind fun s7 =>
    some (some a3, s7)
  else
  some (none, s0)
abbrev N_xReader_joined (l : Launch) : hk_N := (l, cX6_joined, "HeadReckons$Reader", 4, (some (.object "HeadReckons$Node")), 3, 63, false)
set_option maxHeartbeats 4000000 in
theorem wk_xReader_joined {l : Launch} {Gd : hk_G} {th : Nat} {p1 : Int32} {p2 : Option Nat} {p3 : Option Nat} {s0 : hk_St} {r : Option Nat} {fin : hk_St} (h : xReader_joined th p1 p2 p3 s0 = some (r, fin)) : hk_Met Gd l yX6_joined cX6_joined 4 (some (.object "HeadReckons$Node")) 3 63 [.ref th, .int p1, va_rf p2, va_rf p3] s0 (some (va_rf r)) fin := by
  refine hk_start "HeadReckons$Reader" false (by decide +kernel) rfl (by decide) (by cases p2 <;> cases p3 <;> exact Nat.le_of_ble_eq_true rfl) ?_
  rw [show lv_args 0 [.ref th, .int p1, va_rf p2, va_rf p3] = [(0, .ref th), (1, .int p1), (2, va_rf p2), (3, va_rf p3)] by cases p2 <;> cases p3 <;> rfl]
  show hk_V Gd (N_xReader_joined l) (hk_end Gd s0 (some (va_rf r)) fin) 0 [(0, .ref th), (1, .int p1), (2, va_rf p2), (3, va_rf p3)] [] s0
  unfold xReader_joined at h
  refine hv_aload_n 0 dX6_joined_0 rfl rfl ?_
  obtain ⟨x1, e_x1, h⟩ := hq_ob h
  refine hv_getI fl_X6_15 e_x1 dX6_joined_1 ?_
  refine hv_if_lt (tgt := 11) dX6_joined_4 (by decide) (fun c2 => ?_) (fun c2 => ?_)
  · replace h := hq_ip c2 h
    obtain ⟨a3, e_a3, h⟩ := hq_nm h
    obtain ⟨s4, e_s4, h⟩ := hq_nm h
    refine hv_new (ci := 12) (r := (RX13, TX13, 3)) rfl hk_ok12 (by decide) q611 q612 q111 dX6_joined_11 ?_
    rw [show hk_mk s0 12 0 ((RX13, TX13, 3) : vw_C).2.2 = s4 from e_s4.symm, ← e_a3]
    refine hv_dup dX6_joined_14 rfl ?_
    refine hv_iload_n 1 dX6_joined_15 rfl rfl ?_
    refine hv_aload_nq 2 dX6_joined_16 rfl rfl ?_
    refine hv_aload_nq 3 dX6_joined_17 rfl rfl ?_
    obtain ⟨a5, e_a5, h⟩ := hq_nn h
    rw [e_a5]
    obtain ⟨a6, e_a6, h⟩ := hq_nn h
    rw [e_a6]
    obtain ⟨s7, e_s7, h⟩ := hq_ob h
    refine hv_callI [.int p1, .ref a5, .ref a6] [.ref a3] [.ref a3] (wk_xPair_init e_s7) cs_X6_63 rfl ⟨Nat.le_of_ble_eq_true rfl, Nat.le_of_ble_eq_true rfl⟩ rfl (Nat.le_of_ble_eq_true rfl) rfl dX6_joined_18 ?_
    obtain ⟨h1, h2⟩ := hq_ret h
    subst h1
    subst h2
    exact hv_aret rfl dX6_joined_21
  · replace h := hq_in c2 h
    refine hv_null dX6_joined_7 ?_
    refine hv_goto (tgt := 21) dX6_joined_8 (by decide) ?_
    obtain ⟨h1, h2⟩ := hq_ret h
    subst h1
    subst h2
    exact hv_aret rfl dX6_joined_21
def xReader_product_L5b (rc_operand : Nat → hk_St → Option (Option Nat × hk_St)) (th : Nat) (e0 : (Option Nat) → hk_St → Option (Option Nat × hk_St)) (rc : (Option Nat) → hk_St → Option (Option Nat × hk_St)) (v3 : Option Nat) (s4 : hk_St) : Option (Option Nat × hk_St) :=
  (hk_gI [6] 601 s4 th).bind fun x7 =>
  if 0 ≤ x7 then
    e0 v3 s4
  else
  (xReader_isOne th 2 s4).bind fun x9 =>
  hk_gd (hk_bf [6] s4 th) <|
  if x9 = 0 then
    e0 v3 s4
  else
  (xReader_here th s4).bind fun x12 =>
  hk_gd (hk_bf [6] s4 th) <|
  (hk_gI [6] 600 s4 th).bind fun x14 =>
  (hk_pI [6] 600 s4 th (x14 + (1 : Int32))).bind fun s15 =>
  (rc_operand th s15).bind fun q16 =>
  hk_gd (hk_bf [6] s15 th) <|
  (xReader_joined th x12 v3 q16.1 q16.2).bind fun q18 =>
  hk_gd (hk_bf [6] q16.2 th) <|
  rc q18.1 q18.2
def xReader_product_L5 (rc_operand : Nat → hk_St → Option (Option Nat × hk_St)) (th : Nat) (e0 : (Option Nat) → hk_St → Option (Option Nat × hk_St)) : Nat → (Option Nat) → hk_St → Option (Option Nat × hk_St)
  | 0 => fun _ _ => none
  | n + 1 => xReader_product_L5b rc_operand th e0 (xReader_product_L5 rc_operand th e0 n)
def xReader_product (rc_operand : Nat → hk_St → Option (Option Nat × hk_St)) (th : Nat) (s0 : hk_St) : Option (Option Nat × hk_St) :=
  (rc_operand th s0).bind fun q1 =>
  hk_gd (hk_bf [6] s0 th) <|
  xReader_product_L5 rc_operand th  (fun (v5 : Option Nat) (s6 : hk_St) =>
    some (v5, s6)) hk_F q1.1 q1.2
abbrev N_xReader_product (l : Launch) (fr lo : Nat) : hk_N := (l, cX6_product, "HeadReckons$Reader", 3, (some (.object "HeadReckons$Node")), fr, lo, false)
set_option maxHeartbeats 4000000 in
theorem wk_xReader_product_L5b {l : Launch} {Gd : hk_G} {fr lo fr' lo' : Nat} (hroom : fr' + 1 ≤ fr ∧ lo' + 60 ≤ lo ∧ 40 ≤ fr ∧ 1500 ≤ lo) {rc_operand : Nat → hk_St → Option (Option Nat × hk_St)} (h_operand : ∀ (b0 : Nat) (z : hk_St) (r : Option Nat) (z2 : hk_St), rc_operand b0 z = some (r, z2) → hk_Met Gd l yX6_operand cX6_operand 4 (some (.object "HeadReckons$Node")) fr' lo' [.ref b0] z (some (va_rf r)) z2) {th : Nat} {s0 : hk_St} {r : Option Nat} {fin : hk_St} {e0 : (Option Nat) → hk_St → Option (Option Nat × hk_St)} {rc : (Option Nat) → hk_St → Option (Option Nat × hk_St)} (hrc : ∀ (v3 : Option Nat) (s4 : hk_St), rc v3 s4 = some (r, fin) → hk_V Gd (N_xReader_product l fr lo) (hk_end Gd s0 (some (va_rf r)) fin) 5 [(0, .ref th), (1, va_rf v3)] [] s4) (he0 : ∀ (v5 : Option Nat) (s6 : hk_St), e0 v5 s6 = some (r, fin) → hk_V Gd (N_xReader_product l fr lo) (hk_end Gd s0 (some (va_rf r)) fin) 50 [(1, va_rf v5)] [] s6) {v3 : Option Nat} {s4 : hk_St} (h : xReader_product_L5b rc_operand th e0 rc v3 s4 = some (r, fin)) : hk_V Gd (N_xReader_product l fr lo) (hk_end Gd s0 (some (va_rf r)) fin) 5 [(0, .ref th), (1, va_rf v3)] [] s4 := by
  unfold xReader_product_L5b at h
  refine hv_aload_n 0 dX6_product_5 rfl rfl ?_
  obtain ⟨x7, e_x7, h⟩ := hq_ob h
  refine hv_getI fl_X6_15 e_x7 dX6_product_6 ?_
  refine hv_if_ge (tgt := 50) dX6_product_9 (by decide) (fun c8 => ?_) (fun c8 => ?_)
  · replace h := hq_ip c8 h
    refine hv_sub [1] rfl ?_
    exact he0 _ _ h
  · replace h := hq_in c8 h
    refine hv_aload_n 0 dX6_product_12 rfl rfl ?_
    refine hs_ldc (i := 2) (by decide) rfl rfl dX6_product_13 ?_
    obtain ⟨x9, e_x9, h⟩ := hq_ob h
    obtain ⟨g10, h⟩ := hq_gd h
    refine hv_callV [.ref (hk_aK Gd 2)] [] [.int x9] (wk_xReader_isOne (by decide) e_x9) cs_X6_81 g10 rfl ⟨by show _ ≤ fr; omega, by show _ ≤ lo; omega⟩ rfl (Nat.le_of_ble_eq_true rfl) rfl dX6_product_15 ?_
    refine hv_if_eq (tgt := 50) dX6_product_18 (by decide) (fun c11 => ?_) (fun c11 => ?_)
    · replace h := hq_ip c11 h
      refine hv_sub [1] rfl ?_
      exact he0 _ _ h
    · replace h := hq_in c11 h
      refine hv_aload_n 0 dX6_product_21 rfl rfl ?_
      obtain ⟨x12, e_x12, h⟩ := hq_ob h
      obtain ⟨g13, h⟩ := hq_gd h
      refine hv_callV [] [] [.int x12] (wk_xReader_here e_x12) cs_X6_29 g13 rfl ⟨by show _ ≤ fr; omega, by show _ ≤ lo; omega⟩ rfl (Nat.le_of_ble_eq_true rfl) rfl dX6_product_22 ?_
      refine hv_istore_n (L' := [(2, .int x12), (0, .ref th), (1, va_rf v3)]) dX6_product_25 rfl (Nat.le_of_ble_eq_true rfl) (by simp [List.filter, hk_cat]) ?_
      refine hv_aload_n 1 dX6_product_26 rfl rfl ?_
      refine hv_dup dX6_product_27 rfl ?_
      obtain ⟨x14, e_x14, h⟩ := hq_ob h
      refine hv_getI fl_X6_19 e_x14 dX6_product_28 ?_
      refine hv_iconst (v := 1) dX6_product_31 (by decide) ?_
      refine hv_iadd dX6_product_32 ?_
      obtain ⟨s15, e_s15, h⟩ := hq_ob h
      refine hv_putI fp_X6_19 e_s15 (fun q => by cases q) dX6_product_33 ?_
      refine hv_aload_n 1 dX6_product_36 rfl rfl ?_
      refine hv_iload_n 0 dX6_product_37 rfl rfl ?_
      refine hv_aload_nq 2 dX6_product_38 rfl rfl ?_
      refine hv_aload_n 1 dX6_product_39 rfl rfl ?_
      obtain ⟨q16, e_q16, h⟩ := hq_ob h
      obtain ⟨g17, h⟩ := hq_gd h
      refine hv_callV [] [va_rf v3, .int x12, .ref th] [va_rf q16.1, va_rf v3, .int x12, .ref th] (h_operand _ _ _ _ e_q16) cs_X6_90 g17 rfl ⟨by show _ ≤ fr; omega, by show _ ≤ lo; omega⟩ rfl (by simp only [List.map, hk_cat]; exact Nat.le_of_ble_eq_true rfl) rfl dX6_product_40 ?_
      obtain ⟨q18, e_q18, h⟩ := hq_ob h
      obtain ⟨g19, h⟩ := hq_gd h
      refine hv_callV [.int x12, va_rf v3, va_rf q16.1] [] [va_rf q18.1] (wk_xReader_joined e_q18) cs_X6_69 g19 rfl ⟨by show _ ≤ fr; omega, by show _ ≤ lo; omega⟩ rfl (Nat.le_of_ble_eq_true rfl) rfl dX6_product_43 ?_
      refine hv_astore_nq (L' := [(1, va_rf q18.1), (2, .int x12), (0, .ref th)]) dX6_product_46 rfl (Nat.le_of_ble_eq_true rfl) rfl ?_
      refine hv_goto (tgt := 5) dX6_product_47 (by decide) ?_
      refine hv_sub [2, 0] rfl ?_
      exact hrc _ _ h
theorem wk_xReader_product_L5 {l : Launch} {Gd : hk_G} {fr lo fr' lo' : Nat} (hroom : fr' + 1 ≤ fr ∧ lo' + 60 ≤ lo ∧ 40 ≤ fr ∧ 1500 ≤ lo) {rc_operand : Nat → hk_St → Option (Option Nat × hk_St)} (h_operand : ∀ (b0 : Nat) (z : hk_St) (r : Option Nat) (z2 : hk_St), rc_operand b0 z = some (r, z2) → hk_Met Gd l yX6_operand cX6_operand 4 (some (.object "HeadReckons$Node")) fr' lo' [.ref b0] z (some (va_rf r)) z2) {th : Nat} {s0 : hk_St} {r : Option Nat} {fin : hk_St} {e0 : (Option Nat) → hk_St → Option (Option Nat × hk_St)} (he0 : ∀ (v5 : Option Nat) (s6 : hk_St), e0 v5 s6 = some (r, fin) → hk_V Gd (N_xReader_product l fr lo) (hk_end Gd s0 (some (va_rf r)) fin) 50 [(1, va_rf v5)] [] s6) : ∀ (n : Nat) (v3 : Option Nat) (s4 : hk_St), xReader_product_L5 rc_operand th e0 n v3 s4 = some (r, fin) → hk_V Gd (N_xReader_product l fr lo) (hk_end Gd s0 (some (va_rf r)) fin) 5 [(0, .ref th), (1, va_rf v3)] [] s4 := by
  intro n
  induction n with
  | zero => intro v3 s4 h; cases h
  | succ n ih => intro v3 s4 h; exact wk_xReader_product_L5b hroom h_operand ih he0 h
set_option maxHeartbeats 4000000 in
theorem wk_xReader_product {l : Launch} {Gd : hk_G} {fr lo fr' lo' : Nat} (hroom : fr' + 1 ≤ fr ∧ lo' + 60 ≤ lo ∧ 40 ≤ fr ∧ 1500 ≤ lo) {rc_operand : Nat → hk_St → Option (Option Nat × hk_St)} (h_operand : ∀ (b0 : Nat) (z : hk_St) (r : Option Nat) (z2 : hk_St), rc_operand b0 z = some (r, z2) → hk_Met Gd l yX6_operand cX6_operand 4 (some (.object "HeadReckons$Node")) fr' lo' [.ref b0] z (some (va_rf r)) z2) {th : Nat} {s0 : hk_St} {r : Option Nat} {fin : hk_St} (h : xReader_product rc_operand th s0 = some (r, fin)) : hk_Met Gd l yX6_product cX6_product 3 (some (.object "HeadReckons$Node")) fr lo [.ref th] s0 (some (va_rf r)) fin := by
  refine hk_start "HeadReckons$Reader" false (by decide +kernel) rfl (by decide) (Nat.le_of_ble_eq_true rfl) ?_
  show hk_V Gd (N_xReader_product l fr lo) (hk_end Gd s0 (some (va_rf r)) fin) 0 [(0, .ref th)] [] s0
  unfold xReader_product at h
  refine hv_aload_n 0 dX6_product_0 rfl rfl ?_
  obtain ⟨q1, e_q1, h⟩ := hq_ob h
  obtain ⟨g2, h⟩ := hq_gd h
  refine hv_callV [] [] [va_rf q1.1] (h_operand _ _ _ _ e_q1) cs_X6_90 g2 rfl ⟨by show _ ≤ fr; omega, by show _ ≤ lo; omega⟩ rfl (Nat.le_of_ble_eq_true rfl) rfl dX6_product_1 ?_
  refine hv_astore_nq (L' := [(1, va_rf q1.1), (0, .ref th)]) dX6_product_4 rfl (Nat.le_of_ble_eq_true rfl) rfl ?_
  refine hv_sub [1, 0] rfl ?_
  refine wk_xReader_product_L5 hroom h_operand ?_ hk_F _ _ h
  · intro v5 s6 h
    refine hv_aload_nq 0 dX6_product_50 rfl rfl ?_
    obtain ⟨h1, h2⟩ := hq_ret h
    subst h1
    subst h2
    exact hv_aret rfl dX6_product_51
def xReader_sum_L5b (rc_product : Nat → hk_St → Option (Option Nat × hk_St)) (th : Nat) (e0 : (Option Nat) → hk_St → Option (Option Nat × hk_St)) (rc : (Option Nat) → hk_St → Option (Option Nat × hk_St)) (v3 : Option Nat) (s4 : hk_St) : Option (Option Nat × hk_St) :=
  (hk_gI [6] 601 s4 th).bind fun x7 =>
  if 0 ≤ x7 then
    e0 v3 s4
  else
  (xReader_isOne th 1 s4).bind fun x9 =>
  hk_gd (hk_bf [6] s4 th) <|
  if x9 = 0 then
    e0 v3 s4
  else
  (xReader_here th s4).bind fun x12 =>
  hk_gd (hk_bf [6] s4 th) <|
  (hk_gI [6] 600 s4 th).bind fun x14 =>
  (hk_pI [6] 600 s4 th (x14 + (1 : Int32))).bind fun s15 =>
  (rc_product th s15).bind fun q16 =>
  hk_gd (hk_bf [6] s15 th) <|
  (xReader_joined th x12 v3 q16.1 q16.2).bind fun q18 =>
  hk_gd (hk_bf [6] q16.2 th) <|
  rc q18.1 q18.2
def xReader_sum_L5 (rc_product : Nat → hk_St → Option (Option Nat × hk_St)) (th : Nat) (e0 : (Option Nat) → hk_St → Option (Option Nat × hk_St)) : Nat → (Option Nat) → hk_St → Option (Option Nat × hk_St)
  | 0 => fun _ _ => none
  | n + 1 => xReader_sum_L5b rc_product th e0 (xReader_sum_L5 rc_product th e0 n)
def xReader_sum (rc_product : Nat → hk_St → Option (Option Nat × hk_St)) (th : Nat) (s0 : hk_St) : Option (Option Nat × hk_St) :=
  (rc_product th s0).bind fun q1 =>
  hk_gd (hk_bf [6] s0 th) <|
  xReader_sum_L5 rc_product th  (fun (v5 : Option Nat) (s6 : hk_St) =>
    some (v5, s6)) hk_F q1.1 q1.2
abbrev N_xReader_sum (l : Launch) (fr lo : Nat) : hk_N := (l, cX6_sum, "HeadReckons$Reader", 3, (some (.object "HeadReckons$Node")), fr, lo, false)
set_option maxHeartbeats 4000000 in
theorem wk_xReader_sum_L5b {l : Launch} {Gd : hk_G} {fr lo fr' lo' : Nat} (hroom : fr' + 1 ≤ fr ∧ lo' + 60 ≤ lo ∧ 40 ≤ fr ∧ 1500 ≤ lo) {rc_product : Nat → hk_St → Option (Option Nat × hk_St)} (h_product : ∀ (b0 : Nat) (z : hk_St) (r : Option Nat) (z2 : hk_St), rc_product b0 z = some (r, z2) → hk_Met Gd l yX6_product cX6_product 3 (some (.object "HeadReckons$Node")) fr' lo' [.ref b0] z (some (va_rf r)) z2) {th : Nat} {s0 : hk_St} {r : Option Nat} {fin : hk_St} {e0 : (Option Nat) → hk_St → Option (Option Nat × hk_St)} {rc : (Option Nat) → hk_St → Option (Option Nat × hk_St)} (hrc : ∀ (v3 : Option Nat) (s4 : hk_St), rc v3 s4 = some (r, fin) → hk_V Gd (N_xReader_sum l fr lo) (hk_end Gd s0 (some (va_rf r)) fin) 5 [(0, .ref th), (1, va_rf v3)] [] s4) (he0 : ∀ (v5 : Option Nat) (s6 : hk_St), e0 v5 s6 = some (r, fin) → hk_V Gd (N_xReader_sum l fr lo) (hk_end Gd s0 (some (va_rf r)) fin) 50 [(1, va_rf v5)] [] s6) {v3 : Option Nat} {s4 : hk_St} (h : xReader_sum_L5b rc_product th e0 rc v3 s4 = some (r, fin)) : hk_V Gd (N_xReader_sum l fr lo) (hk_end Gd s0 (some (va_rf r)) fin) 5 [(0, .ref th), (1, va_rf v3)] [] s4 := by
  unfold xReader_sum_L5b at h
  refine hv_aload_n 0 dX6_sum_5 rfl rfl ?_
  obtain ⟨x7, e_x7, h⟩ := hq_ob h
  refine hv_getI fl_X6_15 e_x7 dX6_sum_6 ?_
  refine hv_if_ge (tgt := 50) dX6_sum_9 (by decide) (fun c8 => ?_) (fun c8 => ?_)
  · replace h := hq_ip c8 h
    refine hv_sub [1] rfl ?_
    exact he0 _ _ h
  · replace h := hq_in c8 h
    refine hv_aload_n 0 dX6_sum_12 rfl rfl ?_
    refine hs_ldc (i := 1) (by decide) rfl rfl dX6_sum_13 ?_
    obtain ⟨x9, e_x9, h⟩ := hq_ob h
    obtain ⟨g10, h⟩ := hq_gd h
    refine hv_callV [.ref (hk_aK Gd 1)] [] [.int x9] (wk_xReader_isOne (by decide) e_x9) cs_X6_81 g10 rfl ⟨by show _ ≤ fr; omega, by show _ ≤ lo; omega⟩ rfl (Nat.le_of_ble_eq_true rfl) rfl dX6_sum_15 ?_
    refine hv_if_eq (tgt := 50) dX6_sum_18 (by decide) (fun c11 => ?_) (fun c11 => ?_)
    · replace h := hq_ip c11 h
      refine hv_sub [1] rfl ?_
      exact he0 _ _ h
    · replace h := hq_in c11 h
      refine hv_aload_n 0 dX6_sum_21 rfl rfl ?_
      obtain ⟨x12, e_x12, h⟩ := hq_ob h
      obtain ⟨g13, h⟩ := hq_gd h
      refine hv_callV [] [] [.int x12] (wk_xReader_here e_x12) cs_X6_29 g13 rfl ⟨by show _ ≤ fr; omega, by show _ ≤ lo; omega⟩ rfl (Nat.le_of_ble_eq_true rfl) rfl dX6_sum_22 ?_
      refine hv_istore_n (L' := [(2, .int x12), (0, .ref th), (1, va_rf v3)]) dX6_sum_25 rfl (Nat.le_of_ble_eq_true rfl) (by simp [List.filter, hk_cat]) ?_
      refine hv_aload_n 1 dX6_sum_26 rfl rfl ?_
      refine hv_dup dX6_sum_27 rfl ?_
      obtain ⟨x14, e_x14, h⟩ := hq_ob h
      refine hv_getI fl_X6_19 e_x14 dX6_sum_28 ?_
      refine hv_iconst (v := 1) dX6_sum_31 (by decide) ?_
      refine hv_iadd dX6_sum_32 ?_
      obtain ⟨s15, e_s15, h⟩ := hq_ob h
      refine hv_putI fp_X6_19 e_s15 (fun q => by cases q) dX6_sum_33 ?_
      refine hv_aload_n 1 dX6_sum_36 rfl rfl ?_
      refine hv_iload_n 0 dX6_sum_37 rfl rfl ?_
      refine hv_aload_nq 2 dX6_sum_38 rfl rfl ?_
      refine hv_aload_n 1 dX6_sum_39 rfl rfl ?_
      obtain ⟨q16, e_q16, h⟩ := hq_ob h
      obtain ⟨g17, h⟩ := hq_gd h
      refine hv_callV [] [va_rf v3, .int x12, .ref th] [va_rf q16.1, va_rf v3, .int x12, .ref th] (h_product _ _ _ _ e_q16) cs_X6_85 g17 rfl ⟨by show _ ≤ fr; omega, by show _ ≤ lo; omega⟩ rfl (by simp only [List.map, hk_cat]; exact Nat.le_of_ble_eq_true rfl) rfl dX6_sum_40 ?_
      obtain ⟨q18, e_q18, h⟩ := hq_ob h
      obtain ⟨g19, h⟩ := hq_gd h
      refine hv_callV [.int x12, va_rf v3, va_rf q16.1] [] [va_rf q18.1] (wk_xReader_joined e_q18) cs_X6_69 g19 rfl ⟨by show _ ≤ fr; omega, by show _ ≤ lo; omega⟩ rfl (Nat.le_of_ble_eq_true rfl) rfl dX6_sum_43 ?_
      refine hv_astore_nq (L' := [(1, va_rf q18.1), (2, .int x12), (0, .ref th)]) dX6_sum_46 rfl (Nat.le_of_ble_eq_true rfl) rfl ?_
      refine hv_goto (tgt := 5) dX6_sum_47 (by decide) ?_
      refine hv_sub [2, 0] rfl ?_
      exact hrc _ _ h
theorem wk_xReader_sum_L5 {l : Launch} {Gd : hk_G} {fr lo fr' lo' : Nat} (hroom : fr' + 1 ≤ fr ∧ lo' + 60 ≤ lo ∧ 40 ≤ fr ∧ 1500 ≤ lo) {rc_product : Nat → hk_St → Option (Option Nat × hk_St)} (h_product : ∀ (b0 : Nat) (z : hk_St) (r : Option Nat) (z2 : hk_St), rc_product b0 z = some (r, z2) → hk_Met Gd l yX6_product cX6_product 3 (some (.object "HeadReckons$Node")) fr' lo' [.ref b0] z (some (va_rf r)) z2) {th : Nat} {s0 : hk_St} {r : Option Nat} {fin : hk_St} {e0 : (Option Nat) → hk_St → Option (Option Nat × hk_St)} (he0 : ∀ (v5 : Option Nat) (s6 : hk_St), e0 v5 s6 = some (r, fin) → hk_V Gd (N_xReader_sum l fr lo) (hk_end Gd s0 (some (va_rf r)) fin) 50 [(1, va_rf v5)] [] s6) : ∀ (n : Nat) (v3 : Option Nat) (s4 : hk_St), xReader_sum_L5 rc_product th e0 n v3 s4 = some (r, fin) → hk_V Gd (N_xReader_sum l fr lo) (hk_end Gd s0 (some (va_rf r)) fin) 5 [(0, .ref th), (1, va_rf v3)] [] s4 := by
  intro n
  induction n with
  | zero => intro v3 s4 h; cases h
  | succ n ih => intro v3 s4 h; exact wk_xReader_sum_L5b hroom h_product ih he0 h
set_option maxHeartbeats 4000000 in
theorem wk_xReader_sum {l : Launch} {Gd : hk_G} {fr lo fr' lo' : Nat} (hroom : fr' + 1 ≤ fr ∧ lo' + 60 ≤ lo ∧ 40 ≤ fr ∧ 1500 ≤ lo) {rc_product : Nat → hk_St → Option (Option Nat × hk_St)} (h_product : ∀ (b0 : Nat) (z : hk_St) (r : Option Nat) (z2 : hk_St), rc_product b0 z = some (r, z2) → hk_Met Gd l yX6_product cX6_product 3 (some (.object "HeadReckons$Node")) fr' lo' [.ref b0] z (some (va_rf r)) z2) {th : Nat} {s0 : hk_St} {r : Option Nat} {fin : hk_St} (h : xReader_sum rc_product th s0 = some (r, fin)) : hk_Met Gd l yX6_sum cX6_sum 3 (some (.object "HeadReckons$Node")) fr lo [.ref th] s0 (some (va_rf r)) fin := by
  refine hk_start "HeadReckons$Reader" false (by decide +kernel) rfl (by decide) (Nat.le_of_ble_eq_true rfl) ?_
  show hk_V Gd (N_xReader_sum l fr lo) (hk_end Gd s0 (some (va_rf r)) fin) 0 [(0, .ref th)] [] s0
  unfold xReader_sum at h
  refine hv_aload_n 0 dX6_sum_0 rfl rfl ?_
  obtain ⟨q1, e_q1, h⟩ := hq_ob h
  obtain ⟨g2, h⟩ := hq_gd h
  refine hv_callV [] [] [va_rf q1.1] (h_product _ _ _ _ e_q1) cs_X6_85 g2 rfl ⟨by show _ ≤ fr; omega, by show _ ≤ lo; omega⟩ rfl (Nat.le_of_ble_eq_true rfl) rfl dX6_sum_1 ?_
  refine hv_astore_nq (L' := [(1, va_rf q1.1), (0, .ref th)]) dX6_sum_4 rfl (Nat.le_of_ble_eq_true rfl) rfl ?_
  refine hv_sub [1, 0] rfl ?_
  refine wk_xReader_sum_L5 hroom h_product ?_ hk_F _ _ h
  · intro v5 s6 h
    refine hv_aload_nq 0 dX6_sum_50 rfl rfl ?_
    obtain ⟨h1, h2⟩ := hq_ret h
    subst h1
    subst h2
    exact hv_aret rfl dX6_sum_51
def xReader_compared (rc_sum : Nat → hk_St → Option (Option Nat × hk_St)) (th : Nat) (s0 : hk_St) : Option (Option Nat × hk_St) :=
  (rc_sum th s0).bind fun q1 =>
  hk_gd (hk_bf [6] s0 th) <|
  (hk_gI [6] 601 q1.2 th).bind fun x3 =>
  if 0 ≤ x3 then
    some (q1.1, q1.2)
  else
  (xReader_isOne th 0 q1.2).bind fun x5 =>
  hk_gd (hk_bf [6] q1.2 th) <|
  if x5 = 0 then
    some (q1.1, q1.2)
  else
  (xReader_here th q1.2).bind fun x8 =>
    hk_gd (hk_bf [6] q1.2 th) <|
    (hk_gI [6] 600 q1.2 th).bind fun x10 =>
    (hk_pI [6] 600 q1.2 th (x10 + (1 : Int32))).bind fun s11 =>
    (rc_sum th s11).bind fun q12 =>
    hk_gd (hk_bf [6] s11 th) <|
    (xReader_joined th x8 q1.1 q12.1 q12.2).bind fun q14 =>
    hk_gd (hk_bf [6] q12.2 th) <|
    some (q14.1, q14.2)
abbrev N_xReader_compared (l : Launch) (fr lo : Nat) : hk_N := (l, cX6_compared, "HeadReckons$Reader", 3, (some (.object "HeadReckons$Node")), fr, lo, false)
set_option maxHeartbeats 4000000 in
theorem wk_xReader_compared {l : Launch} {Gd : hk_G} {fr lo fr' lo' : Nat} (hroom : fr' + 1 ≤ fr ∧ lo' + 60 ≤ lo ∧ 40 ≤ fr ∧ 1500 ≤ lo) {rc_sum : Nat → hk_St → Option (Option Nat × hk_St)} (h_sum : ∀ (b0 : Nat) (z : hk_St) (r : Option Nat) (z2 : hk_St), rc_sum b0 z = some (r, z2) → hk_Met Gd l yX6_sum cX6_sum 3 (some (.object "HeadReckons$Node")) fr' lo' [.ref b0] z (some (va_rf r)) z2) {th : Nat} {s0 : hk_St} {r : Option Nat} {fin : hk_St} (h : xReader_compared rc_sum th s0 = some (r, fin)) : hk_Met Gd l yX6_compared cX6_compared 3 (some (.object "HeadReckons$Node")) fr lo [.ref th] s0 (some (va_rf r)) fin := by
  refine hk_start "HeadReckons$Reader" false (by decide +kernel) rfl (by decide) (Nat.le_of_ble_eq_true rfl) ?_
  show hk_V Gd (N_xReader_compared l fr lo) (hk_end Gd s0 (some (va_rf r)) fin) 0 [(0, .ref th)] [] s0
  unfold xReader_compared at h
  refine hv_aload_n 0 dX6_compared_0 rfl rfl ?_
  obtain ⟨q1, e_q1, h⟩ := hq_ob h
  obtain ⟨g2, h⟩ := hq_gd h
  refine hv_callV [] [] [va_rf q1.1] (h_sum _ _ _ _ e_q1) cs_X6_76 g2 rfl ⟨by show _ ≤ fr; omega, by show _ ≤ lo; omega⟩ rfl (Nat.le_of_ble_eq_true rfl) rfl dX6_compared_1 ?_
  refine hv_astore_nq (L' := [(1, va_rf q1.1), (0, .ref th)]) dX6_compared_4 rfl (Nat.le_of_ble_eq_true rfl) rfl ?_
  refine hv_aload_n 1 dX6_compared_5 rfl rfl ?_
  obtain ⟨x3, e_x3, h⟩ := hq_ob h
  refine hv_getI fl_X6_15 e_x3 dX6_compared_6 ?_
  refine hv_if_ge (tgt := 21) dX6_compared_9 (by decide) (fun c4 => ?_) (fun c4 => ?_)
  · replace h := hq_ip c4 h
    refine hv_aload_nq 0 dX6_compared_21 rfl rfl ?_
    obtain ⟨h1, h2⟩ := hq_ret h
    subst h1
    subst h2
    exact hv_aret rfl dX6_compared_22
  · replace h := hq_in c4 h
    refine hv_aload_n 1 dX6_compared_12 rfl rfl ?_
    refine hs_ldc (i := 0) (by decide) rfl rfl dX6_compared_13 ?_
    obtain ⟨x5, e_x5, h⟩ := hq_ob h
    obtain ⟨g6, h⟩ := hq_gd h
    refine hv_callV [.ref (hk_aK Gd 0)] [] [.int x5] (wk_xReader_isOne (by decide) e_x5) cs_X6_81 g6 rfl ⟨by show _ ≤ fr; omega, by show _ ≤ lo; omega⟩ rfl (Nat.le_of_ble_eq_true rfl) rfl dX6_compared_15 ?_
    refine hv_if_ne (tgt := 23) dX6_compared_18 (by decide) (fun c7 => ?_) (fun c7 => ?_)
    · replace h := hq_in c7 h
      refine hv_aload_n 1 dX6_compared_23 rfl rfl ?_
      obtain ⟨x8, e_x8, h⟩ := hq_ob h
      obtain ⟨g9, h⟩ := hq_gd h
      refine hv_callV [] [] [.int x8] (wk_xReader_here e_x8) cs_X6_29 g9 rfl ⟨by show _ ≤ fr; omega, by show _ ≤ lo; omega⟩ rfl (Nat.le_of_ble_eq_true rfl) rfl dX6_compared_24 ?_
      refine hv_istore_n (L' := [(2, .int x8), (1, va_rf q1.1), (0, .ref th)]) dX6_compared_27 rfl (Nat.le_of_ble_eq_true rfl) (by simp [List.filter, hk_cat]) ?_
      refine hv_aload_n 2 dX6_compared_28 rfl rfl ?_
      refine hv_dup dX6_compared_29 rfl ?_
      obtain ⟨x10, e_x10, h⟩ := hq_ob h
      refine hv_getI fl_X6_19 e_x10 dX6_compared_30 ?_
      refine hv_iconst (v := 1) dX6_compared_33 (by decide) ?_
      refine hv_iadd dX6_compared_34 ?_
      obtain ⟨s11, e_s11, h⟩ := hq_ob h
      refine hv_putI fp_X6_19 e_s11 (fun q => by cases q) dX6_compared_35 ?_
      refine hv_aload_n 2 dX6_compared_38 rfl rfl ?_
      refine hv_iload_n 0 dX6_compared_39 rfl rfl ?_
      refine hv_aload_nq 1 dX6_compared_40 rfl rfl ?_
      refine hv_aload_n 2 dX6_compared_41 rfl rfl ?_
      obtain ⟨q12, e_q12, h⟩ := hq_ob h
      obtain ⟨g13, h⟩ := hq_gd h
      refine hv_callV [] [va_rf q1.1, .int x8, .ref th] [va_rf q12.1, va_rf q1.1, .int x8, .ref th] (h_sum _ _ _ _ e_q12) cs_X6_76 g13 rfl ⟨by show _ ≤ fr; omega, by show _ ≤ lo; omega⟩ rfl (by simp only [List.map, hk_cat]; exact Nat.le_of_ble_eq_true rfl) rfl dX6_compared_42 ?_
      obtain ⟨q14, e_q14, h⟩ := hq_ob h
      obtain ⟨g15, h⟩ := hq_gd h
      refine hv_callV [.int x8, va_rf q1.1, va_rf q12.1] [] [va_rf q14.1] (wk_xReader_joined e_q14) cs_X6_69 g15 rfl ⟨by show _ ≤ fr; omega, by show _ ≤ lo; omega⟩ rfl (Nat.le_of_ble_eq_true rfl) rfl dX6_compared_45 ?_
      obtain ⟨h1, h2⟩ := hq_ret h
      subst h1
      subst h2
      exact hv_aret rfl dX6_compared_48
    · replace h := hq_ip c7 h
      refine hv_aload_nq 0 dX6_compared_21 rfl rfl ?_
      obtain ⟨h1, h2⟩ := hq_ret h
      subst h1
      subst h2
      exact hv_aret rfl dX6_compared_22
def xReader_all_L5b (rc_compared : Nat → hk_St → Option (Option Nat × hk_St)) (th : Nat) (e0 : (Option Nat) → hk_St → Option (Option Nat × hk_St)) (rc : (Option Nat) → hk_St → Option (Option Nat × hk_St)) (v3 : Option Nat) (s4 : hk_St) : Option (Option Nat × hk_St) :=
  (hk_gI [6] 601 s4 th).bind fun x7 =>
  if 0 ≤ x7 then
    e0 v3 s4
  else
  (xReader_here th s4).bind fun x9 =>
  hk_gd (hk_bf [6] s4 th) <|
  if x9 = (38 : Int32) then
    (hk_gI [6] 600 s4 th).bind fun x12 =>
  (hk_pI [6] 600 s4 th (x12 + (1 : Int32))).bind fun s13 =>
  (rc_compared th s13).bind fun q14 =>
  hk_gd (hk_bf [6] s13 th) <|
  (xReader_joined th (38 : Int32) v3 q14.1 q14.2).bind fun q16 =>
  hk_gd (hk_bf [6] q14.2 th) <|
  rc q16.1 q16.2
  else
  e0 v3 s4
def xReader_all_L5 (rc_compared : Nat → hk_St → Option (Option Nat × hk_St)) (th : Nat) (e0 : (Option Nat) → hk_St → Option (Option Nat × hk_St)) : Nat → (Option Nat) → hk_St → Option (Option Nat × hk_St)
  | 0 => fun _ _ => none
  | n + 1 => xReader_all_L5b rc_compared th e0 (xReader_all_L5 rc_compared th e0 n)
def xReader_all (rc_compared : Nat → hk_St → Option (Option Nat × hk_St)) (th : Nat) (s0 : hk_St) : Option (Option Nat × hk_St) :=
  (rc_compared th s0).bind fun q1 =>
  hk_gd (hk_bf [6] s0 th) <|
  xReader_all_L5 rc_compared th  (fun (v5 : Option Nat) (s6 : hk_St) =>
    some (v5, s6)) hk_F q1.1 q1.2
abbrev N_xReader_all (l : Launch) (fr lo : Nat) : hk_N := (l, cX6_all, "HeadReckons$Reader", 2, (some (.object "HeadReckons$Node")), fr, lo, false)
set_option maxHeartbeats 4000000 in
theorem wk_xReader_all_L5b {l : Launch} {Gd : hk_G} {fr lo fr' lo' : Nat} (hroom : fr' + 1 ≤ fr ∧ lo' + 60 ≤ lo ∧ 40 ≤ fr ∧ 1500 ≤ lo) {rc_compared : Nat → hk_St → Option (Option Nat × hk_St)} (h_compared : ∀ (b0 : Nat) (z : hk_St) (r : Option Nat) (z2 : hk_St), rc_compared b0 z = some (r, z2) → hk_Met Gd l yX6_compared cX6_compared 3 (some (.object "HeadReckons$Node")) fr' lo' [.ref b0] z (some (va_rf r)) z2) {th : Nat} {s0 : hk_St} {r : Option Nat} {fin : hk_St} {e0 : (Option Nat) → hk_St → Option (Option Nat × hk_St)} {rc : (Option Nat) → hk_St → Option (Option Nat × hk_St)} (hrc : ∀ (v3 : Option Nat) (s4 : hk_St), rc v3 s4 = some (r, fin) → hk_V Gd (N_xReader_all l fr lo) (hk_end Gd s0 (some (va_rf r)) fin) 5 [(0, .ref th), (1, va_rf v3)] [] s4) (he0 : ∀ (v5 : Option Nat) (s6 : hk_St), e0 v5 s6 = some (r, fin) → hk_V Gd (N_xReader_all l fr lo) (hk_end Gd s0 (some (va_rf r)) fin) 46 [(1, va_rf v5)] [] s6) {v3 : Option Nat} {s4 : hk_St} (h : xReader_all_L5b rc_compared th e0 rc v3 s4 = some (r, fin)) : hk_V Gd (N_xReader_all l fr lo) (hk_end Gd s0 (some (va_rf r)) fin) 5 [(0, .ref th), (1, va_rf v3)] [] s4 := by
  unfold xReader_all_L5b at h
  refine hv_aload_n 0 dX6_all_5 rfl rfl ?_
  obtain ⟨x7, e_x7, h⟩ := hq_ob h
  refine hv_getI fl_X6_15 e_x7 dX6_all_6 ?_
  refine hv_if_ge (tgt := 46) dX6_all_9 (by decide) (fun c8 => ?_) (fun c8 => ?_)
  · replace h := hq_ip c8 h
    refine hv_sub [1] rfl ?_
    exact he0 _ _ h
  · replace h := hq_in c8 h
    refine hv_aload_n 0 dX6_all_12 rfl rfl ?_
    obtain ⟨x9, e_x9, h⟩ := hq_ob h
    obtain ⟨g10, h⟩ := hq_gd h
    refine hv_callV [] [] [.int x9] (wk_xReader_here e_x9) cs_X6_29 g10 rfl ⟨by show _ ≤ fr; omega, by show _ ≤ lo; omega⟩ rfl (Nat.le_of_ble_eq_true rfl) rfl dX6_all_13 ?_
    refine hv_bipush (v := 38) dX6_all_16 (by decide) ?_
    refine hv_icmp_ne (tgt := 46) dX6_all_18 (by decide) (fun c11 => ?_) (fun c11 => ?_)
    · replace h := hq_in c11 h
      refine hv_sub [1] rfl ?_
      exact he0 _ _ h
    · replace h := hq_ip c11 h
      refine hv_aload_n 0 dX6_all_21 rfl rfl ?_
      refine hv_dup dX6_all_22 rfl ?_
      obtain ⟨x12, e_x12, h⟩ := hq_ob h
      refine hv_getI fl_X6_19 e_x12 dX6_all_23 ?_
      refine hv_iconst (v := 1) dX6_all_26 (by decide) ?_
      refine hv_iadd dX6_all_27 ?_
      obtain ⟨s13, e_s13, h⟩ := hq_ob h
      refine hv_putI fp_X6_19 e_s13 (fun q => by cases q) dX6_all_28 ?_
      refine hv_aload_n 0 dX6_all_31 rfl rfl ?_
      refine hv_bipush (v := 38) dX6_all_32 (by decide) ?_
      refine hv_aload_nq 1 dX6_all_34 rfl rfl ?_
      refine hv_aload_n 0 dX6_all_35 rfl rfl ?_
      obtain ⟨q14, e_q14, h⟩ := hq_ob h
      obtain ⟨g15, h⟩ := hq_gd h
      refine hv_callV [] [va_rf v3, .int (38 : Int32), .ref th] [va_rf q14.1, va_rf v3, .int (38 : Int32), .ref th] (h_compared _ _ _ _ e_q14) cs_X6_73 g15 rfl ⟨by show _ ≤ fr; omega, by show _ ≤ lo; omega⟩ rfl (by simp only [List.map, hk_cat]; exact Nat.le_of_ble_eq_true rfl) rfl dX6_all_36 ?_
      obtain ⟨q16, e_q16, h⟩ := hq_ob h
      obtain ⟨g17, h⟩ := hq_gd h
      refine hv_callV [.int (38 : Int32), va_rf v3, va_rf q14.1] [] [va_rf q16.1] (wk_xReader_joined e_q16) cs_X6_69 g17 rfl ⟨by show _ ≤ fr; omega, by show _ ≤ lo; omega⟩ rfl (Nat.le_of_ble_eq_true rfl) rfl dX6_all_39 ?_
      refine hv_astore_nq (L' := [(1, va_rf q16.1), (0, .ref th)]) dX6_all_42 rfl (Nat.le_of_ble_eq_true rfl) rfl ?_
      refine hv_goto (tgt := 5) dX6_all_43 (by decide) ?_
      refine hv_sub [1, 0] rfl ?_
      exact hrc _ _ h
theorem wk_xReader_all_L5 {l : Launch} {Gd : hk_G} {fr lo fr' lo' : Nat} (hroom : fr' + 1 ≤ fr ∧ lo' + 60 ≤ lo ∧ 40 ≤ fr ∧ 1500 ≤ lo) {rc_compared : Nat → hk_St → Option (Option Nat × hk_St)} (h_compared : ∀ (b0 : Nat) (z : hk_St) (r : Option Nat) (z2 : hk_St), rc_compared b0 z = some (r, z2) → hk_Met Gd l yX6_compared cX6_compared 3 (some (.object "HeadReckons$Node")) fr' lo' [.ref b0] z (some (va_rf r)) z2) {th : Nat} {s0 : hk_St} {r : Option Nat} {fin : hk_St} {e0 : (Option Nat) → hk_St → Option (Option Nat × hk_St)} (he0 : ∀ (v5 : Option Nat) (s6 : hk_St), e0 v5 s6 = some (r, fin) → hk_V Gd (N_xReader_all l fr lo) (hk_end Gd s0 (some (va_rf r)) fin) 46 [(1, va_rf v5)] [] s6) : ∀ (n : Nat) (v3 : Option Nat) (s4 : hk_St), xReader_all_L5 rc_compared th e0 n v3 s4 = some (r, fin) → hk_V Gd (N_xReader_all l fr lo) (hk_end Gd s0 (some (va_rf r)) fin) 5 [(0, .ref th), (1, va_rf v3)] [] s4 := by
  intro n
  induction n with
  | zero => intro v3 s4 h; cases h
  | succ n ih => intro v3 s4 h; exact wk_xReader_all_L5b hroom h_compared ih he0 h
set_option maxHeartbeats 4000000 in
theorem wk_xReader_all {l : Launch} {Gd : hk_G} {fr lo fr' lo' : Nat} (hroom : fr' + 1 ≤ fr ∧ lo' + 60 ≤ lo ∧ 40 ≤ fr ∧ 1500 ≤ lo) {rc_compared : Nat → hk_St → Option (Option Nat × hk_St)} (h_compared : ∀ (b0 : Nat) (z : hk_St) (r : Option Nat) (z2 : hk_St), rc_compared b0 z = some (r, z2) → hk_Met Gd l yX6_compared cX6_compared 3 (some (.object "HeadReckons$Node")) fr' lo' [.ref b0] z (some (va_rf r)) z2) {th : Nat} {s0 : hk_St} {r : Option Nat} {fin : hk_St} (h : xReader_all rc_compared th s0 = some (r, fin)) : hk_Met Gd l yX6_all cX6_all 2 (some (.object "HeadReckons$Node")) fr lo [.ref th] s0 (some (va_rf r)) fin := by
  refine hk_start "HeadReckons$Reader" false (by decide +kernel) rfl (by decide) (Nat.le_of_ble_eq_true rfl) ?_
  show hk_V Gd (N_xReader_all l fr lo) (hk_end Gd s0 (some (va_rf r)) fin) 0 [(0, .ref th)] [] s0
  unfold xReader_all at h
  refine hv_aload_n 0 dX6_all_0 rfl rfl ?_
  obtain ⟨q1, e_q1, h⟩ := hq_ob h
  obtain ⟨g2, h⟩ := hq_gd h
  refine hv_callV [] [] [va_rf q1.1] (h_compared _ _ _ _ e_q1) cs_X6_73 g2 rfl ⟨by show _ ≤ fr; omega, by show _ ≤ lo; omega⟩ rfl (Nat.le_of_ble_eq_true rfl) rfl dX6_all_1 ?_
  refine hv_astore_nq (L' := [(1, va_rf q1.1), (0, .ref th)]) dX6_all_4 rfl (Nat.le_of_ble_eq_true rfl) rfl ?_
  refine hv_sub [1, 0] rfl ?_
  refine wk_xReader_all_L5 hroom h_compared ?_ hk_F _ _ h
  · intro v5 s6 h
    refine hv_aload_nq 0 dX6_all_46 rfl rfl ?_
    obtain ⟨h1, h2⟩ := hq_ret h
    subst h1
    subst h2
    exact hv_aret rfl dX6_all_47
def xReader_either_L5b (rc_all : Nat → hk_St → Option (Option Nat × hk_St)) (th : Nat) (e0 : (Option Nat) → hk_St → Option (Option Nat × hk_St)) (rc : (Option Nat) → hk_St → Option (Option Nat × hk_St)) (v3 : Option Nat) (s4 : hk_St) : Option (Option Nat × hk_St) :=
  (hk_gI [6] 601 s4 th).bind fun x7 =>
  if 0 ≤ x7 then
    e0 v3 s4
  else
  (xReader_here th s4).bind fun x9 =>
  hk_gd (hk_bf [6] s4 th) <|
  if x9 = (124 : Int32) then
    (hk_gI [6] 600 s4 th).bind fun x12 =>
  (hk_pI [6] 600 s4 th (x12 + (1 : Int32))).bind fun s13 =>
  (rc_all th s13).bind fun q14 =>
  hk_gd (hk_bf [6] s13 th) <|
  (xReader_joined th (124 : Int32) v3 q14.1 q14.2).bind fun q16 =>
  hk_gd (hk_bf [6] q14.2 th) <|
  rc q16.1 q16.2
  else
  e0 v3 s4
def xReader_either_L5 (rc_all : Nat → hk_St → Option (Option Nat × hk_St)) (th : Nat) (e0 : (Option Nat) → hk_St → Option (Option Nat × hk_St)) : Nat → (Option Nat) → hk_St → Option (Option Nat × hk_St)
  | 0 => fun _ _ => none
  | n + 1 => xReader_either_L5b rc_all th e0 (xReader_either_L5 rc_all th e0 n)
def xReader_either (rc_all : Nat → hk_St → Option (Option Nat × hk_St)) (th : Nat) (s0 : hk_St) : Option (Option Nat × hk_St) :=
  (rc_all th s0).bind fun q1 =>
  hk_gd (hk_bf [6] s0 th) <|
  xReader_either_L5 rc_all th  (fun (v5 : Option Nat) (s6 : hk_St) =>
    some (v5, s6)) hk_F q1.1 q1.2
abbrev N_xReader_either (l : Launch) (fr lo : Nat) : hk_N := (l, cX6_either, "HeadReckons$Reader", 2, (some (.object "HeadReckons$Node")), fr, lo, false)
set_option maxHeartbeats 4000000 in
theorem wk_xReader_either_L5b {l : Launch} {Gd : hk_G} {fr lo fr' lo' : Nat} (hroom : fr' + 1 ≤ fr ∧ lo' + 60 ≤ lo ∧ 40 ≤ fr ∧ 1500 ≤ lo) {rc_all : Nat → hk_St → Option (Option Nat × hk_St)} (h_all : ∀ (b0 : Nat) (z : hk_St) (r : Option Nat) (z2 : hk_St), rc_all b0 z = some (r, z2) → hk_Met Gd l yX6_all cX6_all 2 (some (.object "HeadReckons$Node")) fr' lo' [.ref b0] z (some (va_rf r)) z2) {th : Nat} {s0 : hk_St} {r : Option Nat} {fin : hk_St} {e0 : (Option Nat) → hk_St → Option (Option Nat × hk_St)} {rc : (Option Nat) → hk_St → Option (Option Nat × hk_St)} (hrc : ∀ (v3 : Option Nat) (s4 : hk_St), rc v3 s4 = some (r, fin) → hk_V Gd (N_xReader_either l fr lo) (hk_end Gd s0 (some (va_rf r)) fin) 5 [(0, .ref th), (1, va_rf v3)] [] s4) (he0 : ∀ (v5 : Option Nat) (s6 : hk_St), e0 v5 s6 = some (r, fin) → hk_V Gd (N_xReader_either l fr lo) (hk_end Gd s0 (some (va_rf r)) fin) 46 [(1, va_rf v5)] [] s6) {v3 : Option Nat} {s4 : hk_St} (h : xReader_either_L5b rc_all th e0 rc v3 s4 = some (r, fin)) : hk_V Gd (N_xReader_either l fr lo) (hk_end Gd s0 (some (va_rf r)) fin) 5 [(0, .ref th), (1, va_rf v3)] [] s4 := by
  unfold xReader_either_L5b at h
  refine hv_aload_n 0 dX6_either_5 rfl rfl ?_
  obtain ⟨x7, e_x7, h⟩ := hq_ob h
  refine hv_getI fl_X6_15 e_x7 dX6_either_6 ?_
  refine hv_if_ge (tgt := 46) dX6_either_9 (by decide) (fun c8 => ?_) (fun c8 => ?_)
  · replace h := hq_ip c8 h
    refine hv_sub [1] rfl ?_
    exact he0 _ _ h
  · replace h := hq_in c8 h
    refine hv_aload_n 0 dX6_either_12 rfl rfl ?_
    obtain ⟨x9, e_x9, h⟩ := hq_ob h
    obtain ⟨g10, h⟩ := hq_gd h
    refine hv_callV [] [] [.int x9] (wk_xReader_here e_x9) cs_X6_29 g10 rfl ⟨by show _ ≤ fr; omega, by show _ ≤ lo; omega⟩ rfl (Nat.le_of_ble_eq_true rfl) rfl dX6_either_13 ?_
    refine hv_bipush (v := 124) dX6_either_16 (by decide) ?_
    refine hv_icmp_ne (tgt := 46) dX6_either_18 (by decide) (fun c11 => ?_) (fun c11 => ?_)
    · replace h := hq_in c11 h
      refine hv_sub [1] rfl ?_
      exact he0 _ _ h
    · replace h := hq_ip c11 h
      refine hv_aload_n 0 dX6_either_21 rfl rfl ?_
      refine hv_dup dX6_either_22 rfl ?_
      obtain ⟨x12, e_x12, h⟩ := hq_ob h
      refine hv_getI fl_X6_19 e_x12 dX6_either_23 ?_
      refine hv_iconst (v := 1) dX6_either_26 (by decide) ?_
      refine hv_iadd dX6_either_27 ?_
      obtain ⟨s13, e_s13, h⟩ := hq_ob h
      refine hv_putI fp_X6_19 e_s13 (fun q => by cases q) dX6_either_28 ?_
      refine hv_aload_n 0 dX6_either_31 rfl rfl ?_
      refine hv_bipush (v := 124) dX6_either_32 (by decide) ?_
      refine hv_aload_nq 1 dX6_either_34 rfl rfl ?_
      refine hv_aload_n 0 dX6_either_35 rfl rfl ?_
      obtain ⟨q14, e_q14, h⟩ := hq_ob h
      obtain ⟨g15, h⟩ := hq_gd h
      refine hv_callV [] [va_rf v3, .int (124 : Int32), .ref th] [va_rf q14.1, va_rf v3, .int (124 : Int32), .ref th] (h_all _ _ _ _ e_q14) cs_X6_66 g15 rfl ⟨by show _ ≤ fr; omega, by show _ ≤ lo; omega⟩ rfl (by simp only [List.map, hk_cat]; exact Nat.le_of_ble_eq_true rfl) rfl dX6_either_36 ?_
      obtain ⟨q16, e_q16, h⟩ := hq_ob h
      obtain ⟨g17, h⟩ := hq_gd h
      refine hv_callV [.int (124 : Int32), va_rf v3, va_rf q14.1] [] [va_rf q16.1] (wk_xReader_joined e_q16) cs_X6_69 g17 rfl ⟨by show _ ≤ fr; omega, by show _ ≤ lo; omega⟩ rfl (Nat.le_of_ble_eq_true rfl) rfl dX6_either_39 ?_
      refine hv_astore_nq (L' := [(1, va_rf q16.1), (0, .ref th)]) dX6_either_42 rfl (Nat.le_of_ble_eq_true rfl) rfl ?_
      refine hv_goto (tgt := 5) dX6_either_43 (by decide) ?_
      refine hv_sub [1, 0] rfl ?_
      exact hrc _ _ h
theorem wk_xReader_either_L5 {l : Launch} {Gd : hk_G} {fr lo fr' lo' : Nat} (hroom : fr' + 1 ≤ fr ∧ lo' + 60 ≤ lo ∧ 40 ≤ fr ∧ 1500 ≤ lo) {rc_all : Nat → hk_St → Option (Option Nat × hk_St)} (h_all : ∀ (b0 : Nat) (z : hk_St) (r : Option Nat) (z2 : hk_St), rc_all b0 z = some (r, z2) → hk_Met Gd l yX6_all cX6_all 2 (some (.object "HeadReckons$Node")) fr' lo' [.ref b0] z (some (va_rf r)) z2) {th : Nat} {s0 : hk_St} {r : Option Nat} {fin : hk_St} {e0 : (Option Nat) → hk_St → Option (Option Nat × hk_St)} (he0 : ∀ (v5 : Option Nat) (s6 : hk_St), e0 v5 s6 = some (r, fin) → hk_V Gd (N_xReader_either l fr lo) (hk_end Gd s0 (some (va_rf r)) fin) 46 [(1, va_rf v5)] [] s6) : ∀ (n : Nat) (v3 : Option Nat) (s4 : hk_St), xReader_either_L5 rc_all th e0 n v3 s4 = some (r, fin) → hk_V Gd (N_xReader_either l fr lo) (hk_end Gd s0 (some (va_rf r)) fin) 5 [(0, .ref th), (1, va_rf v3)] [] s4 := by
  intro n
  induction n with
  | zero => intro v3 s4 h; cases h
  | succ n ih => intro v3 s4 h; exact wk_xReader_either_L5b hroom h_all ih he0 h
set_option maxHeartbeats 4000000 in
theorem wk_xReader_either {l : Launch} {Gd : hk_G} {fr lo fr' lo' : Nat} (hroom : fr' + 1 ≤ fr ∧ lo' + 60 ≤ lo ∧ 40 ≤ fr ∧ 1500 ≤ lo) {rc_all : Nat → hk_St → Option (Option Nat × hk_St)} (h_all : ∀ (b0 : Nat) (z : hk_St) (r : Option Nat) (z2 : hk_St), rc_all b0 z = some (r, z2) → hk_Met Gd l yX6_all cX6_all 2 (some (.object "HeadReckons$Node")) fr' lo' [.ref b0] z (some (va_rf r)) z2) {th : Nat} {s0 : hk_St} {r : Option Nat} {fin : hk_St} (h : xReader_either rc_all th s0 = some (r, fin)) : hk_Met Gd l yX6_either cX6_either 2 (some (.object "HeadReckons$Node")) fr lo [.ref th] s0 (some (va_rf r)) fin := by
  refine hk_start "HeadReckons$Reader" false (by decide +kernel) rfl (by decide) (Nat.le_of_ble_eq_true rfl) ?_
  show hk_V Gd (N_xReader_either l fr lo) (hk_end Gd s0 (some (va_rf r)) fin) 0 [(0, .ref th)] [] s0
  unfold xReader_either at h
  refine hv_aload_n 0 dX6_either_0 rfl rfl ?_
  obtain ⟨q1, e_q1, h⟩ := hq_ob h
  obtain ⟨g2, h⟩ := hq_gd h
  refine hv_callV [] [] [va_rf q1.1] (h_all _ _ _ _ e_q1) cs_X6_66 g2 rfl ⟨by show _ ≤ fr; omega, by show _ ≤ lo; omega⟩ rfl (Nat.le_of_ble_eq_true rfl) rfl dX6_either_1 ?_
  refine hv_astore_nq (L' := [(1, va_rf q1.1), (0, .ref th)]) dX6_either_4 rfl (Nat.le_of_ble_eq_true rfl) rfl ?_
  refine hv_sub [1, 0] rfl ?_
  refine wk_xReader_either_L5 hroom h_all ?_ hk_F _ _ h
  · intro v5 s6 h
    refine hv_aload_nq 0 dX6_either_46 rfl rfl ?_
    obtain ⟨h1, h2⟩ := hq_ret h
    subst h1
    subst h2
    exact hv_aret rfl dX6_either_47
def g_R : Nat → Nat → Nat → hk_St → Option (Option Nat × hk_St)
  | 0 => fun _ _ _ => none
  | d + 1 => fun w => match w with
    | 0 => xReader_either (g_R d 1)
    | 1 => xReader_all (g_R d 2)
    | 2 => xReader_compared (g_R d 3)
    | 3 => xReader_sum (g_R d 4)
    | 4 => xReader_product (g_R d 5)
    | _ => xReader_operand (g_R d 5) (g_R d 0)
theorem wk_gA_R {l : Launch} {Gd : hk_G} : ∀ d : Nat, (∀ (b0 : Nat) (z : hk_St) (r : Option Nat) (z2 : hk_St), g_R d 0 b0 z = some (r, z2) → hk_Met Gd l yX6_either cX6_either 2 (some (.object "HeadReckons$Node")) (40 + d) (1500 + 60 * d) [.ref b0] z (some (va_rf r)) z2) ∧
    (∀ (b0 : Nat) (z : hk_St) (r : Option Nat) (z2 : hk_St), g_R d 1 b0 z = some (r, z2) → hk_Met Gd l yX6_all cX6_all 2 (some (.object "HeadReckons$Node")) (40 + d) (1500 + 60 * d) [.ref b0] z (some (va_rf r)) z2) ∧
    (∀ (b0 : Nat) (z : hk_St) (r : Option Nat) (z2 : hk_St), g_R d 2 b0 z = some (r, z2) → hk_Met Gd l yX6_compared cX6_compared 3 (some (.object "HeadReckons$Node")) (40 + d) (1500 + 60 * d) [.ref b0] z (some (va_rf r)) z2) ∧
    (∀ (b0 : Nat) (z : hk_St) (r : Option Nat) (z2 : hk_St), g_R d 3 b0 z = some (r, z2) → hk_Met Gd l yX6_sum cX6_sum 3 (some (.object "HeadReckons$Node")) (40 + d) (1500 + 60 * d) [.ref b0] z (some (va_rf r)) z2) ∧
    (∀ (b0 : Nat) (z : hk_St) (r : Option Nat) (z2 : hk_St), g_R d 4 b0 z = some (r, z2) → hk_Met Gd l yX6_product cX6_product 3 (some (.object "HeadReckons$Node")) (40 + d) (1500 + 60 * d) [.ref b0] z (some (va_rf r)) z2) ∧
    (∀ (b0 : Nat) (z : hk_St) (r : Option Nat) (z2 : hk_St), g_R d 5 b0 z = some (r, z2) → hk_Met Gd l yX6_operand cX6_operand 4 (some (.object "HeadReckons$Node")) (40 + d) (1500 + 60 * d) [.ref b0] z (some (va_rf r)) z2) := by
  intro d
  induction d with
  | zero => refine ⟨?_, ?_, ?_, ?_, ?_, ?_⟩ <;> (intros; rename_i h; cases h)
  | succ d ih =>
    exact ⟨fun _ _ _ _ h => wk_xReader_either ⟨by omega, by omega, by omega, by omega⟩ ih.2.1 h,
      fun _ _ _ _ h => wk_xReader_all ⟨by omega, by omega, by omega, by omega⟩ ih.2.2.1 h,
      fun _ _ _ _ h => wk_xReader_compared ⟨by omega, by omega, by omega, by omega⟩ ih.2.2.2.1 h,
      fun _ _ _ _ h => wk_xReader_sum ⟨by omega, by omega, by omega, by omega⟩ ih.2.2.2.2.1 h,
      fun _ _ _ _ h => wk_xReader_product ⟨by omega, by omega, by omega, by omega⟩ ih.2.2.2.2.2 h,
      fun _ _ _ _ h => wk_xReader_operand ⟨by omega, by omega, by omega, by omega⟩ ih.2.2.2.2.2 ih.1 h⟩
theorem wk_g_R_either {l : Launch} {Gd : hk_G} {b0 : Nat} {z : hk_St} {r : Option Nat} {z2 : hk_St} (h : g_R 60 0 b0 z = some (r, z2)) : hk_Met Gd l yX6_either cX6_either 2 (some (.object "HeadReckons$Node")) 100 5100 [.ref b0] z (some (va_rf r)) z2 :=
  (wk_gA_R 60).1 _ _ _ _ h
theorem wk_g_R_all {l : Launch} {Gd : hk_G} {b0 : Nat} {z : hk_St} {r : Option Nat} {z2 : hk_St} (h : g_R 60 1 b0 z = some (r, z2)) : hk_Met Gd l yX6_all cX6_all 2 (some (.object "HeadReckons$Node")) 100 5100 [.ref b0] z (some (va_rf r)) z2 :=
  (wk_gA_R 60).2.1 _ _ _ _ h
theorem wk_g_R_compared {l : Launch} {Gd : hk_G} {b0 : Nat} {z : hk_St} {r : Option Nat} {z2 : hk_St} (h : g_R 60 2 b0 z = some (r, z2)) : hk_Met Gd l yX6_compared cX6_compared 3 (some (.object "HeadReckons$Node")) 100 5100 [.ref b0] z (some (va_rf r)) z2 :=
  (wk_gA_R 60).2.2.1 _ _ _ _ h
theorem wk_g_R_sum {l : Launch} {Gd : hk_G} {b0 : Nat} {z : hk_St} {r : Option Nat} {z2 : hk_St} (h : g_R 60 3 b0 z = some (r, z2)) : hk_Met Gd l yX6_sum cX6_sum 3 (some (.object "HeadReckons$Node")) 100 5100 [.ref b0] z (some (va_rf r)) z2 :=
  (wk_gA_R 60).2.2.2.1 _ _ _ _ h
theorem wk_g_R_product {l : Launch} {Gd : hk_G} {b0 : Nat} {z : hk_St} {r : Option Nat} {z2 : hk_St} (h : g_R 60 4 b0 z = some (r, z2)) : hk_Met Gd l yX6_product cX6_product 3 (some (.object "HeadReckons$Node")) 100 5100 [.ref b0] z (some (va_rf r)) z2 :=
  (wk_gA_R 60).2.2.2.2.1 _ _ _ _ h
theorem wk_g_R_operand {l : Launch} {Gd : hk_G} {b0 : Nat} {z : hk_St} {r : Option Nat} {z2 : hk_St} (h : g_R 60 5 b0 z = some (r, z2)) : hk_Met Gd l yX6_operand cX6_operand 4 (some (.object "HeadReckons$Node")) 100 5100 [.ref b0] z (some (va_rf r)) z2 :=
  (wk_gA_R 60).2.2.2.2.2 _ _ _ _ h
def xReader_line (th : Nat) (s0 : hk_St) : Option (Option Nat × hk_St) :=
  hk_nm (hk_nx s0) fun a1 =>
  hk_nm (hk_mk s0 7 0 3) fun s2 =>
  (xLine_init a1 s2).bind fun s3 =>
  ((g_R 60 0) th s3).bind fun q4 =>
  hk_gd (hk_bf [6] s3 th) <|
  (hk_pR [7] 701 q4.2 a1 q4.1).bind fun s6 =>
  (hk_gI [6] 601 s6 th).bind fun x7 =>
  if 0 ≤ x7 then
    some (some a1, s6)
  else
  (xReader_here th s6).bind fun x9 =>
  hk_gd (hk_bf [6] s6 th) <|
  if x9 = (63 : Int32) then
    (hk_gI [6] 600 s6 th).bind fun x12 =>
    (hk_pI [6] 600 s6 th (x12 + (1 : Int32))).bind fun s13 =>
    (hk_gR [7] 701 s13 a1).bind fun x14 =>
    (hk_pR [7] 700 s13 a1 x14).bind fun s15 =>
    ((g_R 60 0) th s15).bind fun q16 =>
    hk_gd (hk_bf [6] s15 th) <|
    (hk_pR [7] 701 q16.2 a1 q16.1).bind fun s18 =>
    some (some a1, s18)
  else
  some (some a1, s6)
abbrev N_xReader_line (l : Launch) : hk_N := (l, cX6_line, "HeadReckons$Reader", 2, (some (.object "HeadReckons$Line")), 101, 5121, false)
set_option maxHeartbeats 4000000 in
theorem wk_xReader_line {l : Launch} {Gd : hk_G} {th : Nat} {s0 : hk_St} {r : Option Nat} {fin : hk_St} (h : xReader_line th s0 = some (r, fin)) : hk_Met Gd l yX6_line cX6_line 2 (some (.object "HeadReckons$Line")) 101 5121 [.ref th] s0 (some (va_rf r)) fin := by
  refine hk_start "HeadReckons$Reader" false (by decide +kernel) rfl (by decide) (Nat.le_of_ble_eq_true rfl) ?_
  show hk_V Gd (N_xReader_line l) (hk_end Gd s0 (some (va_rf r)) fin) 0 [(0, .ref th)] [] s0
  unfold xReader_line at h
  obtain ⟨a1, e_a1, h⟩ := hq_nm h
  obtain ⟨s2, e_s2, h⟩ := hq_nm h
  refine hv_new (ci := 7) (r := (RX7, TX7, 3)) rfl hk_ok7 (by decide) q416 q417 q99 dX6_line_0 ?_
  rw [show hk_mk s0 7 0 ((RX7, TX7, 3) : vw_C).2.2 = s2 from e_s2.symm, ← e_a1]
  refine hv_dup dX6_line_3 rfl ?_
  obtain ⟨s3, e_s3, h⟩ := hq_ob h
  refine hv_callIN [] [.ref a1] [.ref a1] (wk_xLine_init e_s3) cs_X6_49 rfl ⟨Nat.le_of_ble_eq_true rfl, Nat.le_of_ble_eq_true rfl⟩ rfl (Nat.le_of_ble_eq_true rfl) rfl dX6_line_4 ?_
  refine hv_astore_n (L' := [(1, .ref a1), (0, .ref th)]) dX6_line_7 rfl (Nat.le_of_ble_eq_true rfl) rfl ?_
  refine hv_aload_n 0 dX6_line_8 rfl rfl ?_
  refine hv_aload_n 1 dX6_line_9 rfl rfl ?_
  obtain ⟨q4, e_q4, h⟩ := hq_ob h
  obtain ⟨g5, h⟩ := hq_gd h
  refine hv_callV [] [.ref a1] [va_rf q4.1, .ref a1] (wk_g_R_either e_q4) cs_X6_50 g5 rfl ⟨Nat.le_of_ble_eq_true rfl, Nat.le_of_ble_eq_true rfl⟩ rfl (Nat.le_of_ble_eq_true rfl) rfl dX6_line_10 ?_
  obtain ⟨s6, e_s6, h⟩ := hq_ob h
  refine hv_putR fp_X6_54 e_s6 (fun q => by cases q) dX6_line_13 ?_
  refine hv_aload_n 1 dX6_line_16 rfl rfl ?_
  obtain ⟨x7, e_x7, h⟩ := hq_ob h
  refine hv_getI fl_X6_15 e_x7 dX6_line_17 ?_
  refine hv_if_ge (tgt := 32) dX6_line_20 (by decide) (fun c8 => ?_) (fun c8 => ?_)
  · replace h := hq_ip c8 h
    refine hv_aload_n 0 dX6_line_32 rfl rfl ?_
    obtain ⟨h1, h2⟩ := hq_ret h
    subst h1
    subst h2
    exact hv_aret rfl dX6_line_33
  · replace h := hq_in c8 h
    refine hv_aload_n 1 dX6_line_23 rfl rfl ?_
    obtain ⟨x9, e_x9, h⟩ := hq_ob h
    obtain ⟨g10, h⟩ := hq_gd h
    refine hv_callV [] [] [.int x9] (wk_xReader_here e_x9) cs_X6_29 g10 rfl ⟨Nat.le_of_ble_eq_true rfl, Nat.le_of_ble_eq_true rfl⟩ rfl (Nat.le_of_ble_eq_true rfl) rfl dX6_line_24 ?_
    refine hv_bipush (v := 63) dX6_line_27 (by decide) ?_
    refine hv_icmp_eq (tgt := 34) dX6_line_29 (by decide) (fun c11 => ?_) (fun c11 => ?_)
    · replace h := hq_ip c11 h
      refine hv_aload_n 1 dX6_line_34 rfl rfl ?_
      refine hv_dup dX6_line_35 rfl ?_
      obtain ⟨x12, e_x12, h⟩ := hq_ob h
      refine hv_getI fl_X6_19 e_x12 dX6_line_36 ?_
      refine hv_iconst (v := 1) dX6_line_39 (by decide) ?_
      refine hv_iadd dX6_line_40 ?_
      obtain ⟨s13, e_s13, h⟩ := hq_ob h
      refine hv_putI fp_X6_19 e_s13 (fun q => by cases q) dX6_line_41 ?_
      refine hv_aload_n 0 dX6_line_44 rfl rfl ?_
      refine hv_aload_n 0 dX6_line_45 rfl rfl ?_
      obtain ⟨x14, e_x14, h⟩ := hq_ob h
      refine hv_getR fl_X6_54 e_x14 dX6_line_46 ?_
      obtain ⟨s15, e_s15, h⟩ := hq_ob h
      refine hv_putR fp_X6_58 e_s15 (fun q => by cases q) dX6_line_49 ?_
      refine hv_aload_n 0 dX6_line_52 rfl rfl ?_
      refine hv_aload_n 1 dX6_line_53 rfl rfl ?_
      obtain ⟨q16, e_q16, h⟩ := hq_ob h
      obtain ⟨g17, h⟩ := hq_gd h
      refine hv_callV [] [.ref a1] [va_rf q16.1, .ref a1] (wk_g_R_either e_q16) cs_X6_50 g17 rfl ⟨Nat.le_of_ble_eq_true rfl, Nat.le_of_ble_eq_true rfl⟩ rfl (Nat.le_of_ble_eq_true rfl) rfl dX6_line_54 ?_
      obtain ⟨s18, e_s18, h⟩ := hq_ob h
      refine hv_putR fp_X6_54 e_s18 (fun q => by cases q) dX6_line_57 ?_
      refine hv_aload_n 0 dX6_line_60 rfl rfl ?_
      obtain ⟨h1, h2⟩ := hq_ret h
      subst h1
      subst h2
      exact hv_aret rfl dX6_line_61
    · replace h := hq_in c11 h
      refine hv_aload_n 0 dX6_line_32 rfl rfl ?_
      obtain ⟨h1, h2⟩ := hq_ret h
      subst h1
      subst h2
      exact hv_aret rfl dX6_line_33
