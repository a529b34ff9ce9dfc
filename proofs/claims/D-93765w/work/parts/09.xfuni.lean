set_option maxRecDepth 100000
def x_trace (th : Nat) (p1 : Int32) (s0 : hk_St) : Option (Int32) :=
  if p1 < 0 then
    some (-1 : Int32)
  else
  (hk_gI [0] 18 s0 th).bind fun x2 =>
  if x2 ≤ p1 then
    some (-1 : Int32)
  else
  if (24 : Int32) ≤ p1 then
    some (-1 : Int32)
  else
  (hk_gR [0] 19 s0 th).bind fun x5 =>
  hk_nn x5 fun a6 =>
  (hk_lI 1 s0 a6 p1).bind fun x7 =>
  some x7
abbrev N_x_trace (l : Launch) : hk_N := (l, cX0_trace, "HeadReckons", 2, (some .int), 0, 0, false)
set_option maxHeartbeats 4000000 in
theorem wk_x_trace {l : Launch} {Gd : hk_G} {th : Nat} {p1 : Int32} {s0 : hk_St} {r : Int32} (h : x_trace th p1 s0 = some r) : hk_Met Gd l yX0_trace cX0_trace 2 (some .int) 0 0 [.ref th, .int p1] s0 (some (.int r)) s0 := by
  refine hk_start "HeadReckons" false (by decide +kernel) rfl (by decide) (Nat.le_of_ble_eq_true rfl) ?_
  show hk_V Gd (N_x_trace l) (hk_end Gd s0 (some (.int r)) s0) 0 [(0, .ref th), (1, .int p1)] [] s0
  unfold x_trace at h
  refine hv_iload_n 1 dX0_trace_0 rfl rfl ?_
  refine hv_if_lt (tgt := 27) dX0_trace_1 (by decide) (fun c1 => ?_) (fun c1 => ?_)
  · replace h := hq_ip c1 h
    refine hv_iconst (v := -1) dX0_trace_27 (by decide) ?_
    have h := Option.some.inj h
    subst h
    exact hv_iret rfl dX0_trace_28
  · replace h := hq_in c1 h
    refine hv_iload_n 1 dX0_trace_4 rfl rfl ?_
    refine hv_aload_n 0 dX0_trace_5 rfl rfl ?_
    obtain ⟨x2, e_x2, h⟩ := hq_ob h
    refine hv_getI fl_X0_359 e_x2 dX0_trace_6 ?_
    refine hv_icmp_ge (tgt := 27) dX0_trace_9 (by decide) (fun c3 => ?_) (fun c3 => ?_)
    · replace h := hq_ip c3 h
      refine hv_iconst (v := -1) dX0_trace_27 (by decide) ?_
      have h := Option.some.inj h
      subst h
      exact hv_iret rfl dX0_trace_28
    · replace h := hq_in c3 h
      refine hv_iload_n 1 dX0_trace_12 rfl rfl ?_
      refine hv_bipush (v := 24) dX0_trace_13 (by decide) ?_
      refine hv_icmp_ge (tgt := 27) dX0_trace_15 (by decide) (fun c4 => ?_) (fun c4 => ?_)
      · replace h := hq_ip c4 h
        refine hv_iconst (v := -1) dX0_trace_27 (by decide) ?_
        have h := Option.some.inj h
        subst h
        exact hv_iret rfl dX0_trace_28
      · replace h := hq_in c4 h
        refine hv_aload_n 0 dX0_trace_18 rfl rfl ?_
        obtain ⟨x5, e_x5, h⟩ := hq_ob h
        refine hv_getR fl_X0_56 e_x5 dX0_trace_19 ?_
        refine hv_iload_n 1 dX0_trace_22 rfl rfl ?_
        obtain ⟨a6, e_a6, h⟩ := hq_nn h
        rw [e_a6]
        obtain ⟨x7, e_x7, h⟩ := hq_ob h
        refine hv_bald e_x7 dX0_trace_23 ?_
        refine hv_goto (tgt := 28) dX0_trace_24 (by decide) ?_
        have h := Option.some.inj h
        subst h
        exact hv_iret rfl dX0_trace_28
def x_keep (th : Nat) (p1 : Int32) (p2 : Int32) (s0 : hk_St) : Option (Int32 × hk_St) :=
  hk_nm (fun (s1 : hk_St) =>
    (hk_gR [0] 22 s1 th).bind fun x2 =>
    if 0 ≤ p2 then
      (hk_gR [0] 20 s1 th).bind fun x4 =>
      hk_nn x4 fun a5 =>
      (hk_lR 9 s1 a5 p2).bind fun x6 =>
      hk_nn x2 fun a7 =>
      (hk_tR 10 [15, 16, 17, 18, 19, 20, 21, 22, 23, 24, 25, 26, 27] s1 a7 p1 x6).bind fun s8 =>
      some ((1 : Int32), s8)
    else
    hk_nn x2 fun a9 =>
    (hk_tR 10 [15, 16, 17, 18, 19, 20, 21, 22, 23, 24, 25, 26, 27] s1 a9 p1 none).bind fun s10 =>
    some ((1 : Int32), s10)) fun k22 =>
  if (x_isShelf p1) = 0 then
    some ((-1 : Int32), s0)
  else
  if p2 = (-1 : Int32) then
    k22 s0
  else
  (x_isBody th p2 s0).bind fun x13 =>
  hk_gd (hk_bf [0] s0 th) <|
  if x13 = 0 then
    some ((-1 : Int32), s0)
  else
  k22 s0
abbrev N_x_keep (l : Launch) : hk_N := (l, cX0_keep, "HeadReckons", 3, (some .int), 2, 43, false)
set_option maxHeartbeats 4000000 in
theorem wk_x_keep {l : Launch} {Gd : hk_G} {th : Nat} {p1 : Int32} {p2 : Int32} {s0 : hk_St} {r : Int32} {fin : hk_St} (h : x_keep th p1 p2 s0 = some (r, fin)) : hk_Met Gd l yX0_keep cX0_keep 3 (some .int) 2 43 [.ref th, .int p1, .int p2] s0 (some (.int r)) fin := by
  refine hk_start "HeadReckons" false (by decide +kernel) rfl (by decide) (Nat.le_of_ble_eq_true rfl) ?_
  show hk_V Gd (N_x_keep l) (hk_end Gd s0 (some (.int r)) fin) 0 [(0, .ref th), (1, .int p1), (2, .int p2)] [] s0
  unfold x_keep at h
  obtain ⟨k22, e_k22, h⟩ := hq_nm h
  have wk22 : ∀ (s1 : hk_St), k22 s1 = some (r, fin) → hk_V Gd (N_x_keep l) (hk_end Gd s0 (some (.int r)) fin) 22 [(0, .ref th), (1, .int p1), (2, .int p2)] [] s1 := by
    intro s1 h
    rw [e_k22] at h
    refine hv_aload_n 0 dX0_keep_22 rfl rfl ?_
    obtain ⟨x2, e_x2, h⟩ := hq_ob h
    refine hv_getR fl_X0_67 e_x2 dX0_keep_23 ?_
    refine hv_iload_n 1 dX0_keep_26 rfl rfl ?_
    refine hv_iload_n 2 dX0_keep_27 rfl rfl ?_
    refine hv_if_ge (tgt := 35) dX0_keep_28 (by decide) (fun c3 => ?_) (fun c3 => ?_)
    · replace h := hq_ip c3 h
      refine hv_aload_n 0 dX0_keep_35 rfl rfl ?_
      obtain ⟨x4, e_x4, h⟩ := hq_ob h
      refine hv_getR fl_X0_61 e_x4 dX0_keep_36 ?_
      refine hv_iload_n 2 dX0_keep_39 rfl rfl ?_
      obtain ⟨a5, e_a5, h⟩ := hq_nn h
      rw [e_a5]
      obtain ⟨x6, e_x6, h⟩ := hq_ob h
      refine hv_aald (by decide) (by decide) rfl e_x6 dX0_keep_40 ?_
      obtain ⟨a7, e_a7, h⟩ := hq_nn h
      rw [e_a7]
      obtain ⟨s8, e_s8, h⟩ := hq_ob h
      refine hv_aast (by decide) (by decide) rfl hk_as10 e_s8 dX0_keep_41 ?_
      refine hv_iconst (v := 1) dX0_keep_42 (by decide) ?_
      obtain ⟨h1, h2⟩ := hq_ret h
      subst h1
      subst h2
      exact hv_iret rfl dX0_keep_43
    · replace h := hq_in c3 h
      refine hv_null dX0_keep_31 ?_
      refine hv_goto (tgt := 41) dX0_keep_32 (by decide) ?_
      obtain ⟨a9, e_a9, h⟩ := hq_nn h
      rw [e_a9]
      obtain ⟨s10, e_s10, h⟩ := hq_ob h
      refine hv_aast (by decide) (by decide) rfl hk_as10 e_s10 dX0_keep_41 ?_
      refine hv_iconst (v := 1) dX0_keep_42 (by decide) ?_
      obtain ⟨h1, h2⟩ := hq_ret h
      subst h1
      subst h2
      exact hv_iret rfl dX0_keep_43
  clear e_k22
  refine hv_iload_n 1 dX0_keep_0 rfl rfl ?_
  refine hv_callS [.int p1] [] [.int (x_isShelf p1)] (wk_x_isShelf rfl) cs_X0_237 rfl ⟨Nat.le_of_ble_eq_true rfl, Nat.le_of_ble_eq_true rfl⟩ rfl (Nat.le_of_ble_eq_true rfl) rfl dX0_keep_1 ?_
  refine hv_if_eq (tgt := 20) dX0_keep_4 (by decide) (fun c11 => ?_) (fun c11 => ?_)
  · replace h := hq_ip c11 h
    refine hv_iconst (v := -1) dX0_keep_20 (by decide) ?_
    obtain ⟨h1, h2⟩ := hq_ret h
    subst h1
    subst h2
    exact hv_iret rfl dX0_keep_21
  · replace h := hq_in c11 h
    refine hv_iload_n 2 dX0_keep_7 rfl rfl ?_
    refine hv_iconst (v := -1) dX0_keep_8 (by decide) ?_
    refine hv_icmp_eq (tgt := 22) dX0_keep_9 (by decide) (fun c12 => ?_) (fun c12 => ?_)
    · replace h := hq_ip c12 h
      exact wk22 _ h
    · replace h := hq_in c12 h
      refine hv_aload_n 0 dX0_keep_12 rfl rfl ?_
      refine hv_iload_n 2 dX0_keep_13 rfl rfl ?_
      obtain ⟨x13, e_x13, h⟩ := hq_ob h
      obtain ⟨g14, h⟩ := hq_gd h
      refine hv_callV [.int p2] [] [.int x13] (wk_x_isBody e_x13) cs_X0_393 g14 rfl ⟨Nat.le_of_ble_eq_true rfl, Nat.le_of_ble_eq_true rfl⟩ rfl (Nat.le_of_ble_eq_true rfl) rfl dX0_keep_14 ?_
      refine hv_if_ne (tgt := 22) dX0_keep_17 (by decide) (fun c15 => ?_) (fun c15 => ?_)
      · replace h := hq_in c15 h
        exact wk22 _ h
      · replace h := hq_ip c15 h
        refine hv_iconst (v := -1) dX0_keep_20 (by decide) ?_
        obtain ⟨h1, h2⟩ := hq_ret h
        subst h1
        subst h2
        exact hv_iret rfl dX0_keep_21
def x_count (th : Nat) (p1 : Int32) (s0 : hk_St) : Option (Int32) :=
  if p1 = 0 then
    (hk_gI [0] 3 s0 th).bind fun x1 =>
    some x1
  else
  if p1 = 1 then
    (hk_gI [0] 11 s0 th).bind fun x3 =>
    some x3
  else
  if p1 = 2 then
    (hk_gI [0] 1 s0 th).bind fun x5 =>
    some x5
  else
  if p1 = 3 then
    (hk_gI [0] 13 s0 th).bind fun x7 =>
    some x7
  else
  if p1 = 4 then
    (hk_gI [0] 5 s0 th).bind fun x9 =>
    some x9
  else
  if p1 = 5 then
    (hk_gI [0] 21 s0 th).bind fun x11 =>
    some x11
  else
  if p1 = 6 then
    (hk_gI [0] 18 s0 th).bind fun x13 =>
    some x13
  else
  some (-1 : Int32)
abbrev N_x_count (l : Launch) : hk_N := (l, cX0_count, "HeadReckons", 2, (some .int), 0, 0, false)
set_option maxHeartbeats 4000000 in
theorem wk_x_count {l : Launch} {Gd : hk_G} {th : Nat} {p1 : Int32} {s0 : hk_St} {r : Int32} (h : x_count th p1 s0 = some r) : hk_Met Gd l yX0_count cX0_count 2 (some .int) 0 0 [.ref th, .int p1] s0 (some (.int r)) s0 := by
  refine hk_start "HeadReckons" false (by decide +kernel) rfl (by decide) (Nat.le_of_ble_eq_true rfl) ?_
  show hk_V Gd (N_x_count l) (hk_end Gd s0 (some (.int r)) s0) 0 [(0, .ref th), (1, .int p1)] [] s0
  unfold x_count at h
  refine hv_iload_n 1 dX0_count_0 rfl rfl ?_
  by_cases c2 : p1 = 0
  · replace h := hq_ip c2 h
    refine hv_tableIn (tgt := 44) (off := 43) dX0_count_1 (by rw [c2]; decide) (by rw [c2]; decide) (by rw [c2]; rfl) (by decide) ?_
    refine hv_aload_n 0 dX0_count_44 rfl rfl ?_
    obtain ⟨x1, e_x1, h⟩ := hq_ob h
    refine hv_getI fl_X0_81 e_x1 dX0_count_45 ?_
    have h := Option.some.inj h
    subst h
    exact hv_iret rfl dX0_count_48
  replace h := hq_in c2 h
  by_cases c4 : p1 = 1
  · replace h := hq_ip c4 h
    refine hv_tableIn (tgt := 49) (off := 48) dX0_count_1 (by rw [c4]; decide) (by rw [c4]; decide) (by rw [c4]; rfl) (by decide) ?_
    refine hv_aload_n 0 dX0_count_49 rfl rfl ?_
    obtain ⟨x3, e_x3, h⟩ := hq_ob h
    refine hv_getI fl_X0_231 e_x3 dX0_count_50 ?_
    have h := Option.some.inj h
    subst h
    exact hv_iret rfl dX0_count_53
  replace h := hq_in c4 h
  by_cases c6 : p1 = 2
  · replace h := hq_ip c6 h
    refine hv_tableIn (tgt := 54) (off := 53) dX0_count_1 (by rw [c6]; decide) (by rw [c6]; decide) (by rw [c6]; rfl) (by decide) ?_
    refine hv_aload_n 0 dX0_count_54 rfl rfl ?_
    obtain ⟨x5, e_x5, h⟩ := hq_ob h
    refine hv_getI fl_X0_77 e_x5 dX0_count_55 ?_
    have h := Option.some.inj h
    subst h
    exact hv_iret rfl dX0_count_58
  replace h := hq_in c6 h
  by_cases c8 : p1 = 3
  · replace h := hq_ip c8 h
    refine hv_tableIn (tgt := 59) (off := 58) dX0_count_1 (by rw [c8]; decide) (by rw [c8]; decide) (by rw [c8]; rfl) (by decide) ?_
    refine hv_aload_n 0 dX0_count_59 rfl rfl ?_
    obtain ⟨x7, e_x7, h⟩ := hq_ob h
    refine hv_getI fl_X0_288 e_x7 dX0_count_60 ?_
    have h := Option.some.inj h
    subst h
    exact hv_iret rfl dX0_count_63
  replace h := hq_in c8 h
  by_cases c10 : p1 = 4
  · replace h := hq_ip c10 h
    refine hv_tableIn (tgt := 64) (off := 63) dX0_count_1 (by rw [c10]; decide) (by rw [c10]; decide) (by rw [c10]; rfl) (by decide) ?_
    refine hv_aload_n 0 dX0_count_64 rfl rfl ?_
    obtain ⟨x9, e_x9, h⟩ := hq_ob h
    refine hv_getI fl_X0_100 e_x9 dX0_count_65 ?_
    have h := Option.some.inj h
    subst h
    exact hv_iret rfl dX0_count_68
  replace h := hq_in c10 h
  by_cases c12 : p1 = 5
  · replace h := hq_ip c12 h
    refine hv_tableIn (tgt := 69) (off := 68) dX0_count_1 (by rw [c12]; decide) (by rw [c12]; decide) (by rw [c12]; rfl) (by decide) ?_
    refine hv_aload_n 0 dX0_count_69 rfl rfl ?_
    obtain ⟨x11, e_x11, h⟩ := hq_ob h
    refine hv_getI fl_X0_362 e_x11 dX0_count_70 ?_
    have h := Option.some.inj h
    subst h
    exact hv_iret rfl dX0_count_73
  replace h := hq_in c12 h
  by_cases c14 : p1 = 6
  · replace h := hq_ip c14 h
    refine hv_tableIn (tgt := 74) (off := 73) dX0_count_1 (by rw [c14]; decide) (by rw [c14]; decide) (by rw [c14]; rfl) (by decide) ?_
    refine hv_aload_n 0 dX0_count_74 rfl rfl ?_
    obtain ⟨x13, e_x13, h⟩ := hq_ob h
    refine hv_getI fl_X0_359 e_x13 dX0_count_75 ?_
    have h := Option.some.inj h
    subst h
    exact hv_iret rfl dX0_count_78
  replace h := hq_in c14 h
  refine hv_tableD (tgt := 79) [0, 1, 2, 3, 4, 5, 6] dX0_count_1 (by decide) (by decide) (List.forall_mem_cons.mpr ⟨lv_neT c2 (by decide), (List.forall_mem_cons.mpr ⟨lv_neT c4 (by decide), (List.forall_mem_cons.mpr ⟨lv_neT c6 (by decide), (List.forall_mem_cons.mpr ⟨lv_neT c8 (by decide), (List.forall_mem_cons.mpr ⟨lv_neT c10 (by decide), (List.forall_mem_cons.mpr ⟨lv_neT c12 (by decide), (List.forall_mem_cons.mpr ⟨lv_neT c14 (by decide), (fun _ q => absurd q List.not_mem_nil)⟩)⟩)⟩)⟩)⟩)⟩)⟩) (by decide) ?_
  refine hv_iconst (v := -1) dX0_count_79 (by decide) ?_
  have h := Option.some.inj h
  subst h
  exact hv_iret rfl dX0_count_80
def xWay_kind (th : Nat) : Int32 :=
  (0 : Int32)
abbrev N_xWay_kind (l : Launch) : hk_N := (l, cX17_kind, "HeadReckons$Way", 1, (some .int), 0, 0, false)
set_option maxHeartbeats 4000000 in
theorem wk_xWay_kind {l : Launch} {Gd : hk_G} {st : hk_St} {th : Nat} {r : Int32} (h : xWay_kind th = r) : hk_Met Gd l yX17_kind cX17_kind 1 (some .int) 0 0 [.ref th] st (some (.int r)) st := by
  refine hk_start "HeadReckons$Way" false (by decide +kernel) rfl (by decide) (Nat.le_of_ble_eq_true rfl) ?_
  show hk_V Gd (N_xWay_kind l) (hk_end Gd st (some (.int r)) st) 0 [(0, .ref th)] [] st
  unfold xWay_kind at h
  refine hv_iconst (v := 0) dX17_kind_0 (by decide) ?_
  subst h
  exact hv_iret rfl dX17_kind_1
def xFromLeft_kind (th : Nat) : Int32 :=
  (1 : Int32)
abbrev N_xFromLeft_kind (l : Launch) : hk_N := (l, cX18_kind, "HeadReckons$FromLeft", 1, (some .int), 0, 0, false)
set_option maxHeartbeats 4000000 in
theorem wk_xFromLeft_kind {l : Launch} {Gd : hk_G} {st : hk_St} {th : Nat} {r : Int32} (h : xFromLeft_kind th = r) : hk_Met Gd l yX18_kind cX18_kind 1 (some .int) 0 0 [.ref th] st (some (.int r)) st := by
  refine hk_start "HeadReckons$FromLeft" false (by decide +kernel) rfl (by decide) (Nat.le_of_ble_eq_true rfl) ?_
  show hk_V Gd (N_xFromLeft_kind l) (hk_end Gd st (some (.int r)) st) 0 [(0, .ref th)] [] st
  unfold xFromLeft_kind at h
  refine hv_iconst (v := 1) dX18_kind_0 (by decide) ?_
  subst h
  exact hv_iret rfl dX18_kind_1
def xFromRight_kind (th : Nat) : Int32 :=
  (2 : Int32)
abbrev N_xFromRight_kind (l : Launch) : hk_N := (l, cX19_kind, "HeadReckons$FromRight", 1, (some .int), 0, 0, false)
set_option maxHeartbeats 4000000 in
theorem wk_xFromRight_kind {l : Launch} {Gd : hk_G} {st : hk_St} {th : Nat} {r : Int32} (h : xFromRight_kind th = r) : hk_Met Gd l yX19_kind cX19_kind 1 (some .int) 0 0 [.ref th] st (some (.int r)) st := by
  refine hk_start "HeadReckons$FromRight" false (by decide +kernel) rfl (by decide) (Nat.le_of_ble_eq_true rfl) ?_
  show hk_V Gd (N_xFromRight_kind l) (hk_end Gd st (some (.int r)) st) 0 [(0, .ref th)] [] st
  unfold xFromRight_kind at h
  refine hv_iconst (v := 2) dX19_kind_0 (by decide) ?_
  subst h
  exact hv_iret rfl dX19_kind_1
def xCrosswise_kind (th : Nat) : Int32 :=
  (3 : Int32)
abbrev N_xCrosswise_kind (l : Launch) : hk_N := (l, cX20_kind, "HeadReckons$Crosswise", 1, (some .int), 0, 0, false)
set_option maxHeartbeats 4000000 in
theorem wk_xCrosswise_kind {l : Launch} {Gd : hk_G} {st : hk_St} {th : Nat} {r : Int32} (h : xCrosswise_kind th = r) : hk_Met Gd l yX20_kind cX20_kind 1 (some .int) 0 0 [.ref th] st (some (.int r)) st := by
  refine hk_start "HeadReckons$Crosswise" false (by decide +kernel) rfl (by decide) (Nat.le_of_ble_eq_true rfl) ?_
  show hk_V Gd (N_xCrosswise_kind l) (hk_end Gd st (some (.int r)) st) 0 [(0, .ref th)] [] st
  unfold xCrosswise_kind at h
  refine hv_iconst (v := 3) dX20_kind_0 (by decide) ?_
  subst h
  exact hv_iret rfl dX20_kind_1
def xBySquares_kind (th : Nat) : Int32 :=
  (4 : Int32)
abbrev N_xBySquares_kind (l : Launch) : hk_N := (l, cX21_kind, "HeadReckons$BySquares", 1, (some .int), 0, 0, false)
set_option maxHeartbeats 4000000 in
theorem wk_xBySquares_kind {l : Launch} {Gd : hk_G} {st : hk_St} {th : Nat} {r : Int32} (h : xBySquares_kind th = r) : hk_Met Gd l yX21_kind cX21_kind 1 (some .int) 0 0 [.ref th] st (some (.int r)) st := by
  refine hk_start "HeadReckons$BySquares" false (by decide +kernel) rfl (by decide) (Nat.le_of_ble_eq_true rfl) ?_
  show hk_V Gd (N_xBySquares_kind l) (hk_end Gd st (some (.int r)) st) 0 [(0, .ref th)] [] st
  unfold xBySquares_kind at h
  refine hv_iconst (v := 4) dX21_kind_0 (by decide) ?_
  subst h
  exact hv_iret rfl dX21_kind_1
def xByFactors_kind (th : Nat) : Int32 :=
  (5 : Int32)
abbrev N_xByFactors_kind (l : Launch) : hk_N := (l, cX22_kind, "HeadReckons$ByFactors", 1, (some .int), 0, 0, false)
set_option maxHeartbeats 4000000 in
theorem wk_xByFactors_kind {l : Launch} {Gd : hk_G} {st : hk_St} {th : Nat} {r : Int32} (h : xByFactors_kind th = r) : hk_Met Gd l yX22_kind cX22_kind 1 (some .int) 0 0 [.ref th] st (some (.int r)) st := by
  refine hk_start "HeadReckons$ByFactors" false (by decide +kernel) rfl (by decide) (Nat.le_of_ble_eq_true rfl) ?_
  show hk_V Gd (N_xByFactors_kind l) (hk_end Gd st (some (.int r)) st) 0 [(0, .ref th)] [] st
  unfold xByFactors_kind at h
  refine hv_iconst (v := 5) dX22_kind_0 (by decide) ?_
  subst h
  exact hv_iret rfl dX22_kind_1
def xByHeart_kind (th : Nat) : Int32 :=
  (6 : Int32)
abbrev N_xByHeart_kind (l : Launch) : hk_N := (l, cX23_kind, "HeadReckons$ByHeart", 1, (some .int), 0, 0, false)
set_option maxHeartbeats 4000000 in
theorem wk_xByHeart_kind {l : Launch} {Gd : hk_G} {st : hk_St} {th : Nat} {r : Int32} (h : xByHeart_kind th = r) : hk_Met Gd l yX23_kind cX23_kind 1 (some .int) 0 0 [.ref th] st (some (.int r)) st := by
  refine hk_start "HeadReckons$ByHeart" false (by decide +kernel) rfl (by decide) (Nat.le_of_ble_eq_true rfl) ?_
  show hk_V Gd (N_xByHeart_kind l) (hk_end Gd st (some (.int r)) st) 0 [(0, .ref th)] [] st
  unfold xByHeart_kind at h
  refine hv_bipush (v := 6) dX23_kind_0 (by decide) ?_
  subst h
  exact hv_iret rfl dX23_kind_2
def xRooted_kind (th : Nat) : Int32 :=
  (7 : Int32)
abbrev N_xRooted_kind (l : Launch) : hk_N := (l, cX24_kind, "HeadReckons$Rooted", 1, (some .int), 0, 0, false)
set_option maxHeartbeats 4000000 in
theorem wk_xRooted_kind {l : Launch} {Gd : hk_G} {st : hk_St} {th : Nat} {r : Int32} (h : xRooted_kind th = r) : hk_Met Gd l yX24_kind cX24_kind 1 (some .int) 0 0 [.ref th] st (some (.int r)) st := by
  refine hk_start "HeadReckons$Rooted" false (by decide +kernel) rfl (by decide) (Nat.le_of_ble_eq_true rfl) ?_
  show hk_V Gd (N_xRooted_kind l) (hk_end Gd st (some (.int r)) st) 0 [(0, .ref th)] [] st
  unfold xRooted_kind at h
  refine hv_bipush (v := 7) dX24_kind_0 (by decide) ?_
  subst h
  exact hv_iret rfl dX24_kind_2

def xv_kind (b : Nat) (s : hk_St) : Option Int32 :=
  if hk_bf [15] s b = true then some (xWay_kind b) else
  if hk_bf [16] s b = true then some (xFromLeft_kind b) else
  if hk_bf [17] s b = true then some (xFromRight_kind b) else
  if hk_bf [18] s b = true then some (xCrosswise_kind b) else
  if hk_bf [19] s b = true then some (xBySquares_kind b) else
  if hk_bf [20] s b = true then some (xByFactors_kind b) else
  if hk_bf [21] s b = true then some (xByHeart_kind b) else
  if hk_bf [22] s b = true then some (xRooted_kind b) else
  none
theorem wd_kind {l : Launch} {Gd : hk_G} {b : Nat} {s : hk_St} {r : Int32} (h : xv_kind b s = some r) : hk_Dm vi_kind (some .int) Gd l 2 60 b [] s (some (.int r)) s := by
  unfold xv_kind at h
  by_cases c0 : hk_bf [15] s b = true
  · replace h := hq_ip c0 h
    exact ⟨(15, yX17_kind, cX17_kind, 1), List.mem_of_getElem? (i := 0) rfl, c0, 0, 0, wk_xWay_kind (Option.some.inj h), by decide, by decide⟩
  replace h := hq_in c0 h
  by_cases c1 : hk_bf [16] s b = true
  · replace h := hq_ip c1 h
    exact ⟨(16, yX18_kind, cX18_kind, 1), List.mem_of_getElem? (i := 1) rfl, c1, 0, 0, wk_xFromLeft_kind (Option.some.inj h), by decide, by decide⟩
  replace h := hq_in c1 h
  by_cases c2 : hk_bf [17] s b = true
  · replace h := hq_ip c2 h
    exact ⟨(17, yX19_kind, cX19_kind, 1), List.mem_of_getElem? (i := 2) rfl, c2, 0, 0, wk_xFromRight_kind (Option.some.inj h), by decide, by decide⟩
  replace h := hq_in c2 h
  by_cases c3 : hk_bf [18] s b = true
  · replace h := hq_ip c3 h
    exact ⟨(18, yX20_kind, cX20_kind, 1), List.mem_of_getElem? (i := 3) rfl, c3, 0, 0, wk_xCrosswise_kind (Option.some.inj h), by decide, by decide⟩
  replace h := hq_in c3 h
  by_cases c4 : hk_bf [19] s b = true
  · replace h := hq_ip c4 h
    exact ⟨(19, yX21_kind, cX21_kind, 1), List.mem_of_getElem? (i := 4) rfl, c4, 0, 0, wk_xBySquares_kind (Option.some.inj h), by decide, by decide⟩
  replace h := hq_in c4 h
  by_cases c5 : hk_bf [20] s b = true
  · replace h := hq_ip c5 h
    exact ⟨(20, yX22_kind, cX22_kind, 1), List.mem_of_getElem? (i := 5) rfl, c5, 0, 0, wk_xByFactors_kind (Option.some.inj h), by decide, by decide⟩
  replace h := hq_in c5 h
  by_cases c6 : hk_bf [21] s b = true
  · replace h := hq_ip c6 h
    exact ⟨(21, yX23_kind, cX23_kind, 1), List.mem_of_getElem? (i := 6) rfl, c6, 0, 0, wk_xByHeart_kind (Option.some.inj h), by decide, by decide⟩
  replace h := hq_in c6 h
  by_cases c7 : hk_bf [22] s b = true
  · replace h := hq_ip c7 h
    exact ⟨(22, yX24_kind, cX24_kind, 1), List.mem_of_getElem? (i := 7) rfl, c7, 0, 0, wk_xRooted_kind (Option.some.inj h), by decide, by decide⟩
  replace h := hq_in c7 h
  cases h
def xWay_isUnder (th : Nat) (p1 : Int32) (s0 : hk_St) : Option (Int32) :=
  if p1 = 0 then
    some (1 : Int32)
  else
  (xv_kind th s0).bind fun x2 =>
  if p1 = x2 then
    some (1 : Int32)
  else
  some (0 : Int32)
abbrev N_xWay_isUnder (l : Launch) : hk_N := (l, cX17_isUnder, "HeadReckons$Way", 2, (some .boolean), 3, 79, false)
set_option maxHeartbeats 4000000 in
theorem wk_xWay_isUnder {l : Launch} {Gd : hk_G} {th : Nat} {p1 : Int32} {s0 : hk_St} {r : Int32} (h : xWay_isUnder th p1 s0 = some r) : hk_Met Gd l yX17_isUnder cX17_isUnder 2 (some .boolean) 3 79 [.ref th, .int p1] s0 (some (.int r)) s0 := by
  refine hk_start "HeadReckons$Way" false (by decide +kernel) rfl (by decide) (Nat.le_of_ble_eq_true rfl) ?_
  show hk_V Gd (N_xWay_isUnder l) (hk_end Gd s0 (some (.int r)) s0) 0 [(0, .ref th), (1, .int p1)] [] s0
  unfold xWay_isUnder at h
  refine hv_iload_n 1 dX17_isUnder_0 rfl rfl ?_
  refine hv_if_eq (tgt := 12) dX17_isUnder_1 (by decide) (fun c1 => ?_) (fun c1 => ?_)
  · replace h := hq_ip c1 h
    refine hv_iconst (v := 1) dX17_isUnder_12 (by decide) ?_
    refine hv_goto (tgt := 17) dX17_isUnder_13 (by decide) ?_
    have h := Option.some.inj h
    subst h
    exact hv_zret (ty := .boolean) rfl rfl dX17_isUnder_17
  · replace h := hq_in c1 h
    refine hv_iload_n 1 dX17_isUnder_4 rfl rfl ?_
    refine hv_aload_n 0 dX17_isUnder_5 rfl rfl ?_
    obtain ⟨x2, e_x2, h⟩ := hq_ob h
    refine hv_callD [] [.int p1] [.int x2, .int p1] (wd_kind e_x2) cd_X17_19 rfl ⟨Nat.le_of_ble_eq_true rfl, Nat.le_of_ble_eq_true rfl⟩ rfl (Nat.le_of_ble_eq_true rfl) rfl dX17_isUnder_6 ?_
    refine hv_icmp_ne (tgt := 16) dX17_isUnder_9 (by decide) (fun c3 => ?_) (fun c3 => ?_)
    · replace h := hq_in c3 h
      refine hv_iconst (v := 0) dX17_isUnder_16 (by decide) ?_
      have h := Option.some.inj h
      subst h
      exact hv_zret (ty := .boolean) rfl rfl dX17_isUnder_17
    · replace h := hq_ip c3 h
      refine hv_iconst (v := 1) dX17_isUnder_12 (by decide) ?_
      refine hv_goto (tgt := 17) dX17_isUnder_13 (by decide) ?_
      have h := Option.some.inj h
      subst h
      exact hv_zret (ty := .boolean) rfl rfl dX17_isUnder_17
def xFromLeft_isUnder (th : Nat) (p1 : Int32) (s0 : hk_St) : Option (Int32) :=
  if p1 = (1 : Int32) then
    some (1 : Int32)
  else
  hk_gd (hk_bf [16, 20] s0 th) <|
  (xWay_isUnder th p1 s0).bind fun x2 =>
  if x2 = 0 then
    some (0 : Int32)
  else
  some (1 : Int32)
abbrev N_xFromLeft_isUnder (l : Launch) : hk_N := (l, cX18_isUnder, "HeadReckons$FromLeft", 2, (some .boolean), 4, 100, false)
set_option maxHeartbeats 4000000 in
theorem wk_xFromLeft_isUnder {l : Launch} {Gd : hk_G} {th : Nat} {p1 : Int32} {s0 : hk_St} {r : Int32} (h : xFromLeft_isUnder th p1 s0 = some r) : hk_Met Gd l yX18_isUnder cX18_isUnder 2 (some .boolean) 4 100 [.ref th, .int p1] s0 (some (.int r)) s0 := by
  refine hk_start "HeadReckons$FromLeft" false (by decide +kernel) rfl (by decide) (Nat.le_of_ble_eq_true rfl) ?_
  show hk_V Gd (N_xFromLeft_isUnder l) (hk_end Gd s0 (some (.int r)) s0) 0 [(0, .ref th), (1, .int p1)] [] s0
  unfold xFromLeft_isUnder at h
  refine hv_iload_n 1 dX18_isUnder_0 rfl rfl ?_
  refine hv_iconst (v := 1) dX18_isUnder_1 (by decide) ?_
  refine hv_icmp_eq (tgt := 13) dX18_isUnder_2 (by decide) (fun c1 => ?_) (fun c1 => ?_)
  · replace h := hq_ip c1 h
    refine hv_iconst (v := 1) dX18_isUnder_13 (by decide) ?_
    refine hv_goto (tgt := 18) dX18_isUnder_14 (by decide) ?_
    have h := Option.some.inj h
    subst h
    exact hv_zret (ty := .boolean) rfl rfl dX18_isUnder_18
  · replace h := hq_in c1 h
    refine hv_aload_n 0 dX18_isUnder_5 rfl rfl ?_
    refine hv_iload_n 1 dX18_isUnder_6 rfl rfl ?_
    obtain ⟨g3, h⟩ := hq_gd h
    obtain ⟨x2, e_x2, h⟩ := hq_ob h
    refine hv_callSU [.int p1] [] [.int x2] (wk_xWay_isUnder e_x2) cs_X18_13 [16, 20] (by decide) g3 rfl ⟨Nat.le_of_ble_eq_true rfl, Nat.le_of_ble_eq_true rfl⟩ rfl (Nat.le_of_ble_eq_true rfl) rfl dX18_isUnder_7 ?_
    refine hv_if_eq (tgt := 17) dX18_isUnder_10 (by decide) (fun c4 => ?_) (fun c4 => ?_)
    · replace h := hq_ip c4 h
      refine hv_iconst (v := 0) dX18_isUnder_17 (by decide) ?_
      have h := Option.some.inj h
      subst h
      exact hv_zret (ty := .boolean) rfl rfl dX18_isUnder_18
    · replace h := hq_in c4 h
      refine hv_iconst (v := 1) dX18_isUnder_13 (by decide) ?_
      refine hv_goto (tgt := 18) dX18_isUnder_14 (by decide) ?_
      have h := Option.some.inj h
      subst h
      exact hv_zret (ty := .boolean) rfl rfl dX18_isUnder_18
def xFromRight_isUnder (th : Nat) (p1 : Int32) (s0 : hk_St) : Option (Int32) :=
  if p1 = (2 : Int32) then
    some (1 : Int32)
  else
  hk_gd (hk_bf [17, 18] s0 th) <|
  (xWay_isUnder th p1 s0).bind fun x2 =>
  if x2 = 0 then
    some (0 : Int32)
  else
  some (1 : Int32)
abbrev N_xFromRight_isUnder (l : Launch) : hk_N := (l, cX19_isUnder, "HeadReckons$FromRight", 2, (some .boolean), 4, 100, false)
set_option maxHeartbeats 4000000 in
theorem wk_xFromRight_isUnder {l : Launch} {Gd : hk_G} {th : Nat} {p1 : Int32} {s0 : hk_St} {r : Int32} (h : xFromRight_isUnder th p1 s0 = some r) : hk_Met Gd l yX19_isUnder cX19_isUnder 2 (some .boolean) 4 100 [.ref th, .int p1] s0 (some (.int r)) s0 := by
  refine hk_start "HeadReckons$FromRight" false (by decide +kernel) rfl (by decide) (Nat.le_of_ble_eq_true rfl) ?_
  show hk_V Gd (N_xFromRight_isUnder l) (hk_end Gd s0 (some (.int r)) s0) 0 [(0, .ref th), (1, .int p1)] [] s0
  unfold xFromRight_isUnder at h
  refine hv_iload_n 1 dX19_isUnder_0 rfl rfl ?_
  refine hv_iconst (v := 2) dX19_isUnder_1 (by decide) ?_
  refine hv_icmp_eq (tgt := 13) dX19_isUnder_2 (by decide) (fun c1 => ?_) (fun c1 => ?_)
  · replace h := hq_ip c1 h
    refine hv_iconst (v := 1) dX19_isUnder_13 (by decide) ?_
    refine hv_goto (tgt := 18) dX19_isUnder_14 (by decide) ?_
    have h := Option.some.inj h
    subst h
    exact hv_zret (ty := .boolean) rfl rfl dX19_isUnder_18
  · replace h := hq_in c1 h
    refine hv_aload_n 0 dX19_isUnder_5 rfl rfl ?_
    refine hv_iload_n 1 dX19_isUnder_6 rfl rfl ?_
    obtain ⟨g3, h⟩ := hq_gd h
    obtain ⟨x2, e_x2, h⟩ := hq_ob h
    refine hv_callSU [.int p1] [] [.int x2] (wk_xWay_isUnder e_x2) cs_X19_13 [17, 18] (by decide) g3 rfl ⟨Nat.le_of_ble_eq_true rfl, Nat.le_of_ble_eq_true rfl⟩ rfl (Nat.le_of_ble_eq_true rfl) rfl dX19_isUnder_7 ?_
    refine hv_if_eq (tgt := 17) dX19_isUnder_10 (by decide) (fun c4 => ?_) (fun c4 => ?_)
    · replace h := hq_ip c4 h
      refine hv_iconst (v := 0) dX19_isUnder_17 (by decide) ?_
      have h := Option.some.inj h
      subst h
      exact hv_zret (ty := .boolean) rfl rfl dX19_isUnder_18
    · replace h := hq_in c4 h
      refine hv_iconst (v := 1) dX19_isUnder_13 (by decide) ?_
      refine hv_goto (tgt := 18) dX19_isUnder_14 (by decide) ?_
      have h := Option.some.inj h
      subst h
      exact hv_zret (ty := .boolean) rfl rfl dX19_isUnder_18
def xByHeart_isUnder (th : Nat) (p1 : Int32) (s0 : hk_St) : Option (Int32) :=
  if p1 = (6 : Int32) then
    some (1 : Int32)
  else
  hk_gd (hk_bf [21, 22] s0 th) <|
  (xWay_isUnder th p1 s0).bind fun x2 =>
  if x2 = 0 then
    some (0 : Int32)
  else
  some (1 : Int32)
abbrev N_xByHeart_isUnder (l : Launch) : hk_N := (l, cX23_isUnder, "HeadReckons$ByHeart", 2, (some .boolean), 4, 100, false)
set_option maxHeartbeats 4000000 in
theorem wk_xByHeart_isUnder {l : Launch} {Gd : hk_G} {th : Nat} {p1 : Int32} {s0 : hk_St} {r : Int32} (h : xByHeart_isUnder th p1 s0 = some r) : hk_Met Gd l yX23_isUnder cX23_isUnder 2 (some .boolean) 4 100 [.ref th, .int p1] s0 (some (.int r)) s0 := by
  refine hk_start "HeadReckons$ByHeart" false (by decide +kernel) rfl (by decide) (Nat.le_of_ble_eq_true rfl) ?_
  show hk_V Gd (N_xByHeart_isUnder l) (hk_end Gd s0 (some (.int r)) s0) 0 [(0, .ref th), (1, .int p1)] [] s0
  unfold xByHeart_isUnder at h
  refine hv_iload_n 1 dX23_isUnder_0 rfl rfl ?_
  refine hv_bipush (v := 6) dX23_isUnder_1 (by decide) ?_
  refine hv_icmp_eq (tgt := 14) dX23_isUnder_3 (by decide) (fun c1 => ?_) (fun c1 => ?_)
  · replace h := hq_ip c1 h
    refine hv_iconst (v := 1) dX23_isUnder_14 (by decide) ?_
    refine hv_goto (tgt := 19) dX23_isUnder_15 (by decide) ?_
    have h := Option.some.inj h
    subst h
    exact hv_zret (ty := .boolean) rfl rfl dX23_isUnder_19
  · replace h := hq_in c1 h
    refine hv_aload_n 0 dX23_isUnder_6 rfl rfl ?_
    refine hv_iload_n 1 dX23_isUnder_7 rfl rfl ?_
    obtain ⟨g3, h⟩ := hq_gd h
    obtain ⟨x2, e_x2, h⟩ := hq_ob h
    refine hv_callSU [.int p1] [] [.int x2] (wk_xWay_isUnder e_x2) cs_X23_13 [21, 22] (by decide) g3 rfl ⟨Nat.le_of_ble_eq_true rfl, Nat.le_of_ble_eq_true rfl⟩ rfl (Nat.le_of_ble_eq_true rfl) rfl dX23_isUnder_8 ?_
    refine hv_if_eq (tgt := 18) dX23_isUnder_11 (by decide) (fun c4 => ?_) (fun c4 => ?_)
    · replace h := hq_ip c4 h
      refine hv_iconst (v := 0) dX23_isUnder_18 (by decide) ?_
      have h := Option.some.inj h
      subst h
      exact hv_zret (ty := .boolean) rfl rfl dX23_isUnder_19
    · replace h := hq_in c4 h
      refine hv_iconst (v := 1) dX23_isUnder_14 (by decide) ?_
      refine hv_goto (tgt := 19) dX23_isUnder_15 (by decide) ?_
      have h := Option.some.inj h
      subst h
      exact hv_zret (ty := .boolean) rfl rfl dX23_isUnder_19
