set_option maxRecDepth 100000
def x_isSmall (p1 : Int32) : Int32 :=
  if (99 : Int32) < (p1 / (10000 : Int32)) then
    (0 : Int32)
  else
  if (99 : Int32) < (p1 - p1 / (10000 : Int32) * (10000 : Int32)) then
    (0 : Int32)
  else
  (1 : Int32)
theorem bz_x_isSmall {p1 : Int32} : x_isSmall p1 &&& 1 = x_isSmall p1 := by
  unfold x_isSmall
  try unfold hk_nm
  repeat' split
  all_goals first | rfl
abbrev N_x_isSmall (l : Launch) : hk_N := (l, cX0_isSmall, "HeadReckons", 1, (some .boolean), 0, 0, false)
set_option maxHeartbeats 4000000 in
theorem wk_x_isSmall {l : Launch} {Gd : hk_G} {st : hk_St} {p1 : Int32} {r : Int32} (h : x_isSmall p1 = r) : hk_Met Gd l yX0_isSmall cX0_isSmall 1 (some .boolean) 0 0 [.int p1] st (some (.int r)) st := by
  refine hk_start "HeadReckons" false (by decide +kernel) rfl (by decide) (Nat.le_of_ble_eq_true rfl) ?_
  show hk_V Gd (N_x_isSmall l) (hk_end Gd st (some (.int r)) st) 0 [(0, .int p1)] [] st
  unfold x_isSmall at h
  refine hv_iload_n 0 dX0_isSmall_0 rfl rfl ?_
  refine hv_sipush (v := 10000) dX0_isSmall_1 (by decide) ?_
  refine hv_idiv (by decide) dX0_isSmall_4 ?_
  refine hv_bipush (v := 99) dX0_isSmall_5 (by decide) ?_
  refine hv_icmp_gt (tgt := 24) dX0_isSmall_7 (by decide) (fun c1 => ?_) (fun c1 => ?_)
  · replace h := hq_ip c1 h
    refine hv_iconst (v := 0) dX0_isSmall_24 (by decide) ?_
    subst h
    exact hv_zret (ty := .boolean) rfl rfl dX0_isSmall_25
  · replace h := hq_in c1 h
    refine hv_iload_n 0 dX0_isSmall_10 rfl rfl ?_
    refine hv_sipush (v := 10000) dX0_isSmall_11 (by decide) ?_
    refine hv_irem (by decide) dX0_isSmall_14 ?_
    refine hv_bipush (v := 99) dX0_isSmall_15 (by decide) ?_
    refine hv_icmp_gt (tgt := 24) dX0_isSmall_17 (by decide) (fun c2 => ?_) (fun c2 => ?_)
    · replace h := hq_ip c2 h
      refine hv_iconst (v := 0) dX0_isSmall_24 (by decide) ?_
      subst h
      exact hv_zret (ty := .boolean) rfl rfl dX0_isSmall_25
    · replace h := hq_in c2 h
      refine hv_iconst (v := 1) dX0_isSmall_20 (by decide) ?_
      refine hv_goto (tgt := 25) dX0_isSmall_21 (by decide) ?_
      subst h
      exact hv_zret (ty := .boolean) rfl rfl dX0_isSmall_25
def xLearnt_init (th : Nat) (s0 : hk_St) : Option hk_St :=
  some s0
abbrev N_xLearnt_init (l : Launch) : hk_N := (l, cX15_init, "HeadReckons$Learnt", 1, none, 1, 20, true)
set_option maxHeartbeats 4000000 in
theorem wk_xLearnt_init {l : Launch} {Gd : hk_G} {th : Nat} {s0 : hk_St} {fin : hk_St} (h : xLearnt_init th s0 = some fin) : hk_Met Gd l yX15_init cX15_init 1 none 1 20 [.ref th] s0 none fin := by
  refine hk_start "HeadReckons$Learnt" true (by decide +kernel) rfl (by decide) (Nat.le_of_ble_eq_true rfl) ?_
  show hk_V Gd (N_xLearnt_init l) (hk_end Gd s0 none fin) 0 [(0, .ref th)] [] s0
  unfold xLearnt_init at h
  refine hv_aload_n 0 dX15_init_0 rfl rfl ?_
  refine hv_objInit q1039 q144 q145 dX15_init_1 (Nat.le_of_ble_eq_true rfl) (Nat.le_of_ble_eq_true rfl) ?_
  have h := Option.some.inj h
  subst h
  exact hv_vret rfl dX15_init_4
def xLearnt_become (th : Nat) (p1 : Int32) (p2 : Int32) (p3 : Int32) (s0 : hk_St) : Option hk_St :=
  (hk_pI [14] 1400 s0 th p1).bind fun s1 =>
  (hk_pI [14] 1401 s1 th p2).bind fun s2 =>
  (hk_pI [14] 1402 s2 th p3).bind fun s3 =>
  some s3
abbrev N_xLearnt_become (l : Launch) : hk_N := (l, cX15_become, "HeadReckons$Learnt", 4, none, 0, 0, false)
set_option maxHeartbeats 4000000 in
theorem wk_xLearnt_become {l : Launch} {Gd : hk_G} {th : Nat} {p1 : Int32} {p2 : Int32} {p3 : Int32} {s0 : hk_St} {fin : hk_St} (h : xLearnt_become th p1 p2 p3 s0 = some fin) : hk_Met Gd l yX15_become cX15_become 4 none 0 0 [.ref th, .int p1, .int p2, .int p3] s0 none fin := by
  refine hk_start "HeadReckons$Learnt" false (by decide +kernel) rfl (by decide) (Nat.le_of_ble_eq_true rfl) ?_
  show hk_V Gd (N_xLearnt_become l) (hk_end Gd s0 none fin) 0 [(0, .ref th), (1, .int p1), (2, .int p2), (3, .int p3)] [] s0
  unfold xLearnt_become at h
  refine hv_aload_n 0 dX15_become_0 rfl rfl ?_
  refine hv_iload_n 1 dX15_become_1 rfl rfl ?_
  obtain ⟨s1, e_s1, h⟩ := hq_ob h
  refine hv_putI fp_X15_7 e_s1 (fun q => by cases q) dX15_become_2 ?_
  refine hv_aload_n 0 dX15_become_5 rfl rfl ?_
  refine hv_iload_n 2 dX15_become_6 rfl rfl ?_
  obtain ⟨s2, e_s2, h⟩ := hq_ob h
  refine hv_putI fp_X15_13 e_s2 (fun q => by cases q) dX15_become_7 ?_
  refine hv_aload_n 0 dX15_become_10 rfl rfl ?_
  refine hv_iload_n 3 dX15_become_11 rfl rfl ?_
  obtain ⟨s3, e_s3, h⟩ := hq_ob h
  refine hv_putI fp_X15_16 e_s3 (fun q => by cases q) dX15_become_12 ?_
  have h := Option.some.inj h
  subst h
  exact hv_vret rfl dX15_become_15
def xHead_add (th : Nat) (p1 : Int32) (p2 : Int32) (p3 : Int32) (s0 : hk_St) : Option (Option Nat × hk_St) :=
  hk_nm (fun (s1 : hk_St) =>
    (hk_gR [3] 301 s1 th).bind fun x2 =>
    (hk_gI [3] 302 s1 th).bind fun x3 =>
    hk_nn x2 fun a4 =>
    (hk_lR 5 s1 a4 x3).bind fun x5 =>
    hk_nn x5 fun a6 =>
    (xLearnt_become a6 p1 p2 p3 s1).bind fun s7 =>
    hk_gd (hk_bf [14] s1 a6) <|
    (hk_gI [3] 302 s7 th).bind fun x9 =>
    (hk_pI [3] 302 s7 th (x9 + (1 : Int32))).bind fun s10 =>
    some (some a6, s10)) fun k28 =>
  (hk_gR [3] 301 s0 th).bind fun x11 =>
  (hk_gI [3] 302 s0 th).bind fun x12 =>
  hk_nn x11 fun a13 =>
  (hk_lR 5 s0 a13 x12).bind fun x14 =>
  hk_oc x14 ((hk_gR [3] 301 s0 th).bind fun x16 =>
    (hk_gI [3] 302 s0 th).bind fun x17 =>
    hk_nm (hk_nx s0) fun a18 =>
    hk_nm (hk_mk s0 14 0 3) fun s19 =>
    (xLearnt_init a18 s19).bind fun s20 =>
    hk_nn x16 fun a21 =>
    (hk_tR 5 [14] s20 a21 x17 (some a18)).bind fun s22 =>
    k28 s22) fun a15 =>
  k28 s0
abbrev N_xHead_add (l : Launch) : hk_N := (l, cX3_add, "HeadReckons$Head", 5, (some (.object "HeadReckons$Learnt")), 2, 40, false)
set_option maxHeartbeats 4000000 in
theorem wk_xHead_add {l : Launch} {Gd : hk_G} {th : Nat} {p1 : Int32} {p2 : Int32} {p3 : Int32} {s0 : hk_St} {r : Option Nat} {fin : hk_St} (h : xHead_add th p1 p2 p3 s0 = some (r, fin)) : hk_Met Gd l yX3_add cX3_add 5 (some (.object "HeadReckons$Learnt")) 2 40 [.ref th, .int p1, .int p2, .int p3] s0 (some (va_rf r)) fin := by
  refine hk_start "HeadReckons$Head" false (by decide +kernel) rfl (by decide) (Nat.le_of_ble_eq_true rfl) ?_
  show hk_V Gd (N_xHead_add l) (hk_end Gd s0 (some (va_rf r)) fin) 0 [(0, .ref th), (1, .int p1), (2, .int p2), (3, .int p3)] [] s0
  unfold xHead_add at h
  obtain ⟨k28, e_k28, h⟩ := hq_nm h
  have wk28 : ∀ (s1 : hk_St), k28 s1 = some (r, fin) → hk_V Gd (N_xHead_add l) (hk_end Gd s0 (some (va_rf r)) fin) 28 [(0, .ref th), (1, .int p1), (2, .int p2), (3, .int p3)] [] s1 := by
    intro s1 h
    rw [e_k28] at h
    refine hv_aload_n 0 dX3_add_28 rfl rfl ?_
    obtain ⟨x2, e_x2, h⟩ := hq_ob h
    refine hv_getR fl_X3_17 e_x2 dX3_add_29 ?_
    refine hv_aload_n 0 dX3_add_32 rfl rfl ?_
    obtain ⟨x3, e_x3, h⟩ := hq_ob h
    refine hv_getI fl_X3_21 e_x3 dX3_add_33 ?_
    obtain ⟨a4, e_a4, h⟩ := hq_nn h
    rw [e_a4]
    obtain ⟨x5, e_x5, h⟩ := hq_ob h
    refine hv_aald (by decide) (by decide) rfl e_x5 dX3_add_36 ?_
    refine hv_astoreq (L' := [(4, va_rf x5), (0, .ref th), (1, .int p1), (2, .int p2), (3, .int p3)]) dX3_add_37 (Nat.le_of_ble_eq_true rfl) rfl ?_
    refine hv_aloadq 0 dX3_add_39 rfl ?_
    refine hv_iload_n 2 dX3_add_41 rfl rfl ?_
    refine hv_iload_n 3 dX3_add_42 rfl rfl ?_
    refine hv_iload_n 4 dX3_add_43 rfl rfl ?_
    obtain ⟨a6, e_a6, h⟩ := hq_nn h
    rw [e_a6]
    obtain ⟨s7, e_s7, h⟩ := hq_ob h
    obtain ⟨g8, h⟩ := hq_gd h
    refine hv_callV [.int p1, .int p2, .int p3] [] [] (wk_xLearnt_become e_s7) cs_X3_41 g8 rfl ⟨Nat.le_of_ble_eq_true rfl, Nat.le_of_ble_eq_true rfl⟩ rfl (Nat.le_of_ble_eq_true rfl) rfl dX3_add_44 ?_
    refine hv_aload_n 1 dX3_add_47 rfl rfl ?_
    refine hv_dup dX3_add_48 rfl ?_
    obtain ⟨x9, e_x9, h⟩ := hq_ob h
    refine hv_getI fl_X3_21 e_x9 dX3_add_49 ?_
    refine hv_iconst (v := 1) dX3_add_52 (by decide) ?_
    refine hv_iadd dX3_add_53 ?_
    obtain ⟨s10, e_s10, h⟩ := hq_ob h
    refine hv_putI fp_X3_21 e_s10 (fun q => by cases q) dX3_add_54 ?_
    refine hv_aload 0 dX3_add_57 rfl ?_
    obtain ⟨h1, h2⟩ := hq_ret h
    subst h1
    subst h2
    exact hv_aret rfl dX3_add_59
  clear e_k28
  refine hv_aload_n 0 dX3_add_0 rfl rfl ?_
  obtain ⟨x11, e_x11, h⟩ := hq_ob h
  refine hv_getR fl_X3_17 e_x11 dX3_add_1 ?_
  refine hv_aload_n 0 dX3_add_4 rfl rfl ?_
  obtain ⟨x12, e_x12, h⟩ := hq_ob h
  refine hv_getI fl_X3_21 e_x12 dX3_add_5 ?_
  obtain ⟨a13, e_a13, h⟩ := hq_nn h
  rw [e_a13]
  obtain ⟨x14, e_x14, h⟩ := hq_ob h
  refine hv_aald (by decide) (by decide) rfl e_x14 dX3_add_8 ?_
  refine hv_ifnonnull (tgt := 28) dX3_add_9 (by decide) (fun a15 e23 => ?_) (fun e23 => ?_)
  · rw [e23] at h
    try rw [e23]
    exact wk28 _ h
  · rw [e23] at h
    try rw [e23]
    refine hv_aload_n 0 dX3_add_12 rfl rfl ?_
    obtain ⟨x16, e_x16, h⟩ := hq_ob h
    refine hv_getR fl_X3_17 e_x16 dX3_add_13 ?_
    refine hv_aload_n 0 dX3_add_16 rfl rfl ?_
    obtain ⟨x17, e_x17, h⟩ := hq_ob h
    refine hv_getI fl_X3_21 e_x17 dX3_add_17 ?_
    obtain ⟨a18, e_a18, h⟩ := hq_nm h
    obtain ⟨s19, e_s19, h⟩ := hq_nm h
    refine hv_new (ci := 14) (r := (RX15, TX15, 3)) rfl hk_ok14 (by decide) q234 q1035 q120 dX3_add_20 ?_
    rw [show hk_mk s0 14 0 ((RX15, TX15, 3) : vw_C).2.2 = s19 from e_s19.symm, ← e_a18]
    refine hv_dup dX3_add_23 rfl ?_
    obtain ⟨s20, e_s20, h⟩ := hq_ob h
    refine hv_callIN [] [.ref a18, .int x17, va_rf x16] [.ref a18, .int x17, va_rf x16] (wk_xLearnt_init e_s20) cs_X3_40 rfl ⟨Nat.le_of_ble_eq_true rfl, Nat.le_of_ble_eq_true rfl⟩ rfl (by simp only [List.map, hk_cat]; exact Nat.le_of_ble_eq_true rfl) rfl dX3_add_24 ?_
    obtain ⟨a21, e_a21, h⟩ := hq_nn h
    rw [e_a21]
    obtain ⟨s22, e_s22, h⟩ := hq_ob h
    refine hv_aast (by decide) (by decide) rfl hk_as5 e_s22 dX3_add_27 ?_
    exact wk28 _ h
def xHead_ask (th : Nat) (p1 : Int32) (p2 : Int32) (s0 : hk_St) : Option (Int32 × hk_St) :=
  hk_nm (fun (v1 : Option Nat) (s2 : hk_St) =>
    hk_nn v1 fun a3 =>
    (hk_gI [14] 1402 s2 a3).bind fun x4 =>
    (hk_pI [14] 1402 s2 a3 (x4 + (1 : Int32))).bind fun s5 =>
    (hk_gI [14] 1402 s5 a3).bind fun x6 =>
    some (x6, s5)) fun k30 =>
  (xHead_find th p1 p2 s0).bind fun x7 =>
  hk_gd (hk_bf [3] s0 th) <|
  hk_oc x7 ((hk_gI [3] 302 s0 th).bind fun x10 =>
    if x10 = (60 : Int32) then
      some ((0 : Int32), s0)
    else
    (xHead_add th p1 p2 (0 : Int32) s0).bind fun q12 =>
      hk_gd (hk_bf [3] s0 th) <|
      k30 q12.1 q12.2) fun a9 =>
  k30 (some a9) s0
abbrev N_xHead_ask (l : Launch) : hk_N := (l, cX3_ask, "HeadReckons$Head", 4, (some .int), 3, 64, false)
set_option maxHeartbeats 4000000 in
theorem wk_xHead_ask {l : Launch} {Gd : hk_G} {th : Nat} {p1 : Int32} {p2 : Int32} {s0 : hk_St} {r : Int32} {fin : hk_St} (h : xHead_ask th p1 p2 s0 = some (r, fin)) : hk_Met Gd l yX3_ask cX3_ask 4 (some .int) 3 64 [.ref th, .int p1, .int p2] s0 (some (.int r)) fin := by
  refine hk_start "HeadReckons$Head" false (by decide +kernel) rfl (by decide) (Nat.le_of_ble_eq_true rfl) ?_
  show hk_V Gd (N_xHead_ask l) (hk_end Gd s0 (some (.int r)) fin) 0 [(0, .ref th), (1, .int p1), (2, .int p2)] [] s0
  unfold xHead_ask at h
  obtain ⟨k30, e_k30, h⟩ := hq_nm h
  have wk30 : ∀ (v1 : Option Nat) (s2 : hk_St), k30 v1 s2 = some (r, fin) → hk_V Gd (N_xHead_ask l) (hk_end Gd s0 (some (.int r)) fin) 30 [(3, va_rf v1)] [] s2 := by
    intro v1 s2 h
    rw [e_k30] at h
    refine hv_aload_nq 0 dX3_ask_30 rfl rfl ?_
    refine hv_dup dX3_ask_31 (hk_cat _) ?_
    obtain ⟨a3, e_a3, h⟩ := hq_nn h
    rw [e_a3]
    obtain ⟨x4, e_x4, h⟩ := hq_ob h
    refine hv_getI fl_X3_33 e_x4 dX3_ask_32 ?_
    refine hv_iconst (v := 1) dX3_ask_35 (by decide) ?_
    refine hv_iadd dX3_ask_36 ?_
    obtain ⟨s5, e_s5, h⟩ := hq_ob h
    refine hv_putI fp_X3_33 e_s5 (fun q => by cases q) dX3_ask_37 ?_
    refine hv_aload_n 0 dX3_ask_40 rfl rfl ?_
    obtain ⟨x6, e_x6, h⟩ := hq_ob h
    refine hv_getI fl_X3_33 e_x6 dX3_ask_41 ?_
    obtain ⟨h1, h2⟩ := hq_ret h
    subst h1
    subst h2
    exact hv_iret rfl dX3_ask_44
  clear e_k30
  refine hv_aload_n 0 dX3_ask_0 rfl rfl ?_
  refine hv_iload_n 1 dX3_ask_1 rfl rfl ?_
  refine hv_iload_n 2 dX3_ask_2 rfl rfl ?_
  obtain ⟨x7, e_x7, h⟩ := hq_ob h
  obtain ⟨g8, h⟩ := hq_gd h
  refine hv_callV [.int p1, .int p2] [] [va_rf x7] (wk_xHead_find e_x7) cs_X3_29 g8 rfl ⟨Nat.le_of_ble_eq_true rfl, Nat.le_of_ble_eq_true rfl⟩ rfl (Nat.le_of_ble_eq_true rfl) rfl dX3_ask_3 ?_
  refine hv_astore_nq (L' := [(3, va_rf x7), (0, .ref th), (1, .int p1), (2, .int p2)]) dX3_ask_6 rfl (Nat.le_of_ble_eq_true rfl) rfl ?_
  refine hv_aload_nq 0 dX3_ask_7 rfl rfl ?_
  refine hv_ifnonnull (tgt := 30) dX3_ask_8 (by decide) (fun a9 e14 => ?_) (fun e14 => ?_)
  · rw [e14] at h
    try rw [e14]
    refine hv_sub [0] rfl ?_
    exact wk30 _ _ h
  · rw [e14] at h
    try rw [e14]
    refine hv_aload_n 1 dX3_ask_11 rfl rfl ?_
    obtain ⟨x10, e_x10, h⟩ := hq_ob h
    refine hv_getI fl_X3_21 e_x10 dX3_ask_12 ?_
    refine hv_bipush (v := 60) dX3_ask_15 (by decide) ?_
    refine hv_icmp_ne (tgt := 22) dX3_ask_17 (by decide) (fun c11 => ?_) (fun c11 => ?_)
    · replace h := hq_in c11 h
      refine hv_aload_n 1 dX3_ask_22 rfl rfl ?_
      refine hv_iload_n 2 dX3_ask_23 rfl rfl ?_
      refine hv_iload_n 3 dX3_ask_24 rfl rfl ?_
      refine hv_iconst (v := 0) dX3_ask_25 (by decide) ?_
      obtain ⟨q12, e_q12, h⟩ := hq_ob h
      obtain ⟨g13, h⟩ := hq_gd h
      refine hv_callV [.int p1, .int p2, .int (0 : Int32)] [] [va_rf q12.1] (wk_xHead_add e_q12) cs_X3_36 g13 rfl ⟨Nat.le_of_ble_eq_true rfl, Nat.le_of_ble_eq_true rfl⟩ rfl (Nat.le_of_ble_eq_true rfl) rfl dX3_ask_26 ?_
      refine hv_astore_nq (L' := [(3, va_rf q12.1), (0, .ref th), (1, .int p1), (2, .int p2)]) dX3_ask_29 rfl (Nat.le_of_ble_eq_true rfl) rfl ?_
      refine hv_sub [0] rfl ?_
      exact wk30 _ _ h
    · replace h := hq_ip c11 h
      refine hv_iconst (v := 0) dX3_ask_20 (by decide) ?_
      obtain ⟨h1, h2⟩ := hq_ret h
      subst h1
      subst h2
      exact hv_iret rfl dX3_ask_21
def x_ask (th : Nat) (p1 : Int32) (p2 : Int32) (s0 : hk_St) : Option (Int32 × hk_St) :=
  (x_isHead th p1 s0).bind fun x1 =>
  hk_gd (hk_bf [0] s0 th) <|
  if x1 = 0 then
    some ((-1 : Int32), s0)
  else
  if (x_isPair p2) = 0 then
    some ((-1 : Int32), s0)
  else
  if (x_isSmall p2) = 0 then
      some ((0 : Int32), s0)
    else
    (hk_gR [0] 2 s0 th).bind fun x6 =>
    hk_nn x6 fun a7 =>
    (hk_lR 6 s0 a7 p1).bind fun x8 =>
    hk_nn x8 fun a9 =>
    (xHead_ask a9 (p2 / (10000 : Int32)) (p2 - p2 / (10000 : Int32) * (10000 : Int32)) s0).bind fun q10 =>
    hk_gd (hk_bf [3] s0 a9) <|
    some (q10.1, q10.2)
abbrev N_x_ask (l : Launch) : hk_N := (l, cX0_ask, "HeadReckons", 3, (some .int), 4, 87, false)
set_option maxHeartbeats 4000000 in
theorem wk_x_ask {l : Launch} {Gd : hk_G} {th : Nat} {p1 : Int32} {p2 : Int32} {s0 : hk_St} {r : Int32} {fin : hk_St} (h : x_ask th p1 p2 s0 = some (r, fin)) : hk_Met Gd l yX0_ask cX0_ask 3 (some .int) 4 87 [.ref th, .int p1, .int p2] s0 (some (.int r)) fin := by
  refine hk_start "HeadReckons" false (by decide +kernel) rfl (by decide) (Nat.le_of_ble_eq_true rfl) ?_
  show hk_V Gd (N_x_ask l) (hk_end Gd s0 (some (.int r)) fin) 0 [(0, .ref th), (1, .int p1), (2, .int p2)] [] s0
  unfold x_ask at h
  refine hv_aload_n 0 dX0_ask_0 rfl rfl ?_
  refine hv_iload_n 1 dX0_ask_1 rfl rfl ?_
  obtain ⟨x1, e_x1, h⟩ := hq_ob h
  obtain ⟨g2, h⟩ := hq_gd h
  refine hv_callV [.int p1] [] [.int x1] (wk_x_isHead e_x1) cs_X0_89 g2 rfl ⟨Nat.le_of_ble_eq_true rfl, Nat.le_of_ble_eq_true rfl⟩ rfl (Nat.le_of_ble_eq_true rfl) rfl dX0_ask_2 ?_
  refine hv_if_eq (tgt := 15) dX0_ask_5 (by decide) (fun c3 => ?_) (fun c3 => ?_)
  · replace h := hq_ip c3 h
    refine hv_iconst (v := -1) dX0_ask_15 (by decide) ?_
    refine hv_goto (tgt := 49) dX0_ask_16 (by decide) ?_
    obtain ⟨h1, h2⟩ := hq_ret h
    subst h1
    subst h2
    exact hv_iret rfl dX0_ask_49
  · replace h := hq_in c3 h
    refine hv_iload_n 2 dX0_ask_8 rfl rfl ?_
    refine hv_callS [.int p2] [] [.int (x_isPair p2)] (wk_x_isPair rfl) cs_X0_157 rfl ⟨Nat.le_of_ble_eq_true rfl, Nat.le_of_ble_eq_true rfl⟩ rfl (Nat.le_of_ble_eq_true rfl) rfl dX0_ask_9 ?_
    refine hv_if_ne (tgt := 19) dX0_ask_12 (by decide) (fun c4 => ?_) (fun c4 => ?_)
    · replace h := hq_in c4 h
      refine hv_iload_n 2 dX0_ask_19 rfl rfl ?_
      refine hv_callS [.int p2] [] [.int (x_isSmall p2)] (wk_x_isSmall rfl) cs_X0_294 rfl ⟨Nat.le_of_ble_eq_true rfl, Nat.le_of_ble_eq_true rfl⟩ rfl (Nat.le_of_ble_eq_true rfl) rfl dX0_ask_20 ?_
      refine hv_if_eq (tgt := 48) dX0_ask_23 (by decide) (fun c5 => ?_) (fun c5 => ?_)
      · replace h := hq_ip c5 h
        refine hv_iconst (v := 0) dX0_ask_48 (by decide) ?_
        obtain ⟨h1, h2⟩ := hq_ret h
        subst h1
        subst h2
        exact hv_iret rfl dX0_ask_49
      · replace h := hq_in c5 h
        refine hv_aload_n 0 dX0_ask_26 rfl rfl ?_
        obtain ⟨x6, e_x6, h⟩ := hq_ob h
        refine hv_getR fl_X0_15 e_x6 dX0_ask_27 ?_
        refine hv_iload_n 1 dX0_ask_30 rfl rfl ?_
        obtain ⟨a7, e_a7, h⟩ := hq_nn h
        rw [e_a7]
        obtain ⟨x8, e_x8, h⟩ := hq_ob h
        refine hv_aald (by decide) (by decide) rfl e_x8 dX0_ask_31 ?_
        refine hv_iload_n 2 dX0_ask_32 rfl rfl ?_
        refine hv_sipush (v := 10000) dX0_ask_33 (by decide) ?_
        refine hv_idiv (by decide) dX0_ask_36 ?_
        refine hv_iload_n 2 dX0_ask_37 rfl rfl ?_
        refine hv_sipush (v := 10000) dX0_ask_38 (by decide) ?_
        refine hv_irem (by decide) dX0_ask_41 ?_
        obtain ⟨a9, e_a9, h⟩ := hq_nn h
        rw [e_a9]
        obtain ⟨q10, e_q10, h⟩ := hq_ob h
        obtain ⟨g11, h⟩ := hq_gd h
        refine hv_callV [.int (p2 / (10000 : Int32)), .int (p2 - p2 / (10000 : Int32) * (10000 : Int32))] [] [.int q10.1] (wk_xHead_ask e_q10) cs_X0_297 g11 rfl ⟨Nat.le_of_ble_eq_true rfl, Nat.le_of_ble_eq_true rfl⟩ rfl (Nat.le_of_ble_eq_true rfl) rfl dX0_ask_42 ?_
        refine hv_goto (tgt := 49) dX0_ask_45 (by decide) ?_
        obtain ⟨h1, h2⟩ := hq_ret h
        subst h1
        subst h2
        exact hv_iret rfl dX0_ask_49
    · replace h := hq_ip c4 h
      refine hv_iconst (v := -1) dX0_ask_15 (by decide) ?_
      refine hv_goto (tgt := 49) dX0_ask_16 (by decide) ?_
      obtain ⟨h1, h2⟩ := hq_ret h
      subst h1
      subst h2
      exact hv_iret rfl dX0_ask_49
def x_canTeach_L2b (th : Nat) (s0 : hk_St) (e0 : Unit → Option (Int32)) (rc : Int32 → Option (Int32)) (v1 : Int32) : Option (Int32) :=
  (hk_gI [0] 13 s0 th).bind fun x2 =>
  if x2 ≤ v1 then
    e0 ()
  else
  (hk_gR [0] 12 s0 th).bind fun x4 =>
  hk_nn x4 fun a5 =>
  (hk_lI 0 s0 a5 v1).bind fun x6 =>
  if (x_isSmall x6) = 0 then
    some (0 : Int32)
  else
  hk_nm (v1 + (1 : Int32)) fun x8 =>
    rc x8
def x_canTeach_L2 (th : Nat) (s0 : hk_St) (e0 : Unit → Option (Int32)) : Nat → Int32 → Option (Int32)
  | 0 => fun _ => none
  | n + 1 => x_canTeach_L2b th s0 e0 (x_canTeach_L2 th s0 e0 n)
def x_canTeach (th : Nat) (s0 : hk_St) : Option (Int32) :=
  x_canTeach_L2 th s0  (fun (_ : Unit) =>
    some (1 : Int32)) hk_F (0 : Int32) 
abbrev N_x_canTeach (l : Launch) : hk_N := (l, cX0_canTeach, "HeadReckons", 2, (some .boolean), 1, 20, false)
set_option maxHeartbeats 4000000 in
theorem wk_x_canTeach_L2b {l : Launch} {Gd : hk_G} {th : Nat} {s0 : hk_St} {r : Int32} {e0 : Unit → Option (Int32)} {rc : Int32 → Option (Int32)} (hrc : ∀ (v1 : Int32), rc v1 = some r → hk_V Gd (N_x_canTeach l) (hk_end Gd s0 (some (.int r)) s0) 2 [(0, .ref th), (1, .int v1)] [] s0) (he0 : ∀ (_ : Unit), e0 () = some r → hk_V Gd (N_x_canTeach l) (hk_end Gd s0 (some (.int r)) s0) 30 [] [] s0) {v1 : Int32} (h : x_canTeach_L2b th s0 e0 rc v1 = some r) : hk_V Gd (N_x_canTeach l) (hk_end Gd s0 (some (.int r)) s0) 2 [(0, .ref th), (1, .int v1)] [] s0 := by
  unfold x_canTeach_L2b at h
  refine hv_iload_n 1 dX0_canTeach_2 rfl rfl ?_
  refine hv_aload_n 0 dX0_canTeach_3 rfl rfl ?_
  obtain ⟨x2, e_x2, h⟩ := hq_ob h
  refine hv_getI fl_X0_288 e_x2 dX0_canTeach_4 ?_
  refine hv_icmp_ge (tgt := 30) dX0_canTeach_7 (by decide) (fun c3 => ?_) (fun c3 => ?_)
  · replace h := hq_ip c3 h
    refine hv_sub [] rfl ?_
    exact he0 () h
  · replace h := hq_in c3 h
    refine hv_aload_n 0 dX0_canTeach_10 rfl rfl ?_
    obtain ⟨x4, e_x4, h⟩ := hq_ob h
    refine hv_getR fl_X0_47 e_x4 dX0_canTeach_11 ?_
    refine hv_iload_n 1 dX0_canTeach_14 rfl rfl ?_
    obtain ⟨a5, e_a5, h⟩ := hq_nn h
    rw [e_a5]
    obtain ⟨x6, e_x6, h⟩ := hq_ob h
    refine hv_iald e_x6 dX0_canTeach_15 ?_
    refine hv_callS [.int x6] [] [.int (x_isSmall x6)] (wk_x_isSmall rfl) cs_X0_294 rfl ⟨Nat.le_of_ble_eq_true rfl, Nat.le_of_ble_eq_true rfl⟩ rfl (Nat.le_of_ble_eq_true rfl) rfl dX0_canTeach_16 ?_
    refine hv_if_ne (tgt := 24) dX0_canTeach_19 (by decide) (fun c7 => ?_) (fun c7 => ?_)
    · replace h := hq_in c7 h
      obtain ⟨x8, e_x8, h⟩ := hq_nm h
      refine hv_iinc (v := x8) (L' := [(1, .int x8), (0, .ref th)]) 1 dX0_canTeach_24 rfl (by rw [e_x8]; rfl) (Nat.le_of_ble_eq_true rfl) rfl ?_
      refine hv_goto (tgt := 2) dX0_canTeach_27 (by decide) ?_
      refine hv_sub [1, 0] rfl ?_
      exact hrc _ h
    · replace h := hq_ip c7 h
      refine hv_iconst (v := 0) dX0_canTeach_22 (by decide) ?_
      have h := Option.some.inj h
      subst h
      exact hv_zret (ty := .boolean) rfl rfl dX0_canTeach_23
theorem wk_x_canTeach_L2 {l : Launch} {Gd : hk_G} {th : Nat} {s0 : hk_St} {r : Int32} {e0 : Unit → Option (Int32)} (he0 : ∀ (_ : Unit), e0 () = some r → hk_V Gd (N_x_canTeach l) (hk_end Gd s0 (some (.int r)) s0) 30 [] [] s0) : ∀ (n : Nat) (v1 : Int32), x_canTeach_L2 th s0 e0 n v1 = some r → hk_V Gd (N_x_canTeach l) (hk_end Gd s0 (some (.int r)) s0) 2 [(0, .ref th), (1, .int v1)] [] s0 := by
  intro n
  induction n with
  | zero => intro v1 h; cases h
  | succ n ih => intro v1 h; exact wk_x_canTeach_L2b  ih he0 h
set_option maxHeartbeats 4000000 in
theorem wk_x_canTeach {l : Launch} {Gd : hk_G} {th : Nat} {s0 : hk_St} {r : Int32} (h : x_canTeach th s0 = some r) : hk_Met Gd l yX0_canTeach cX0_canTeach 2 (some .boolean) 1 20 [.ref th] s0 (some (.int r)) s0 := by
  refine hk_start "HeadReckons" false (by decide +kernel) rfl (by decide) (Nat.le_of_ble_eq_true rfl) ?_
  show hk_V Gd (N_x_canTeach l) (hk_end Gd s0 (some (.int r)) s0) 0 [(0, .ref th)] [] s0
  unfold x_canTeach at h
  refine hv_iconst (v := 0) dX0_canTeach_0 (by decide) ?_
  refine hv_istore_n (L' := [(1, .int (0 : Int32)), (0, .ref th)]) dX0_canTeach_1 rfl (Nat.le_of_ble_eq_true rfl) rfl ?_
  refine hv_sub [1, 0] rfl ?_
  refine wk_x_canTeach_L2  ?_ hk_F _ h
  · intro _ h
    refine hv_iconst (v := 1) dX0_canTeach_30 (by decide) ?_
    have h := Option.some.inj h
    subst h
    exact hv_zret (ty := .boolean) rfl rfl dX0_canTeach_31
def xHead_copy_L2b (th : Nat) (p1 : Nat) (e0 : hk_St → Option hk_St) (rc : Int32 → hk_St → Option hk_St) (v1 : Int32) (s2 : hk_St) : Option hk_St :=
  if (5 : Int32) ≤ v1 then
    e0 s2
  else
  (hk_gR [3] 300 s2 th).bind fun x5 =>
  (hk_gR [3] 300 s2 p1).bind fun x6 =>
  hk_nn x6 fun a7 =>
  (hk_lI 0 s2 a7 v1).bind fun x8 =>
  hk_nn x5 fun a9 =>
  (hk_tI 0 s2 a9 v1 x8).bind fun s10 =>
  hk_nm (v1 + (1 : Int32)) fun x11 =>
  rc x11 s10
def xHead_copy_L2 (th : Nat) (p1 : Nat) (e0 : hk_St → Option hk_St) : Nat → Int32 → hk_St → Option hk_St
  | 0 => fun _ _ => none
  | n + 1 => xHead_copy_L2b th p1 e0 (xHead_copy_L2 th p1 e0 n)
def xHead_copy_L32b (th : Nat) (p1 : Nat) (e0 : hk_St → Option hk_St) (rc : Int32 → hk_St → Option hk_St) (v13 : Int32) (s14 : hk_St) : Option hk_St :=
  (hk_gI [3] 302 s14 p1).bind fun x16 =>
  if x16 ≤ v13 then
    e0 s14
  else
  (hk_gR [3] 301 s14 p1).bind fun x18 =>
  hk_nn x18 fun a19 =>
  (hk_lR 5 s14 a19 v13).bind fun x20 =>
  hk_nn x20 fun a21 =>
  (hk_gI [14] 1400 s14 a21).bind fun x22 =>
  (hk_gR [3] 301 s14 p1).bind fun x23 =>
  hk_nn x23 fun a24 =>
  (hk_lR 5 s14 a24 v13).bind fun x25 =>
  hk_nn x25 fun a26 =>
  (hk_gI [14] 1401 s14 a26).bind fun x27 =>
  (hk_gR [3] 301 s14 p1).bind fun x28 =>
  hk_nn x28 fun a29 =>
  (hk_lR 5 s14 a29 v13).bind fun x30 =>
  hk_nn x30 fun a31 =>
  (hk_gI [14] 1402 s14 a31).bind fun x32 =>
  (xHead_add th x22 x27 x32 s14).bind fun q33 =>
  hk_gd (hk_bf [3] s14 th) <|
  hk_nm (v13 + (1 : Int32)) fun x35 =>
  rc x35 q33.2
def xHead_copy_L32 (th : Nat) (p1 : Nat) (e0 : hk_St → Option hk_St) : Nat → Int32 → hk_St → Option hk_St
  | 0 => fun _ _ => none
  | n + 1 => xHead_copy_L32b th p1 e0 (xHead_copy_L32 th p1 e0 n)
def xHead_copy (th : Nat) (p1 : Nat) (s0 : hk_St) : Option hk_St :=
  xHead_copy_L2 th p1  (fun (s3 : hk_St) =>
    (hk_pI [3] 302 s3 th (0 : Int32)).bind fun s12 =>
    xHead_copy_L32 th p1  (fun (s15 : hk_St) =>
      some s15) hk_F (0 : Int32) s12) hk_F (0 : Int32) s0
abbrev N_xHead_copy (l : Launch) : hk_N := (l, cX3_copy, "HeadReckons$Head", 3, none, 3, 64, false)
set_option maxHeartbeats 4000000 in
theorem wk_xHead_copy_L2b {l : Launch} {Gd : hk_G} {th : Nat} {p1 : Nat} {s0 : hk_St} {fin : hk_St} {e0 : hk_St → Option hk_St} {rc : Int32 → hk_St → Option hk_St} (hrc : ∀ (v1 : Int32) (s2 : hk_St), rc v1 s2 = some fin → hk_V Gd (N_xHead_copy l) (hk_end Gd s0 none fin) 2 [(0, .ref th), (1, .ref p1), (2, .int v1)] [] s2) (he0 : ∀ (s3 : hk_St), e0 s3 = some fin → hk_V Gd (N_xHead_copy l) (hk_end Gd s0 none fin) 25 [(0, .ref th), (1, .ref p1)] [] s3) {v1 : Int32} {s2 : hk_St} (h : xHead_copy_L2b th p1 e0 rc v1 s2 = some fin) : hk_V Gd (N_xHead_copy l) (hk_end Gd s0 none fin) 2 [(0, .ref th), (1, .ref p1), (2, .int v1)] [] s2 := by
  unfold xHead_copy_L2b at h
  refine hv_iload_n 2 dX3_copy_2 rfl rfl ?_
  refine hv_iconst (v := 5) dX3_copy_3 (by decide) ?_
  refine hv_icmp_ge (tgt := 25) dX3_copy_4 (by decide) (fun c4 => ?_) (fun c4 => ?_)
  · replace h := hq_ip c4 h
    refine hv_sub [0, 1] rfl ?_
    exact he0 _ h
  · replace h := hq_in c4 h
    refine hv_aload_n 0 dX3_copy_7 rfl rfl ?_
    obtain ⟨x5, e_x5, h⟩ := hq_ob h
    refine hv_getR fl_X3_9 e_x5 dX3_copy_8 ?_
    refine hv_iload_n 2 dX3_copy_11 rfl rfl ?_
    refine hv_aload_n 1 dX3_copy_12 rfl rfl ?_
    obtain ⟨x6, e_x6, h⟩ := hq_ob h
    refine hv_getR fl_X3_9 e_x6 dX3_copy_13 ?_
    refine hv_iload_n 2 dX3_copy_16 rfl rfl ?_
    obtain ⟨a7, e_a7, h⟩ := hq_nn h
    rw [e_a7]
    obtain ⟨x8, e_x8, h⟩ := hq_ob h
    refine hv_iald e_x8 dX3_copy_17 ?_
    obtain ⟨a9, e_a9, h⟩ := hq_nn h
    rw [e_a9]
    obtain ⟨s10, e_s10, h⟩ := hq_ob h
    refine hv_iast e_s10 dX3_copy_18 ?_
    obtain ⟨x11, e_x11, h⟩ := hq_nm h
    refine hv_iinc (v := x11) (L' := [(2, .int x11), (0, .ref th), (1, .ref p1)]) 2 dX3_copy_19 rfl (by rw [e_x11]; rfl) (Nat.le_of_ble_eq_true rfl) rfl ?_
    refine hv_goto (tgt := 2) dX3_copy_22 (by decide) ?_
    refine hv_sub [1, 2, 0] rfl ?_
    exact hrc _ _ h
theorem wk_xHead_copy_L2 {l : Launch} {Gd : hk_G} {th : Nat} {p1 : Nat} {s0 : hk_St} {fin : hk_St} {e0 : hk_St → Option hk_St} (he0 : ∀ (s3 : hk_St), e0 s3 = some fin → hk_V Gd (N_xHead_copy l) (hk_end Gd s0 none fin) 25 [(0, .ref th), (1, .ref p1)] [] s3) : ∀ (n : Nat) (v1 : Int32) (s2 : hk_St), xHead_copy_L2 th p1 e0 n v1 s2 = some fin → hk_V Gd (N_xHead_copy l) (hk_end Gd s0 none fin) 2 [(0, .ref th), (1, .ref p1), (2, .int v1)] [] s2 := by
  intro n
  induction n with
  | zero => intro v1 s2 h; cases h
  | succ n ih => intro v1 s2 h; exact wk_xHead_copy_L2b  ih he0 h
set_option maxHeartbeats 4000000 in
theorem wk_xHead_copy_L32b {l : Launch} {Gd : hk_G} {th : Nat} {p1 : Nat} {s0 : hk_St} {fin : hk_St} {e0 : hk_St → Option hk_St} {rc : Int32 → hk_St → Option hk_St} (hrc : ∀ (v13 : Int32) (s14 : hk_St), rc v13 s14 = some fin → hk_V Gd (N_xHead_copy l) (hk_end Gd s0 none fin) 32 [(0, .ref th), (1, .ref p1), (2, .int v13)] [] s14) (he0 : ∀ (s15 : hk_St), e0 s15 = some fin → hk_V Gd (N_xHead_copy l) (hk_end Gd s0 none fin) 78 [] [] s15) {v13 : Int32} {s14 : hk_St} (h : xHead_copy_L32b th p1 e0 rc v13 s14 = some fin) : hk_V Gd (N_xHead_copy l) (hk_end Gd s0 none fin) 32 [(0, .ref th), (1, .ref p1), (2, .int v13)] [] s14 := by
  unfold xHead_copy_L32b at h
  refine hv_iload_n 2 dX3_copy_32 rfl rfl ?_
  refine hv_aload_n 1 dX3_copy_33 rfl rfl ?_
  obtain ⟨x16, e_x16, h⟩ := hq_ob h
  refine hv_getI fl_X3_21 e_x16 dX3_copy_34 ?_
  refine hv_icmp_ge (tgt := 78) dX3_copy_37 (by decide) (fun c17 => ?_) (fun c17 => ?_)
  · replace h := hq_ip c17 h
    refine hv_sub [] rfl ?_
    exact he0 _ h
  · replace h := hq_in c17 h
    refine hv_aload_n 0 dX3_copy_40 rfl rfl ?_
    refine hv_aload_n 1 dX3_copy_41 rfl rfl ?_
    obtain ⟨x18, e_x18, h⟩ := hq_ob h
    refine hv_getR fl_X3_17 e_x18 dX3_copy_42 ?_
    refine hv_iload_n 2 dX3_copy_45 rfl rfl ?_
    obtain ⟨a19, e_a19, h⟩ := hq_nn h
    rw [e_a19]
    obtain ⟨x20, e_x20, h⟩ := hq_ob h
    refine hv_aald (by decide) (by decide) rfl e_x20 dX3_copy_46 ?_
    obtain ⟨a21, e_a21, h⟩ := hq_nn h
    rw [e_a21]
    obtain ⟨x22, e_x22, h⟩ := hq_ob h
    refine hv_getI fl_X3_45 e_x22 dX3_copy_47 ?_
    refine hv_aload_n 1 dX3_copy_50 rfl rfl ?_
    obtain ⟨x23, e_x23, h⟩ := hq_ob h
    refine hv_getR fl_X3_17 e_x23 dX3_copy_51 ?_
    refine hv_iload_n 2 dX3_copy_54 rfl rfl ?_
    obtain ⟨a24, e_a24, h⟩ := hq_nn h
    rw [e_a24]
    obtain ⟨x25, e_x25, h⟩ := hq_ob h
    refine hv_aald (by decide) (by decide) rfl e_x25 dX3_copy_55 ?_
    obtain ⟨a26, e_a26, h⟩ := hq_nn h
    rw [e_a26]
    obtain ⟨x27, e_x27, h⟩ := hq_ob h
    refine hv_getI fl_X3_48 e_x27 dX3_copy_56 ?_
    refine hv_aload_n 1 dX3_copy_59 rfl rfl ?_
    obtain ⟨x28, e_x28, h⟩ := hq_ob h
    refine hv_getR fl_X3_17 e_x28 dX3_copy_60 ?_
    refine hv_iload_n 2 dX3_copy_63 rfl rfl ?_
    obtain ⟨a29, e_a29, h⟩ := hq_nn h
    rw [e_a29]
    obtain ⟨x30, e_x30, h⟩ := hq_ob h
    refine hv_aald (by decide) (by decide) rfl e_x30 dX3_copy_64 ?_
    obtain ⟨a31, e_a31, h⟩ := hq_nn h
    rw [e_a31]
    obtain ⟨x32, e_x32, h⟩ := hq_ob h
    refine hv_getI fl_X3_33 e_x32 dX3_copy_65 ?_
    obtain ⟨q33, e_q33, h⟩ := hq_ob h
    obtain ⟨g34, h⟩ := hq_gd h
    refine hv_callV [.int x22, .int x27, .int x32] [] [va_rf q33.1] (wk_xHead_add e_q33) cs_X3_36 g34 rfl ⟨Nat.le_of_ble_eq_true rfl, Nat.le_of_ble_eq_true rfl⟩ rfl (Nat.le_of_ble_eq_true rfl) rfl dX3_copy_68 ?_
    refine hv_pop dX3_copy_71 (hk_cat _) ?_
    obtain ⟨x35, e_x35, h⟩ := hq_nm h
    refine hv_iinc (v := x35) (L' := [(2, .int x35), (0, .ref th), (1, .ref p1)]) 2 dX3_copy_72 rfl (by rw [e_x35]; rfl) (Nat.le_of_ble_eq_true rfl) rfl ?_
    refine hv_goto (tgt := 32) dX3_copy_75 (by decide) ?_
    refine hv_sub [1, 2, 0] rfl ?_
    exact hrc _ _ h
theorem wk_xHead_copy_L32 {l : Launch} {Gd : hk_G} {th : Nat} {p1 : Nat} {s0 : hk_St} {fin : hk_St} {e0 : hk_St → Option hk_St} (he0 : ∀ (s15 : hk_St), e0 s15 = some fin → hk_V Gd (N_xHead_copy l) (hk_end Gd s0 none fin) 78 [] [] s15) : ∀ (n : Nat) (v13 : Int32) (s14 : hk_St), xHead_copy_L32 th p1 e0 n v13 s14 = some fin → hk_V Gd (N_xHead_copy l) (hk_end Gd s0 none fin) 32 [(0, .ref th), (1, .ref p1), (2, .int v13)] [] s14 := by
  intro n
  induction n with
  | zero => intro v13 s14 h; cases h
  | succ n ih => intro v13 s14 h; exact wk_xHead_copy_L32b  ih he0 h
set_option maxHeartbeats 4000000 in
theorem wk_xHead_copy {l : Launch} {Gd : hk_G} {th : Nat} {p1 : Nat} {s0 : hk_St} {fin : hk_St} (h : xHead_copy th p1 s0 = some fin) : hk_Met Gd l yX3_copy cX3_copy 3 none 3 64 [.ref th, .ref p1] s0 none fin := by
  refine hk_start "HeadReckons$Head" false (by decide +kernel) rfl (by decide) (Nat.le_of_ble_eq_true rfl) ?_
  show hk_V Gd (N_xHead_copy l) (hk_end Gd s0 none fin) 0 [(0, .ref th), (1, .ref p1)] [] s0
  unfold xHead_copy at h
  refine hv_iconst (v := 0) dX3_copy_0 (by decide) ?_
  refine hv_istore_n (L' := [(2, .int (0 : Int32)), (0, .ref th), (1, .ref p1)]) dX3_copy_1 rfl (Nat.le_of_ble_eq_true rfl) rfl ?_
  refine hv_sub [1, 2, 0] rfl ?_
  refine wk_xHead_copy_L2  ?_ hk_F _ _ h
  · intro s3 h
    refine hv_aload_n 0 dX3_copy_25 rfl rfl ?_
    refine hv_iconst (v := 0) dX3_copy_26 (by decide) ?_
    obtain ⟨s12, e_s12, h⟩ := hq_ob h
    refine hv_putI fp_X3_21 e_s12 (fun q => by cases q) dX3_copy_27 ?_
    refine hv_iconst (v := 0) dX3_copy_30 (by decide) ?_
    refine hv_istore_n (L' := [(2, .int (0 : Int32)), (0, .ref th), (1, .ref p1)]) dX3_copy_31 rfl (Nat.le_of_ble_eq_true rfl) rfl ?_
    refine hv_sub [1, 2, 0] rfl ?_
    refine wk_xHead_copy_L32  ?_ hk_F _ _ h
    · intro s15 h
      have h := Option.some.inj h
      subst h
      exact hv_vret rfl dX3_copy_78
def x_teach (th : Nat) (p1 : Int32) (s0 : hk_St) : Option (Int32 × hk_St) :=
  (hk_gR [0] 14 s0 th).bind fun x1 =>
  hk_nn x1 fun a2 =>
  (x_chosenSeconds th a2 (p1 / (10000 : Int32)) (p1 - p1 / (10000 : Int32) * (10000 : Int32)) s0).bind fun q3 =>
  hk_gd (hk_bf [0] s0 th) <|
  (hk_gR [0] 14 q3.2 th).bind fun x5 =>
  hk_nn x5 fun a6 =>
  (xHead_ask a6 (p1 / (10000 : Int32)) (p1 - p1 / (10000 : Int32) * (10000 : Int32)) q3.2).bind fun q7 =>
  hk_gd (hk_bf [3] q3.2 a6) <|
  some (q3.1, q7.2)
abbrev N_x_teach (l : Launch) : hk_N := (l, cX0_teach, "HeadReckons", 3, (some .int), 224, 12287, false)
set_option maxHeartbeats 4000000 in
theorem wk_x_teach {l : Launch} {Gd : hk_G} {th : Nat} {p1 : Int32} {s0 : hk_St} {r : Int32} {fin : hk_St} (h : x_teach th p1 s0 = some (r, fin)) : hk_Met Gd l yX0_teach cX0_teach 3 (some .int) 224 12287 [.ref th, .int p1] s0 (some (.int r)) fin := by
  refine hk_start "HeadReckons" false (by decide +kernel) rfl (by decide) (Nat.le_of_ble_eq_true rfl) ?_
  show hk_V Gd (N_x_teach l) (hk_end Gd s0 (some (.int r)) fin) 0 [(0, .ref th), (1, .int p1)] [] s0
  unfold x_teach at h
  refine hv_aload_n 0 dX0_teach_0 rfl rfl ?_
  refine hv_aload_n 0 dX0_teach_1 rfl rfl ?_
  obtain ⟨x1, e_x1, h⟩ := hq_ob h
  refine hv_getR fl_X0_52 e_x1 dX0_teach_2 ?_
  refine hv_iload_n 1 dX0_teach_5 rfl rfl ?_
  refine hv_sipush (v := 10000) dX0_teach_6 (by decide) ?_
  refine hv_idiv (by decide) dX0_teach_9 ?_
  refine hv_iload_n 1 dX0_teach_10 rfl rfl ?_
  refine hv_sipush (v := 10000) dX0_teach_11 (by decide) ?_
  refine hv_irem (by decide) dX0_teach_14 ?_
  obtain ⟨a2, e_a2, h⟩ := hq_nn h
  rw [e_a2]
  obtain ⟨q3, e_q3, h⟩ := hq_ob h
  obtain ⟨g4, h⟩ := hq_gd h
  refine hv_callV [.ref a2, .int (p1 / (10000 : Int32)), .int (p1 - p1 / (10000 : Int32) * (10000 : Int32))] [] [.int q3.1] (wk_x_chosenSeconds e_q3) cs_X0_223 g4 rfl ⟨Nat.le_of_ble_eq_true rfl, Nat.le_of_ble_eq_true rfl⟩ rfl (Nat.le_of_ble_eq_true rfl) rfl dX0_teach_15 ?_
  refine hv_istore_n (L' := [(2, .int q3.1), (0, .ref th), (1, .int p1)]) dX0_teach_18 rfl (Nat.le_of_ble_eq_true rfl) rfl ?_
  refine hv_aload_n 1 dX0_teach_19 rfl rfl ?_
  obtain ⟨x5, e_x5, h⟩ := hq_ob h
  refine hv_getR fl_X0_52 e_x5 dX0_teach_20 ?_
  refine hv_iload_n 2 dX0_teach_23 rfl rfl ?_
  refine hv_sipush (v := 10000) dX0_teach_24 (by decide) ?_
  refine hv_idiv (by decide) dX0_teach_27 ?_
  refine hv_iload_n 2 dX0_teach_28 rfl rfl ?_
  refine hv_sipush (v := 10000) dX0_teach_29 (by decide) ?_
  refine hv_irem (by decide) dX0_teach_32 ?_
  obtain ⟨a6, e_a6, h⟩ := hq_nn h
  rw [e_a6]
  obtain ⟨q7, e_q7, h⟩ := hq_ob h
  obtain ⟨g8, h⟩ := hq_gd h
  refine hv_callV [.int (p1 / (10000 : Int32)), .int (p1 - p1 / (10000 : Int32) * (10000 : Int32))] [] [.int q7.1] (wk_xHead_ask e_q7) cs_X0_297 g8 rfl ⟨Nat.le_of_ble_eq_true rfl, Nat.le_of_ble_eq_true rfl⟩ rfl (Nat.le_of_ble_eq_true rfl) rfl dX0_teach_33 ?_
  refine hv_pop dX0_teach_36 rfl ?_
  refine hv_iload_n 0 dX0_teach_37 rfl rfl ?_
  obtain ⟨h1, h2⟩ := hq_ret h
  subst h1
  subst h2
  exact hv_iret rfl dX0_teach_38
def x_taught_L65b (th : Nat) (p1 : Int32) (p2 : Int32) (p3 : Int32) (e0 : Int32 → hk_St → Option (Int32 × hk_St)) (rc : Int32 → Int32 → hk_St → Option (Int32 × hk_St)) (v19 : Int32) (v20 : Int32) (s21 : hk_St) : Option (Int32 × hk_St) :=
  if p2 ≤ v20 then
    e0 v19 s21
  else
  (hk_gR [0] 12 s21 th).bind fun x25 =>
  (hk_gI [0] 13 s21 th).bind fun x26 =>
  hk_gd (decide (¬ x26 = 0)) <|
  hk_nn x25 fun a28 =>
  (hk_lI 0 s21 a28 (v20 - v20 / x26 * x26)).bind fun x29 =>
  (x_teach th x29 s21).bind fun q30 =>
  hk_gd (hk_bf [0] s21 th) <|
  hk_nm (v19 + q30.1) fun x32 =>
  hk_nm (v20 + (1 : Int32)) fun x33 =>
  rc x32 x33 q30.2
def x_taught_L65 (th : Nat) (p1 : Int32) (p2 : Int32) (p3 : Int32) (e0 : Int32 → hk_St → Option (Int32 × hk_St)) : Nat → Int32 → Int32 → hk_St → Option (Int32 × hk_St)
  | 0 => fun _ _ _ => none
  | n + 1 => x_taught_L65b th p1 p2 p3 e0 (x_taught_L65 th p1 p2 p3 e0 n)
def x_taught (th : Nat) (p1 : Int32) (p2 : Int32) (p3 : Int32) (s0 : hk_St) : Option (Int32 × hk_St) :=
  (x_isHead th p1 s0).bind fun x1 =>
  hk_gd (hk_bf [0] s0 th) <|
  if x1 = 0 then
    some ((-1 : Int32), s0)
  else
  if (x_in p2 (1 : Int32) (50 : Int32)) = 0 then
    some ((-1 : Int32), s0)
  else
  if (x_in p3 (0 : Int32) (1 : Int32)) = 0 then
    some ((-1 : Int32), s0)
  else
  (x_canTeach th s0).bind fun x6 =>
  hk_gd (hk_bf [0] s0 th) <|
  if x6 = 0 then
    some ((-1 : Int32), s0)
  else
  (hk_gI [0] 13 s0 th).bind fun x9 =>
    if x9 = 0 then
      some ((-5 : Int32), s0)
    else
    (hk_gR [0] 14 s0 th).bind fun x11 =>
      (hk_gR [0] 2 s0 th).bind fun x12 =>
      hk_nn x12 fun a13 =>
      (hk_lR 6 s0 a13 p1).bind fun x14 =>
      hk_nn x11 fun a15 =>
      hk_nn x14 fun a16 =>
      (xHead_copy a15 a16 s0).bind fun s17 =>
      hk_gd (hk_bf [3] s0 a15) <|
      x_taught_L65 th p1 p2 p3  (fun (v22 : Int32) (s23 : hk_St) =>
        if p3 = 0 then
          some (v22, s23)
        else
        (hk_gR [0] 14 s23 th).bind fun x35 =>
          hk_nn x35 fun a36 =>
          (xHead_learnt a36 s23).bind fun x37 =>
          hk_gd (hk_bf [3] s23 a36) <|
          some (x37, s23)) hk_F (0 : Int32) (0 : Int32) s17
abbrev N_x_taught (l : Launch) : hk_N := (l, cX0_taught, "HeadReckons", 6, (some .int), 225, 12309, false)
set_option maxHeartbeats 4000000 in
theorem wk_x_taught_L65b {l : Launch} {Gd : hk_G} {th : Nat} {p1 : Int32} {p2 : Int32} {p3 : Int32} {s0 : hk_St} {r : Int32} {fin : hk_St} {e0 : Int32 → hk_St → Option (Int32 × hk_St)} {rc : Int32 → Int32 → hk_St → Option (Int32 × hk_St)} (hrc : ∀ (v19 : Int32) (v20 : Int32) (s21 : hk_St), rc v19 v20 s21 = some (r, fin) → hk_V Gd (N_x_taught l) (hk_end Gd s0 (some (.int r)) fin) 65 [(0, .ref th), (2, .int p2), (3, .int p3), (4, .int v19), (5, .int v20)] [] s21) (he0 : ∀ (v22 : Int32) (s23 : hk_St), e0 v22 s23 = some (r, fin) → hk_V Gd (N_x_taught l) (hk_end Gd s0 (some (.int r)) fin) 98 [(0, .ref th), (3, .int p3), (4, .int v22)] [] s23) {v19 : Int32} {v20 : Int32} {s21 : hk_St} (h : x_taught_L65b th p1 p2 p3 e0 rc v19 v20 s21 = some (r, fin)) : hk_V Gd (N_x_taught l) (hk_end Gd s0 (some (.int r)) fin) 65 [(0, .ref th), (2, .int p2), (3, .int p3), (4, .int v19), (5, .int v20)] [] s21 := by
  unfold x_taught_L65b at h
  refine hv_iload 4 dX0_taught_65 rfl ?_
  refine hv_iload_n 1 dX0_taught_67 rfl rfl ?_
  refine hv_icmp_ge (tgt := 98) dX0_taught_68 (by decide) (fun c24 => ?_) (fun c24 => ?_)
  · replace h := hq_ip c24 h
    refine hv_sub [0, 2, 3] rfl ?_
    exact he0 _ _ h
  · replace h := hq_in c24 h
    refine hv_iload 3 dX0_taught_71 rfl ?_
    refine hv_aload_n 0 dX0_taught_73 rfl rfl ?_
    refine hv_aload_n 0 dX0_taught_74 rfl rfl ?_
    obtain ⟨x25, e_x25, h⟩ := hq_ob h
    refine hv_getR fl_X0_47 e_x25 dX0_taught_75 ?_
    refine hv_iload 4 dX0_taught_78 rfl ?_
    refine hv_aload_n 0 dX0_taught_80 rfl rfl ?_
    obtain ⟨x26, e_x26, h⟩ := hq_ob h
    refine hv_getI fl_X0_288 e_x26 dX0_taught_81 ?_
    obtain ⟨g27, h⟩ := hq_gd h
    refine hv_irem (of_decide_eq_true g27) dX0_taught_84 ?_
    obtain ⟨a28, e_a28, h⟩ := hq_nn h
    rw [e_a28]
    obtain ⟨x29, e_x29, h⟩ := hq_ob h
    refine hv_iald e_x29 dX0_taught_85 ?_
    obtain ⟨q30, e_q30, h⟩ := hq_ob h
    obtain ⟨g31, h⟩ := hq_gd h
    refine hv_callV [.int x29] [.int v19] [.int q30.1, .int v19] (wk_x_teach e_q30) cs_X0_308 g31 rfl ⟨Nat.le_of_ble_eq_true rfl, Nat.le_of_ble_eq_true rfl⟩ rfl (Nat.le_of_ble_eq_true rfl) rfl dX0_taught_86 ?_
    refine hv_iadd dX0_taught_89 ?_
    obtain ⟨x32, e_x32, h⟩ := hq_nm h
    rw [← e_x32]
    refine hv_istore (L' := [(4, .int x32), (0, .ref th), (2, .int p2), (3, .int p3), (5, .int v20)]) dX0_taught_90 (Nat.le_of_ble_eq_true rfl) rfl ?_
    obtain ⟨x33, e_x33, h⟩ := hq_nm h
    refine hv_iinc (v := x33) (L' := [(5, .int x33), (4, .int x32), (0, .ref th), (2, .int p2), (3, .int p3)]) 4 dX0_taught_92 rfl (by rw [e_x33]; rfl) (Nat.le_of_ble_eq_true rfl) rfl ?_
    refine hv_goto (tgt := 65) dX0_taught_95 (by decide) ?_
    refine hv_sub [2, 3, 4, 1, 0] rfl ?_
    exact hrc _ _ _ h
theorem wk_x_taught_L65 {l : Launch} {Gd : hk_G} {th : Nat} {p1 : Int32} {p2 : Int32} {p3 : Int32} {s0 : hk_St} {r : Int32} {fin : hk_St} {e0 : Int32 → hk_St → Option (Int32 × hk_St)} (he0 : ∀ (v22 : Int32) (s23 : hk_St), e0 v22 s23 = some (r, fin) → hk_V Gd (N_x_taught l) (hk_end Gd s0 (some (.int r)) fin) 98 [(0, .ref th), (3, .int p3), (4, .int v22)] [] s23) : ∀ (n : Nat) (v19 : Int32) (v20 : Int32) (s21 : hk_St), x_taught_L65 th p1 p2 p3 e0 n v19 v20 s21 = some (r, fin) → hk_V Gd (N_x_taught l) (hk_end Gd s0 (some (.int r)) fin) 65 [(0, .ref th), (2, .int p2), (3, .int p3), (4, .int v19), (5, .int v20)] [] s21 := by
  intro n
  induction n with
  | zero => intro v19 v20 s21 h; cases h
  | succ n ih => intro v19 v20 s21 h; exact wk_x_taught_L65b  ih he0 h
set_option maxHeartbeats 4000000 in
theorem wk_x_taught {l : Launch} {Gd : hk_G} {th : Nat} {p1 : Int32} {p2 : Int32} {p3 : Int32} {s0 : hk_St} {r : Int32} {fin : hk_St} (h : x_taught th p1 p2 p3 s0 = some (r, fin)) : hk_Met Gd l yX0_taught cX0_taught 6 (some .int) 225 12309 [.ref th, .int p1, .int p2, .int p3] s0 (some (.int r)) fin := by
  refine hk_start "HeadReckons" false (by decide +kernel) rfl (by decide) (Nat.le_of_ble_eq_true rfl) ?_
  show hk_V Gd (N_x_taught l) (hk_end Gd s0 (some (.int r)) fin) 0 [(0, .ref th), (1, .int p1), (2, .int p2), (3, .int p3)] [] s0
  unfold x_taught at h
  refine hv_aload_n 0 dX0_taught_0 rfl rfl ?_
  refine hv_iload_n 1 dX0_taught_1 rfl rfl ?_
  obtain ⟨x1, e_x1, h⟩ := hq_ob h
  obtain ⟨g2, h⟩ := hq_gd h
  refine hv_callV [.int p1] [] [.int x1] (wk_x_isHead e_x1) cs_X0_89 g2 rfl ⟨Nat.le_of_ble_eq_true rfl, Nat.le_of_ble_eq_true rfl⟩ rfl (Nat.le_of_ble_eq_true rfl) rfl dX0_taught_2 ?_
  refine hv_if_eq (tgt := 34) dX0_taught_5 (by decide) (fun c3 => ?_) (fun c3 => ?_)
  · replace h := hq_ip c3 h
    refine hv_iconst (v := -1) dX0_taught_34 (by decide) ?_
    obtain ⟨h1, h2⟩ := hq_ret h
    subst h1
    subst h2
    exact hv_iret rfl dX0_taught_35
  · replace h := hq_in c3 h
    refine hv_iload_n 2 dX0_taught_8 rfl rfl ?_
    refine hv_iconst (v := 1) dX0_taught_9 (by decide) ?_
    refine hv_bipush (v := 50) dX0_taught_10 (by decide) ?_
    refine hv_callS [.int p2, .int (1 : Int32), .int (50 : Int32)] [] [.int (x_in p2 (1 : Int32) (50 : Int32))] (wk_x_in rfl) cs_X0_73 rfl ⟨Nat.le_of_ble_eq_true rfl, Nat.le_of_ble_eq_true rfl⟩ rfl (Nat.le_of_ble_eq_true rfl) rfl dX0_taught_12 ?_
    refine hv_if_eq (tgt := 34) dX0_taught_15 (by decide) (fun c4 => ?_) (fun c4 => ?_)
    · replace h := hq_ip c4 h
      refine hv_iconst (v := -1) dX0_taught_34 (by decide) ?_
      obtain ⟨h1, h2⟩ := hq_ret h
      subst h1
      subst h2
      exact hv_iret rfl dX0_taught_35
    · replace h := hq_in c4 h
      refine hv_iload_n 3 dX0_taught_18 rfl rfl ?_
      refine hv_iconst (v := 0) dX0_taught_19 (by decide) ?_
      refine hv_iconst (v := 1) dX0_taught_20 (by decide) ?_
      refine hv_callS [.int p3, .int (0 : Int32), .int (1 : Int32)] [] [.int (x_in p3 (0 : Int32) (1 : Int32))] (wk_x_in rfl) cs_X0_73 rfl ⟨Nat.le_of_ble_eq_true rfl, Nat.le_of_ble_eq_true rfl⟩ rfl (Nat.le_of_ble_eq_true rfl) rfl dX0_taught_21 ?_
      refine hv_if_eq (tgt := 34) dX0_taught_24 (by decide) (fun c5 => ?_) (fun c5 => ?_)
      · replace h := hq_ip c5 h
        refine hv_iconst (v := -1) dX0_taught_34 (by decide) ?_
        obtain ⟨h1, h2⟩ := hq_ret h
        subst h1
        subst h2
        exact hv_iret rfl dX0_taught_35
      · replace h := hq_in c5 h
        refine hv_aload_n 0 dX0_taught_27 rfl rfl ?_
        obtain ⟨x6, e_x6, h⟩ := hq_ob h
        obtain ⟨g7, h⟩ := hq_gd h
        refine hv_callV [] [] [.int x6] (wk_x_canTeach e_x6) cs_X0_300 g7 rfl ⟨Nat.le_of_ble_eq_true rfl, Nat.le_of_ble_eq_true rfl⟩ rfl (Nat.le_of_ble_eq_true rfl) rfl dX0_taught_28 ?_
        refine hv_if_ne (tgt := 36) dX0_taught_31 (by decide) (fun c8 => ?_) (fun c8 => ?_)
        · replace h := hq_in c8 h
          refine hv_aload_n 0 dX0_taught_36 rfl rfl ?_
          obtain ⟨x9, e_x9, h⟩ := hq_ob h
          refine hv_getI fl_X0_288 e_x9 dX0_taught_37 ?_
          refine hv_if_ne (tgt := 46) dX0_taught_40 (by decide) (fun c10 => ?_) (fun c10 => ?_)
          · replace h := hq_in c10 h
            refine hv_aload_n 0 dX0_taught_46 rfl rfl ?_
            obtain ⟨x11, e_x11, h⟩ := hq_ob h
            refine hv_getR fl_X0_52 e_x11 dX0_taught_47 ?_
            refine hv_aload_n 0 dX0_taught_50 rfl rfl ?_
            obtain ⟨x12, e_x12, h⟩ := hq_ob h
            refine hv_getR fl_X0_15 e_x12 dX0_taught_51 ?_
            refine hv_iload_n 1 dX0_taught_54 rfl rfl ?_
            obtain ⟨a13, e_a13, h⟩ := hq_nn h
            rw [e_a13]
            obtain ⟨x14, e_x14, h⟩ := hq_ob h
            refine hv_aald (by decide) (by decide) rfl e_x14 dX0_taught_55 ?_
            obtain ⟨a15, e_a15, h⟩ := hq_nn h
            rw [e_a15]
            obtain ⟨a16, e_a16, h⟩ := hq_nn h
            rw [e_a16]
            obtain ⟨s17, e_s17, h⟩ := hq_ob h
            obtain ⟨g18, h⟩ := hq_gd h
            refine hv_callV [.ref a16] [] [] (wk_xHead_copy e_s17) cs_X0_304 g18 rfl ⟨Nat.le_of_ble_eq_true rfl, Nat.le_of_ble_eq_true rfl⟩ rfl (Nat.le_of_ble_eq_true rfl) rfl dX0_taught_56 ?_
            refine hv_iconst (v := 0) dX0_taught_59 (by decide) ?_
            refine hv_istore (L' := [(4, .int (0 : Int32)), (0, .ref th), (1, .int p1), (2, .int p2), (3, .int p3)]) dX0_taught_60 (Nat.le_of_ble_eq_true rfl) rfl ?_
            refine hv_iconst (v := 0) dX0_taught_62 (by decide) ?_
            refine hv_istore (L' := [(5, .int (0 : Int32)), (4, .int (0 : Int32)), (0, .ref th), (1, .int p1), (2, .int p2), (3, .int p3)]) dX0_taught_63 (Nat.le_of_ble_eq_true rfl) rfl ?_
            refine hv_sub [2, 4, 5, 1, 0] rfl ?_
            refine wk_x_taught_L65  ?_ hk_F _ _ _ h
            · intro v22 s23 h
              refine hv_iload_n 1 dX0_taught_98 rfl rfl ?_
              refine hv_if_ne (tgt := 107) dX0_taught_99 (by decide) (fun c34 => ?_) (fun c34 => ?_)
              · replace h := hq_in c34 h
                refine hv_aload_n 0 dX0_taught_107 rfl rfl ?_
                obtain ⟨x35, e_x35, h⟩ := hq_ob h
                refine hv_getR fl_X0_52 e_x35 dX0_taught_108 ?_
                obtain ⟨a36, e_a36, h⟩ := hq_nn h
                rw [e_a36]
                obtain ⟨x37, e_x37, h⟩ := hq_ob h
                obtain ⟨g38, h⟩ := hq_gd h
                refine hv_callV [] [] [.int x37] (wk_xHead_learnt e_x37) cs_X0_93 g38 rfl ⟨Nat.le_of_ble_eq_true rfl, Nat.le_of_ble_eq_true rfl⟩ rfl (Nat.le_of_ble_eq_true rfl) rfl dX0_taught_111 ?_
                obtain ⟨h1, h2⟩ := hq_ret h
                subst h1
                subst h2
                exact hv_iret rfl dX0_taught_114
              · replace h := hq_ip c34 h
                refine hv_iload 2 dX0_taught_102 rfl ?_
                refine hv_goto (tgt := 114) dX0_taught_104 (by decide) ?_
                obtain ⟨h1, h2⟩ := hq_ret h
                subst h1
                subst h2
                exact hv_iret rfl dX0_taught_114
          · replace h := hq_ip c10 h
            refine hv_bipush (v := -5) dX0_taught_43 (by decide) ?_
            obtain ⟨h1, h2⟩ := hq_ret h
            subst h1
            subst h2
            exact hv_iret rfl dX0_taught_45
        · replace h := hq_ip c8 h
          refine hv_iconst (v := -1) dX0_taught_34 (by decide) ?_
          obtain ⟨h1, h2⟩ := hq_ret h
          subst h1
          subst h2
          exact hv_iret rfl dX0_taught_35
def x_orders_L129b (rc_orders : Nat → Nat → Nat → Int32 → Int32 → hk_St → Option hk_St) (th : Nat) (p1 : Nat) (p2 : Nat) (p3 : Int32) (p4 : Int32) (v6 : Int32) (e0 : Int32 → hk_St → Option hk_St) (rc : Int32 → Int32 → hk_St → Option hk_St) (v7 : Int32) (v8 : Int32) (s9 : hk_St) : Option hk_St :=
  if p3 ≤ v8 then
    e0 v7 s9
  else
  (hk_lI 0 s9 p2 v8).bind fun x13 =>
  if x13 = v6 then
    hk_nm (v7 ||| (1 : Int32)) fun x17 =>
  hk_nm (v8 + (1 : Int32)) fun x18 =>
  rc x17 x18 s9
  else
  hk_nm (v7 ||| (0 : Int32)) fun x15 =>
    hk_nm (v8 + (1 : Int32)) fun x16 =>
    rc x15 x16 s9
def x_orders_L129 (rc_orders : Nat → Nat → Nat → Int32 → Int32 → hk_St → Option hk_St) (th : Nat) (p1 : Nat) (p2 : Nat) (p3 : Int32) (p4 : Int32) (v6 : Int32) (e0 : Int32 → hk_St → Option hk_St) : Nat → Int32 → Int32 → hk_St → Option hk_St
  | 0 => fun _ _ _ => none
  | n + 1 => x_orders_L129b rc_orders th p1 p2 p3 p4 v6 e0 (x_orders_L129 rc_orders th p1 p2 p3 p4 v6 e0 n)
def x_orders_L116b (rc_orders : Nat → Nat → Nat → Int32 → Int32 → hk_St → Option hk_St) (th : Nat) (p1 : Nat) (p2 : Nat) (p3 : Int32) (p4 : Int32) (e0 : hk_St → Option hk_St) (rc : Int32 → hk_St → Option hk_St) (v2 : Int32) (s3 : hk_St) : Option hk_St :=
  if p4 ≤ v2 then
    e0 s3
  else
  x_orders_L129 rc_orders th p1 p2 p3 p4 v2 (fun (v10 : Int32) (s11 : hk_St) =>
    if v10 = 0 then
      (hk_tI 0 s11 p2 p3 v2).bind fun s20 =>
      (rc_orders th p1 p2 (p3 + (1 : Int32)) p4 s20).bind fun s21 =>
      hk_gd (hk_bf [0] s20 th) <|
      hk_nm (v2 + (1 : Int32)) fun x23 =>
      rc x23 s21
    else
    hk_nm (v2 + (1 : Int32)) fun x24 =>
    rc x24 s11) hk_F (0 : Int32) (0 : Int32) s3
def x_orders_L116 (rc_orders : Nat → Nat → Nat → Int32 → Int32 → hk_St → Option hk_St) (th : Nat) (p1 : Nat) (p2 : Nat) (p3 : Int32) (p4 : Int32) (e0 : hk_St → Option hk_St) : Nat → Int32 → hk_St → Option hk_St
  | 0 => fun _ _ => none
  | n + 1 => x_orders_L116b rc_orders th p1 p2 p3 p4 e0 (x_orders_L116 rc_orders th p1 p2 p3 p4 e0 n)
def x_orders_L33b (rc_orders : Nat → Nat → Nat → Int32 → Int32 → hk_St → Option hk_St) (th : Nat) (p1 : Nat) (p2 : Nat) (p3 : Int32) (p4 : Int32) (v38 : Int32) (v39 : Int32) (e0 : Int32 → hk_St → Option hk_St) (rc : Int32 → Int32 → hk_St → Option hk_St) (v37 : Int32) (v40 : Int32) (s41 : hk_St) : Option hk_St :=
  if (3 : Int32) ≤ v40 then
    e0 v37 s41
  else
  (hk_gR [0] 12 s41 th).bind fun x45 =>
  (hk_lI 0 s41 p2 v39).bind fun x46 =>
  hk_nn x45 fun a47 =>
  (hk_lI 0 s41 a47 x46).bind fun x48 =>
  (x_teach th x48 s41).bind fun q49 =>
  hk_gd (hk_bf [0] s41 th) <|
  hk_nm (v37 + q49.1) fun x51 =>
  hk_nm (v40 + (1 : Int32)) fun x52 =>
  rc x51 x52 q49.2
def x_orders_L33 (rc_orders : Nat → Nat → Nat → Int32 → Int32 → hk_St → Option hk_St) (th : Nat) (p1 : Nat) (p2 : Nat) (p3 : Int32) (p4 : Int32) (v38 : Int32) (v39 : Int32) (e0 : Int32 → hk_St → Option hk_St) : Nat → Int32 → Int32 → hk_St → Option hk_St
  | 0 => fun _ _ _ => none
  | n + 1 => x_orders_L33b rc_orders th p1 p2 p3 p4 v38 v39 e0 (x_orders_L33 rc_orders th p1 p2 p3 p4 v38 v39 e0 n)
def x_orders_L23b (rc_orders : Nat → Nat → Nat → Int32 → Int32 → hk_St → Option hk_St) (th : Nat) (p1 : Nat) (p2 : Nat) (p3 : Int32) (p4 : Int32) (e0 : Int32 → Int32 → hk_St → Option hk_St) (rc : Int32 → Int32 → Int32 → hk_St → Option hk_St) (v29 : Int32) (v30 : Int32) (v31 : Int32) (s32 : hk_St) : Option hk_St :=
  if p4 ≤ v31 then
    e0 v29 v30 s32
  else
  x_orders_L33 rc_orders th p1 p2 p3 p4 v30 v31 (fun (v42 : Int32) (s43 : hk_St) =>
    (hk_lI 0 s43 p2 v31).bind fun x53 =>
    hk_nm ((((10 : Int32) * v30) + x53) + (1 : Int32)) fun x54 =>
    hk_nm (v31 + (1 : Int32)) fun x55 =>
    rc v42 x54 x55 s43) hk_F v29 (0 : Int32) s32
def x_orders_L23 (rc_orders : Nat → Nat → Nat → Int32 → Int32 → hk_St → Option hk_St) (th : Nat) (p1 : Nat) (p2 : Nat) (p3 : Int32) (p4 : Int32) (e0 : Int32 → Int32 → hk_St → Option hk_St) : Nat → Int32 → Int32 → Int32 → hk_St → Option hk_St
  | 0 => fun _ _ _ _ => none
  | n + 1 => x_orders_L23b rc_orders th p1 p2 p3 p4 e0 (x_orders_L23 rc_orders th p1 p2 p3 p4 e0 n)
def x_orders (rc_orders : Nat → Nat → Nat → Int32 → Int32 → hk_St → Option hk_St) (th : Nat) (p1 : Nat) (p2 : Nat) (p3 : Int32) (p4 : Int32) (s0 : hk_St) : Option hk_St :=
  if p3 = p4 then
    (hk_gR [0] 14 s0 th).bind fun x25 =>
  hk_nn x25 fun a26 =>
  (xHead_copy a26 p1 s0).bind fun s27 =>
  hk_gd (hk_bf [3] s0 a26) <|
  x_orders_L23 rc_orders th p1 p2 p3 p4  (fun (v33 : Int32) (v34 : Int32) (s35 : hk_St) =>
    (hk_gI [0] 15 s35 th).bind fun x56 =>
    if x56 ≤ 0 then
      (hk_pI [0] 15 s35 th v34).bind fun s58 =>
      (hk_pI [0] 16 s58 th v33).bind fun s59 =>
      some s59
    else
    (hk_gI [0] 16 s35 th).bind fun x60 =>
    if v33 < x60 then
      (hk_pI [0] 15 s35 th v34).bind fun s62 =>
      (hk_pI [0] 16 s62 th v33).bind fun s63 =>
      some s63
    else
    some s35) hk_F (0 : Int32) (0 : Int32) (0 : Int32) s27
  else
  x_orders_L116 rc_orders th p1 p2 p3 p4  (fun (s4 : hk_St) =>
      some s4) hk_F (0 : Int32) s0
abbrev N_x_orders (l : Launch) (fr lo : Nat) : hk_N := (l, cX0_orders, "HeadReckons", 9, none, fr, lo, false)
set_option maxHeartbeats 4000000 in
theorem wk_x_orders_L129b {l : Launch} {Gd : hk_G} {fr lo fr' lo' : Nat} (hroom : fr' + 1 ≤ fr ∧ lo' + 60 ≤ lo ∧ 400 ≤ fr ∧ 25000 ≤ lo) {rc_orders : Nat → Nat → Nat → Int32 → Int32 → hk_St → Option hk_St} (h_orders : ∀ (b0 : Nat) (b1 : Nat) (b2 : Nat) (b3 : Int32) (b4 : Int32) (z : hk_St) (z2 : hk_St), rc_orders b0 b1 b2 b3 b4 z = some z2 → hk_Met Gd l yX0_orders cX0_orders 9 none fr' lo' [.ref b0, .ref b1, .ref b2, .int b3, .int b4] z none z2) {th : Nat} {p1 : Nat} {p2 : Nat} {p3 : Int32} {p4 : Int32} {s0 : hk_St} {fin : hk_St} {v6 : Int32} {e0 : Int32 → hk_St → Option hk_St} {rc : Int32 → Int32 → hk_St → Option hk_St} (hrc : ∀ (v7 : Int32) (v8 : Int32) (s9 : hk_St), rc v7 v8 s9 = some fin → hk_V Gd (N_x_orders l fr lo) (hk_end Gd s0 none fin) 129 [(0, .ref th), (1, .ref p1), (2, .ref p2), (3, .int p3), (4, .int p4), (5, .int v6), (6, .int v7), (7, .int v8)] [] s9) (he0 : ∀ (v10 : Int32) (s11 : hk_St), e0 v10 s11 = some fin → hk_V Gd (N_x_orders l fr lo) (hk_end Gd s0 none fin) 160 [(0, .ref th), (1, .ref p1), (2, .ref p2), (3, .int p3), (4, .int p4), (5, .int v6), (6, .int v10)] [] s11) {v7 : Int32} {v8 : Int32} {s9 : hk_St} (h : x_orders_L129b rc_orders th p1 p2 p3 p4 v6 e0 rc v7 v8 s9 = some fin) : hk_V Gd (N_x_orders l fr lo) (hk_end Gd s0 none fin) 129 [(0, .ref th), (1, .ref p1), (2, .ref p2), (3, .int p3), (4, .int p4), (5, .int v6), (6, .int v7), (7, .int v8)] [] s9 := by
  unfold x_orders_L129b at h
  refine hv_iload 7 dX0_orders_129 rfl ?_
  refine hv_iload_n 3 dX0_orders_131 rfl rfl ?_
  refine hv_icmp_ge (tgt := 160) dX0_orders_132 (by decide) (fun c12 => ?_) (fun c12 => ?_)
  · replace h := hq_ip c12 h
    refine hv_sub [0, 1, 2, 3, 4, 5, 6] rfl ?_
    exact he0 _ _ h
  · replace h := hq_in c12 h
    refine hv_iload 6 dX0_orders_135 rfl ?_
    refine hv_aload_n 2 dX0_orders_137 rfl rfl ?_
    refine hv_iload 7 dX0_orders_138 rfl ?_
    obtain ⟨x13, e_x13, h⟩ := hq_ob h
    refine hv_iald e_x13 dX0_orders_140 ?_
    refine hv_iload 5 dX0_orders_141 rfl ?_
    refine hv_icmp_ne (tgt := 150) dX0_orders_143 (by decide) (fun c14 => ?_) (fun c14 => ?_)
    · replace h := hq_in c14 h
      refine hv_iconst (v := 0) dX0_orders_150 (by decide) ?_
      refine hv_ior dX0_orders_151 ?_
      obtain ⟨x15, e_x15, h⟩ := hq_nm h
      rw [← e_x15]
      refine hv_istore (L' := [(6, .int x15), (0, .ref th), (1, .ref p1), (2, .ref p2), (3, .int p3), (4, .int p4), (5, .int v6), (7, .int v8)]) dX0_orders_152 (Nat.le_of_ble_eq_true rfl) rfl ?_
      obtain ⟨x16, e_x16, h⟩ := hq_nm h
      refine hv_iinc (v := x16) (L' := [(7, .int x16), (6, .int x15), (0, .ref th), (1, .ref p1), (2, .ref p2), (3, .int p3), (4, .int p4), (5, .int v6)]) 7 dX0_orders_154 rfl (by rw [e_x16]; rfl) (Nat.le_of_ble_eq_true rfl) rfl ?_
      refine hv_goto (tgt := 129) dX0_orders_157 (by decide) ?_
      refine hv_sub [2, 3, 4, 5, 6, 7, 1, 0] rfl ?_
      exact hrc _ _ _ h
    · replace h := hq_ip c14 h
      refine hv_iconst (v := 1) dX0_orders_146 (by decide) ?_
      refine hv_goto (tgt := 151) dX0_orders_147 (by decide) ?_
      refine hv_ior dX0_orders_151 ?_
      obtain ⟨x17, e_x17, h⟩ := hq_nm h
      rw [← e_x17]
      refine hv_istore (L' := [(6, .int x17), (0, .ref th), (1, .ref p1), (2, .ref p2), (3, .int p3), (4, .int p4), (5, .int v6), (7, .int v8)]) dX0_orders_152 (Nat.le_of_ble_eq_true rfl) rfl ?_
      obtain ⟨x18, e_x18, h⟩ := hq_nm h
      refine hv_iinc (v := x18) (L' := [(7, .int x18), (6, .int x17), (0, .ref th), (1, .ref p1), (2, .ref p2), (3, .int p3), (4, .int p4), (5, .int v6)]) 7 dX0_orders_154 rfl (by rw [e_x18]; rfl) (Nat.le_of_ble_eq_true rfl) rfl ?_
      refine hv_goto (tgt := 129) dX0_orders_157 (by decide) ?_
      refine hv_sub [2, 3, 4, 5, 6, 7, 1, 0] rfl ?_
      exact hrc _ _ _ h
theorem wk_x_orders_L129 {l : Launch} {Gd : hk_G} {fr lo fr' lo' : Nat} (hroom : fr' + 1 ≤ fr ∧ lo' + 60 ≤ lo ∧ 400 ≤ fr ∧ 25000 ≤ lo) {rc_orders : Nat → Nat → Nat → Int32 → Int32 → hk_St → Option hk_St} (h_orders : ∀ (b0 : Nat) (b1 : Nat) (b2 : Nat) (b3 : Int32) (b4 : Int32) (z : hk_St) (z2 : hk_St), rc_orders b0 b1 b2 b3 b4 z = some z2 → hk_Met Gd l yX0_orders cX0_orders 9 none fr' lo' [.ref b0, .ref b1, .ref b2, .int b3, .int b4] z none z2) {th : Nat} {p1 : Nat} {p2 : Nat} {p3 : Int32} {p4 : Int32} {s0 : hk_St} {fin : hk_St} {v6 : Int32} {e0 : Int32 → hk_St → Option hk_St} (he0 : ∀ (v10 : Int32) (s11 : hk_St), e0 v10 s11 = some fin → hk_V Gd (N_x_orders l fr lo) (hk_end Gd s0 none fin) 160 [(0, .ref th), (1, .ref p1), (2, .ref p2), (3, .int p3), (4, .int p4), (5, .int v6), (6, .int v10)] [] s11) : ∀ (n : Nat) (v7 : Int32) (v8 : Int32) (s9 : hk_St), x_orders_L129 rc_orders th p1 p2 p3 p4 v6 e0 n v7 v8 s9 = some fin → hk_V Gd (N_x_orders l fr lo) (hk_end Gd s0 none fin) 129 [(0, .ref th), (1, .ref p1), (2, .ref p2), (3, .int p3), (4, .int p4), (5, .int v6), (6, .int v7), (7, .int v8)] [] s9 := by
  intro n
  induction n with
  | zero => intro v7 v8 s9 h; cases h
  | succ n ih => intro v7 v8 s9 h; exact wk_x_orders_L129b hroom h_orders ih he0 h
set_option maxHeartbeats 4000000 in
theorem wk_x_orders_L116b {l : Launch} {Gd : hk_G} {fr lo fr' lo' : Nat} (hroom : fr' + 1 ≤ fr ∧ lo' + 60 ≤ lo ∧ 400 ≤ fr ∧ 25000 ≤ lo) {rc_orders : Nat → Nat → Nat → Int32 → Int32 → hk_St → Option hk_St} (h_orders : ∀ (b0 : Nat) (b1 : Nat) (b2 : Nat) (b3 : Int32) (b4 : Int32) (z : hk_St) (z2 : hk_St), rc_orders b0 b1 b2 b3 b4 z = some z2 → hk_Met Gd l yX0_orders cX0_orders 9 none fr' lo' [.ref b0, .ref b1, .ref b2, .int b3, .int b4] z none z2) {th : Nat} {p1 : Nat} {p2 : Nat} {p3 : Int32} {p4 : Int32} {s0 : hk_St} {fin : hk_St} {e0 : hk_St → Option hk_St} {rc : Int32 → hk_St → Option hk_St} (hrc : ∀ (v2 : Int32) (s3 : hk_St), rc v2 s3 = some fin → hk_V Gd (N_x_orders l fr lo) (hk_end Gd s0 none fin) 116 [(0, .ref th), (1, .ref p1), (2, .ref p2), (3, .int p3), (4, .int p4), (5, .int v2)] [] s3) (he0 : ∀ (s4 : hk_St), e0 s4 = some fin → hk_V Gd (N_x_orders l fr lo) (hk_end Gd s0 none fin) 190 [] [] s4) {v2 : Int32} {s3 : hk_St} (h : x_orders_L116b rc_orders th p1 p2 p3 p4 e0 rc v2 s3 = some fin) : hk_V Gd (N_x_orders l fr lo) (hk_end Gd s0 none fin) 116 [(0, .ref th), (1, .ref p1), (2, .ref p2), (3, .int p3), (4, .int p4), (5, .int v2)] [] s3 := by
  unfold x_orders_L116b at h
  refine hv_iload 5 dX0_orders_116 rfl ?_
  refine hv_iload 4 dX0_orders_118 rfl ?_
  refine hv_icmp_ge (tgt := 190) dX0_orders_120 (by decide) (fun c5 => ?_) (fun c5 => ?_)
  · replace h := hq_ip c5 h
    refine hv_sub [] rfl ?_
    exact he0 _ h
  · replace h := hq_in c5 h
    refine hv_iconst (v := 0) dX0_orders_123 (by decide) ?_
    refine hv_istore (L' := [(6, .int (0 : Int32)), (0, .ref th), (1, .ref p1), (2, .ref p2), (3, .int p3), (4, .int p4), (5, .int v2)]) dX0_orders_124 (Nat.le_of_ble_eq_true rfl) rfl ?_
    refine hv_iconst (v := 0) dX0_orders_126 (by decide) ?_
    refine hv_istore (L' := [(7, .int (0 : Int32)), (6, .int (0 : Int32)), (0, .ref th), (1, .ref p1), (2, .ref p2), (3, .int p3), (4, .int p4), (5, .int v2)]) dX0_orders_127 (Nat.le_of_ble_eq_true rfl) rfl ?_
    refine hv_sub [2, 3, 4, 5, 6, 7, 1, 0] rfl ?_
    refine wk_x_orders_L129 hroom h_orders ?_ hk_F _ _ _ h
    · intro v10 s11 h
      refine hv_iload 6 dX0_orders_160 rfl ?_
      refine hv_if_eq (tgt := 168) dX0_orders_162 (by decide) (fun c19 => ?_) (fun c19 => ?_)
      · replace h := hq_ip c19 h
        refine hv_aload_n 2 dX0_orders_168 rfl rfl ?_
        refine hv_iload_n 3 dX0_orders_169 rfl rfl ?_
        refine hv_iload 5 dX0_orders_170 rfl ?_
        obtain ⟨s20, e_s20, h⟩ := hq_ob h
        refine hv_iast e_s20 dX0_orders_172 ?_
        refine hv_aload_n 0 dX0_orders_173 rfl rfl ?_
        refine hv_aload_n 1 dX0_orders_174 rfl rfl ?_
        refine hv_aload_n 2 dX0_orders_175 rfl rfl ?_
        refine hv_iload_n 3 dX0_orders_176 rfl rfl ?_
        refine hv_iconst (v := 1) dX0_orders_177 (by decide) ?_
        refine hv_iadd dX0_orders_178 ?_
        refine hv_iload 4 dX0_orders_179 rfl ?_
        obtain ⟨s21, e_s21, h⟩ := hq_ob h
        obtain ⟨g22, h⟩ := hq_gd h
        refine hv_callV [.ref p1, .ref p2, .int (p3 + (1 : Int32)), .int p4] [] [] (h_orders _ _ _ _ _ _ _ e_s21) cs_X0_317 g22 rfl ⟨by show _ ≤ fr; omega, by show _ ≤ lo; omega⟩ rfl (Nat.le_of_ble_eq_true rfl) rfl dX0_orders_181 ?_
        obtain ⟨x23, e_x23, h⟩ := hq_nm h
        refine hv_iinc (v := x23) (L' := [(5, .int x23), (0, .ref th), (1, .ref p1), (2, .ref p2), (3, .int p3), (4, .int p4), (6, .int v10)]) 5 dX0_orders_184 rfl (by rw [e_x23]; rfl) (Nat.le_of_ble_eq_true rfl) rfl ?_
        refine hv_goto (tgt := 116) dX0_orders_187 (by decide) ?_
        refine hv_sub [1, 2, 3, 4, 5, 0] rfl ?_
        exact hrc _ _ h
      · replace h := hq_in c19 h
        refine hv_goto (tgt := 184) dX0_orders_165 (by decide) ?_
        obtain ⟨x24, e_x24, h⟩ := hq_nm h
        refine hv_iinc (v := x24) (L' := [(5, .int x24), (0, .ref th), (1, .ref p1), (2, .ref p2), (3, .int p3), (4, .int p4), (6, .int v10)]) 5 dX0_orders_184 rfl (by rw [e_x24]; rfl) (Nat.le_of_ble_eq_true rfl) rfl ?_
        refine hv_goto (tgt := 116) dX0_orders_187 (by decide) ?_
        refine hv_sub [1, 2, 3, 4, 5, 0] rfl ?_
        exact hrc _ _ h
theorem wk_x_orders_L116 {l : Launch} {Gd : hk_G} {fr lo fr' lo' : Nat} (hroom : fr' + 1 ≤ fr ∧ lo' + 60 ≤ lo ∧ 400 ≤ fr ∧ 25000 ≤ lo) {rc_orders : Nat → Nat → Nat → Int32 → Int32 → hk_St → Option hk_St} (h_orders : ∀ (b0 : Nat) (b1 : Nat) (b2 : Nat) (b3 : Int32) (b4 : Int32) (z : hk_St) (z2 : hk_St), rc_orders b0 b1 b2 b3 b4 z = some z2 → hk_Met Gd l yX0_orders cX0_orders 9 none fr' lo' [.ref b0, .ref b1, .ref b2, .int b3, .int b4] z none z2) {th : Nat} {p1 : Nat} {p2 : Nat} {p3 : Int32} {p4 : Int32} {s0 : hk_St} {fin : hk_St} {e0 : hk_St → Option hk_St} (he0 : ∀ (s4 : hk_St), e0 s4 = some fin → hk_V Gd (N_x_orders l fr lo) (hk_end Gd s0 none fin) 190 [] [] s4) : ∀ (n : Nat) (v2 : Int32) (s3 : hk_St), x_orders_L116 rc_orders th p1 p2 p3 p4 e0 n v2 s3 = some fin → hk_V Gd (N_x_orders l fr lo) (hk_end Gd s0 none fin) 116 [(0, .ref th), (1, .ref p1), (2, .ref p2), (3, .int p3), (4, .int p4), (5, .int v2)] [] s3 := by
  intro n
  induction n with
  | zero => intro v2 s3 h; cases h
  | succ n ih => intro v2 s3 h; exact wk_x_orders_L116b hroom h_orders ih he0 h
set_option maxHeartbeats 4000000 in
theorem wk_x_orders_L33b {l : Launch} {Gd : hk_G} {fr lo fr' lo' : Nat} (hroom : fr' + 1 ≤ fr ∧ lo' + 60 ≤ lo ∧ 400 ≤ fr ∧ 25000 ≤ lo) {rc_orders : Nat → Nat → Nat → Int32 → Int32 → hk_St → Option hk_St} (h_orders : ∀ (b0 : Nat) (b1 : Nat) (b2 : Nat) (b3 : Int32) (b4 : Int32) (z : hk_St) (z2 : hk_St), rc_orders b0 b1 b2 b3 b4 z = some z2 → hk_Met Gd l yX0_orders cX0_orders 9 none fr' lo' [.ref b0, .ref b1, .ref b2, .int b3, .int b4] z none z2) {th : Nat} {p1 : Nat} {p2 : Nat} {p3 : Int32} {p4 : Int32} {s0 : hk_St} {fin : hk_St} {v38 : Int32} {v39 : Int32} {e0 : Int32 → hk_St → Option hk_St} {rc : Int32 → Int32 → hk_St → Option hk_St} (hrc : ∀ (v37 : Int32) (v40 : Int32) (s41 : hk_St), rc v37 v40 s41 = some fin → hk_V Gd (N_x_orders l fr lo) (hk_end Gd s0 none fin) 33 [(0, .ref th), (2, .ref p2), (4, .int p4), (5, .int v37), (6, .int v38), (7, .int v39), (8, .int v40)] [] s41) (he0 : ∀ (v42 : Int32) (s43 : hk_St), e0 v42 s43 = some fin → hk_V Gd (N_x_orders l fr lo) (hk_end Gd s0 none fin) 63 [(0, .ref th), (2, .ref p2), (4, .int p4), (5, .int v42), (6, .int v38), (7, .int v39)] [] s43) {v37 : Int32} {v40 : Int32} {s41 : hk_St} (h : x_orders_L33b rc_orders th p1 p2 p3 p4 v38 v39 e0 rc v37 v40 s41 = some fin) : hk_V Gd (N_x_orders l fr lo) (hk_end Gd s0 none fin) 33 [(0, .ref th), (2, .ref p2), (4, .int p4), (5, .int v37), (6, .int v38), (7, .int v39), (8, .int v40)] [] s41 := by
  unfold x_orders_L33b at h
  refine hv_iload 6 dX0_orders_33 rfl ?_
  refine hv_iconst (v := 3) dX0_orders_35 (by decide) ?_
  refine hv_icmp_ge (tgt := 63) dX0_orders_36 (by decide) (fun c44 => ?_) (fun c44 => ?_)
  · replace h := hq_ip c44 h
    refine hv_sub [0, 1, 2, 3, 4, 5] rfl ?_
    exact he0 _ _ h
  · replace h := hq_in c44 h
    refine hv_iload 3 dX0_orders_39 rfl ?_
    refine hv_aload_n 0 dX0_orders_41 rfl rfl ?_
    refine hv_aload_n 0 dX0_orders_42 rfl rfl ?_
    obtain ⟨x45, e_x45, h⟩ := hq_ob h
    refine hv_getR fl_X0_47 e_x45 dX0_orders_43 ?_
    refine hv_aload_n 1 dX0_orders_46 rfl rfl ?_
    refine hv_iload 5 dX0_orders_47 rfl ?_
    obtain ⟨x46, e_x46, h⟩ := hq_ob h
    refine hv_iald e_x46 dX0_orders_49 ?_
    obtain ⟨a47, e_a47, h⟩ := hq_nn h
    rw [e_a47]
    obtain ⟨x48, e_x48, h⟩ := hq_ob h
    refine hv_iald e_x48 dX0_orders_50 ?_
    obtain ⟨q49, e_q49, h⟩ := hq_ob h
    obtain ⟨g50, h⟩ := hq_gd h
    refine hv_callV [.int x48] [.int v37] [.int q49.1, .int v37] (wk_x_teach e_q49) cs_X0_308 g50 rfl ⟨by show _ ≤ fr; omega, by show _ ≤ lo; omega⟩ rfl (Nat.le_of_ble_eq_true rfl) rfl dX0_orders_51 ?_
    refine hv_iadd dX0_orders_54 ?_
    obtain ⟨x51, e_x51, h⟩ := hq_nm h
    rw [← e_x51]
    refine hv_istore (L' := [(5, .int x51), (0, .ref th), (2, .ref p2), (4, .int p4), (6, .int v38), (7, .int v39), (8, .int v40)]) dX0_orders_55 (Nat.le_of_ble_eq_true rfl) rfl ?_
    obtain ⟨x52, e_x52, h⟩ := hq_nm h
    refine hv_iinc (v := x52) (L' := [(8, .int x52), (5, .int x51), (0, .ref th), (2, .ref p2), (4, .int p4), (6, .int v38), (7, .int v39)]) 6 dX0_orders_57 rfl (by rw [e_x52]; rfl) (Nat.le_of_ble_eq_true rfl) rfl ?_
    refine hv_goto (tgt := 33) dX0_orders_60 (by decide) ?_
    refine hv_sub [2, 3, 4, 1, 5, 6, 0] rfl ?_
    exact hrc _ _ _ h
theorem wk_x_orders_L33 {l : Launch} {Gd : hk_G} {fr lo fr' lo' : Nat} (hroom : fr' + 1 ≤ fr ∧ lo' + 60 ≤ lo ∧ 400 ≤ fr ∧ 25000 ≤ lo) {rc_orders : Nat → Nat → Nat → Int32 → Int32 → hk_St → Option hk_St} (h_orders : ∀ (b0 : Nat) (b1 : Nat) (b2 : Nat) (b3 : Int32) (b4 : Int32) (z : hk_St) (z2 : hk_St), rc_orders b0 b1 b2 b3 b4 z = some z2 → hk_Met Gd l yX0_orders cX0_orders 9 none fr' lo' [.ref b0, .ref b1, .ref b2, .int b3, .int b4] z none z2) {th : Nat} {p1 : Nat} {p2 : Nat} {p3 : Int32} {p4 : Int32} {s0 : hk_St} {fin : hk_St} {v38 : Int32} {v39 : Int32} {e0 : Int32 → hk_St → Option hk_St} (he0 : ∀ (v42 : Int32) (s43 : hk_St), e0 v42 s43 = some fin → hk_V Gd (N_x_orders l fr lo) (hk_end Gd s0 none fin) 63 [(0, .ref th), (2, .ref p2), (4, .int p4), (5, .int v42), (6, .int v38), (7, .int v39)] [] s43) : ∀ (n : Nat) (v37 : Int32) (v40 : Int32) (s41 : hk_St), x_orders_L33 rc_orders th p1 p2 p3 p4 v38 v39 e0 n v37 v40 s41 = some fin → hk_V Gd (N_x_orders l fr lo) (hk_end Gd s0 none fin) 33 [(0, .ref th), (2, .ref p2), (4, .int p4), (5, .int v37), (6, .int v38), (7, .int v39), (8, .int v40)] [] s41 := by
  intro n
  induction n with
  | zero => intro v37 v40 s41 h; cases h
  | succ n ih => intro v37 v40 s41 h; exact wk_x_orders_L33b hroom h_orders ih he0 h
set_option maxHeartbeats 4000000 in
theorem wk_x_orders_L23b {l : Launch} {Gd : hk_G} {fr lo fr' lo' : Nat} (hroom : fr' + 1 ≤ fr ∧ lo' + 60 ≤ lo ∧ 400 ≤ fr ∧ 25000 ≤ lo) {rc_orders : Nat → Nat → Nat → Int32 → Int32 → hk_St → Option hk_St} (h_orders : ∀ (b0 : Nat) (b1 : Nat) (b2 : Nat) (b3 : Int32) (b4 : Int32) (z : hk_St) (z2 : hk_St), rc_orders b0 b1 b2 b3 b4 z = some z2 → hk_Met Gd l yX0_orders cX0_orders 9 none fr' lo' [.ref b0, .ref b1, .ref b2, .int b3, .int b4] z none z2) {th : Nat} {p1 : Nat} {p2 : Nat} {p3 : Int32} {p4 : Int32} {s0 : hk_St} {fin : hk_St} {e0 : Int32 → Int32 → hk_St → Option hk_St} {rc : Int32 → Int32 → Int32 → hk_St → Option hk_St} (hrc : ∀ (v29 : Int32) (v30 : Int32) (v31 : Int32) (s32 : hk_St), rc v29 v30 v31 s32 = some fin → hk_V Gd (N_x_orders l fr lo) (hk_end Gd s0 none fin) 23 [(0, .ref th), (2, .ref p2), (4, .int p4), (5, .int v29), (6, .int v30), (7, .int v31)] [] s32) (he0 : ∀ (v33 : Int32) (v34 : Int32) (s35 : hk_St), e0 v33 v34 s35 = some fin → hk_V Gd (N_x_orders l fr lo) (hk_end Gd s0 none fin) 83 [(0, .ref th), (5, .int v33), (6, .int v34)] [] s35) {v29 : Int32} {v30 : Int32} {v31 : Int32} {s32 : hk_St} (h : x_orders_L23b rc_orders th p1 p2 p3 p4 e0 rc v29 v30 v31 s32 = some fin) : hk_V Gd (N_x_orders l fr lo) (hk_end Gd s0 none fin) 23 [(0, .ref th), (2, .ref p2), (4, .int p4), (5, .int v29), (6, .int v30), (7, .int v31)] [] s32 := by
  unfold x_orders_L23b at h
  refine hv_iload 5 dX0_orders_23 rfl ?_
  refine hv_iload 2 dX0_orders_25 rfl ?_
  refine hv_icmp_ge (tgt := 83) dX0_orders_27 (by decide) (fun c36 => ?_) (fun c36 => ?_)
  · replace h := hq_ip c36 h
    refine hv_sub [0, 3, 4] rfl ?_
    exact he0 _ _ _ h
  · replace h := hq_in c36 h
    refine hv_iconst (v := 0) dX0_orders_30 (by decide) ?_
    refine hv_istore (L' := [(8, .int (0 : Int32)), (0, .ref th), (2, .ref p2), (4, .int p4), (5, .int v29), (6, .int v30), (7, .int v31)]) dX0_orders_31 (Nat.le_of_ble_eq_true rfl) rfl ?_
    refine hv_sub [1, 2, 3, 4, 5, 6, 0] rfl ?_
    refine wk_x_orders_L33 hroom h_orders ?_ hk_F _ _ _ h
    · intro v42 s43 h
      refine hv_bipush (v := 10) dX0_orders_63 (by decide) ?_
      refine hv_iload 4 dX0_orders_65 rfl ?_
      refine hv_imul dX0_orders_67 ?_
      refine hv_aload_n 1 dX0_orders_68 rfl rfl ?_
      refine hv_iload 5 dX0_orders_69 rfl ?_
      obtain ⟨x53, e_x53, h⟩ := hq_ob h
      refine hv_iald e_x53 dX0_orders_71 ?_
      refine hv_iadd dX0_orders_72 ?_
      refine hv_iconst (v := 1) dX0_orders_73 (by decide) ?_
      refine hv_iadd dX0_orders_74 ?_
      obtain ⟨x54, e_x54, h⟩ := hq_nm h
      rw [← e_x54]
      refine hv_istore (L' := [(6, .int x54), (0, .ref th), (2, .ref p2), (4, .int p4), (5, .int v42), (7, .int v31)]) dX0_orders_75 (Nat.le_of_ble_eq_true rfl) rfl ?_
      obtain ⟨x55, e_x55, h⟩ := hq_nm h
      refine hv_iinc (v := x55) (L' := [(7, .int x55), (6, .int x54), (0, .ref th), (2, .ref p2), (4, .int p4), (5, .int v42)]) 5 dX0_orders_77 rfl (by rw [e_x55]; rfl) (Nat.le_of_ble_eq_true rfl) rfl ?_
      refine hv_goto (tgt := 23) dX0_orders_80 (by decide) ?_
      refine hv_sub [2, 3, 4, 5, 1, 0] rfl ?_
      exact hrc _ _ _ _ h
theorem wk_x_orders_L23 {l : Launch} {Gd : hk_G} {fr lo fr' lo' : Nat} (hroom : fr' + 1 ≤ fr ∧ lo' + 60 ≤ lo ∧ 400 ≤ fr ∧ 25000 ≤ lo) {rc_orders : Nat → Nat → Nat → Int32 → Int32 → hk_St → Option hk_St} (h_orders : ∀ (b0 : Nat) (b1 : Nat) (b2 : Nat) (b3 : Int32) (b4 : Int32) (z : hk_St) (z2 : hk_St), rc_orders b0 b1 b2 b3 b4 z = some z2 → hk_Met Gd l yX0_orders cX0_orders 9 none fr' lo' [.ref b0, .ref b1, .ref b2, .int b3, .int b4] z none z2) {th : Nat} {p1 : Nat} {p2 : Nat} {p3 : Int32} {p4 : Int32} {s0 : hk_St} {fin : hk_St} {e0 : Int32 → Int32 → hk_St → Option hk_St} (he0 : ∀ (v33 : Int32) (v34 : Int32) (s35 : hk_St), e0 v33 v34 s35 = some fin → hk_V Gd (N_x_orders l fr lo) (hk_end Gd s0 none fin) 83 [(0, .ref th), (5, .int v33), (6, .int v34)] [] s35) : ∀ (n : Nat) (v29 : Int32) (v30 : Int32) (v31 : Int32) (s32 : hk_St), x_orders_L23 rc_orders th p1 p2 p3 p4 e0 n v29 v30 v31 s32 = some fin → hk_V Gd (N_x_orders l fr lo) (hk_end Gd s0 none fin) 23 [(0, .ref th), (2, .ref p2), (4, .int p4), (5, .int v29), (6, .int v30), (7, .int v31)] [] s32 := by
  intro n
  induction n with
  | zero => intro v29 v30 v31 s32 h; cases h
  | succ n ih => intro v29 v30 v31 s32 h; exact wk_x_orders_L23b hroom h_orders ih he0 h
set_option maxHeartbeats 4000000 in
theorem wk_x_orders {l : Launch} {Gd : hk_G} {fr lo fr' lo' : Nat} (hroom : fr' + 1 ≤ fr ∧ lo' + 60 ≤ lo ∧ 400 ≤ fr ∧ 25000 ≤ lo) {rc_orders : Nat → Nat → Nat → Int32 → Int32 → hk_St → Option hk_St} (h_orders : ∀ (b0 : Nat) (b1 : Nat) (b2 : Nat) (b3 : Int32) (b4 : Int32) (z : hk_St) (z2 : hk_St), rc_orders b0 b1 b2 b3 b4 z = some z2 → hk_Met Gd l yX0_orders cX0_orders 9 none fr' lo' [.ref b0, .ref b1, .ref b2, .int b3, .int b4] z none z2) {th : Nat} {p1 : Nat} {p2 : Nat} {p3 : Int32} {p4 : Int32} {s0 : hk_St} {fin : hk_St} (h : x_orders rc_orders th p1 p2 p3 p4 s0 = some fin) : hk_Met Gd l yX0_orders cX0_orders 9 none fr lo [.ref th, .ref p1, .ref p2, .int p3, .int p4] s0 none fin := by
  refine hk_start "HeadReckons" false (by decide +kernel) rfl (by decide) (Nat.le_of_ble_eq_true rfl) ?_
  show hk_V Gd (N_x_orders l fr lo) (hk_end Gd s0 none fin) 0 [(0, .ref th), (1, .ref p1), (2, .ref p2), (3, .int p3), (4, .int p4)] [] s0
  unfold x_orders at h
  refine hv_iload_n 3 dX0_orders_0 rfl rfl ?_
  refine hv_iload 4 dX0_orders_1 rfl ?_
  refine hv_icmp_ne (tgt := 113) dX0_orders_3 (by decide) (fun c1 => ?_) (fun c1 => ?_)
  · replace h := hq_in c1 h
    refine hv_iconst (v := 0) dX0_orders_113 (by decide) ?_
    refine hv_istore (L' := [(5, .int (0 : Int32)), (0, .ref th), (1, .ref p1), (2, .ref p2), (3, .int p3), (4, .int p4)]) dX0_orders_114 (Nat.le_of_ble_eq_true rfl) rfl ?_
    refine hv_sub [1, 2, 3, 4, 5, 0] rfl ?_
    refine wk_x_orders_L116 hroom h_orders ?_ hk_F _ _ h
    · intro s4 h
      have h := Option.some.inj h
      subst h
      exact hv_vret rfl dX0_orders_190
  · replace h := hq_ip c1 h
    refine hv_aload_n 0 dX0_orders_6 rfl rfl ?_
    obtain ⟨x25, e_x25, h⟩ := hq_ob h
    refine hv_getR fl_X0_52 e_x25 dX0_orders_7 ?_
    refine hv_aload_n 1 dX0_orders_10 rfl rfl ?_
    obtain ⟨a26, e_a26, h⟩ := hq_nn h
    rw [e_a26]
    obtain ⟨s27, e_s27, h⟩ := hq_ob h
    obtain ⟨g28, h⟩ := hq_gd h
    refine hv_callV [.ref p1] [] [] (wk_xHead_copy e_s27) cs_X0_304 g28 rfl ⟨by show _ ≤ fr; omega, by show _ ≤ lo; omega⟩ rfl (Nat.le_of_ble_eq_true rfl) rfl dX0_orders_11 ?_
    refine hv_iconst (v := 0) dX0_orders_14 (by decide) ?_
    refine hv_istore (L' := [(5, .int (0 : Int32)), (0, .ref th), (1, .ref p1), (2, .ref p2), (3, .int p3), (4, .int p4)]) dX0_orders_15 (Nat.le_of_ble_eq_true rfl) rfl ?_
    refine hv_iconst (v := 0) dX0_orders_17 (by decide) ?_
    refine hv_istore (L' := [(6, .int (0 : Int32)), (5, .int (0 : Int32)), (0, .ref th), (1, .ref p1), (2, .ref p2), (3, .int p3), (4, .int p4)]) dX0_orders_18 (Nat.le_of_ble_eq_true rfl) rfl ?_
    refine hv_iconst (v := 0) dX0_orders_20 (by decide) ?_
    refine hv_istore (L' := [(7, .int (0 : Int32)), (6, .int (0 : Int32)), (5, .int (0 : Int32)), (0, .ref th), (1, .ref p1), (2, .ref p2), (3, .int p3), (4, .int p4)]) dX0_orders_21 (Nat.le_of_ble_eq_true rfl) rfl ?_
    refine hv_sub [3, 5, 7, 2, 1, 0] rfl ?_
    refine wk_x_orders_L23 hroom h_orders ?_ hk_F _ _ _ _ h
    · intro v33 v34 s35 h
      refine hv_aload_n 0 dX0_orders_83 rfl rfl ?_
      obtain ⟨x56, e_x56, h⟩ := hq_ob h
      refine hv_getI fl_X0_311 e_x56 dX0_orders_84 ?_
      refine hv_if_le (tgt := 100) dX0_orders_87 (by decide) (fun c57 => ?_) (fun c57 => ?_)
      · replace h := hq_ip c57 h
        refine hv_aload_n 0 dX0_orders_100 rfl rfl ?_
        refine hv_iload 2 dX0_orders_101 rfl ?_
        obtain ⟨s58, e_s58, h⟩ := hq_ob h
        refine hv_putI fp_X0_311 e_s58 (fun q => by cases q) dX0_orders_103 ?_
        refine hv_aload_n 0 dX0_orders_106 rfl rfl ?_
        refine hv_iload 1 dX0_orders_107 rfl ?_
        obtain ⟨s59, e_s59, h⟩ := hq_ob h
        refine hv_putI fp_X0_314 e_s59 (fun q => by cases q) dX0_orders_109 ?_
        have h := Option.some.inj h
        subst h
        exact hv_vret rfl dX0_orders_112
      · replace h := hq_in c57 h
        refine hv_iload 1 dX0_orders_90 rfl ?_
        refine hv_aload_n 0 dX0_orders_92 rfl rfl ?_
        obtain ⟨x60, e_x60, h⟩ := hq_ob h
        refine hv_getI fl_X0_314 e_x60 dX0_orders_93 ?_
        refine hv_icmp_lt (tgt := 100) dX0_orders_96 (by decide) (fun c61 => ?_) (fun c61 => ?_)
        · replace h := hq_ip c61 h
          refine hv_aload_n 0 dX0_orders_100 rfl rfl ?_
          refine hv_iload 2 dX0_orders_101 rfl ?_
          obtain ⟨s62, e_s62, h⟩ := hq_ob h
          refine hv_putI fp_X0_311 e_s62 (fun q => by cases q) dX0_orders_103 ?_
          refine hv_aload_n 0 dX0_orders_106 rfl rfl ?_
          refine hv_iload 1 dX0_orders_107 rfl ?_
          obtain ⟨s63, e_s63, h⟩ := hq_ob h
          refine hv_putI fp_X0_314 e_s63 (fun q => by cases q) dX0_orders_109 ?_
          have h := Option.some.inj h
          subst h
          exact hv_vret rfl dX0_orders_112
        · replace h := hq_in c61 h
          have h := Option.some.inj h
          subst h
          exact hv_vret rfl dX0_orders_99
def g_orders : Nat → Nat → Nat → Nat → Int32 → Int32 → hk_St → Option hk_St
  | 0 => fun _ _ _ _ _ _ => none
  | d + 1 => x_orders (g_orders d)
theorem wk_gA_orders {l : Launch} {Gd : hk_G} : ∀ d : Nat, (∀ (b0 : Nat) (b1 : Nat) (b2 : Nat) (b3 : Int32) (b4 : Int32) (z : hk_St) (z2 : hk_St), g_orders d b0 b1 b2 b3 b4 z = some z2 → hk_Met Gd l yX0_orders cX0_orders 9 none (400 + d) (25000 + 60 * d) [.ref b0, .ref b1, .ref b2, .int b3, .int b4] z none z2) := by
  intro d
  induction d with
  | zero => skip; (intros; rename_i h; cases h)
  | succ d ih =>
    exact fun _ _ _ _ _ _ _ h => wk_x_orders ⟨by omega, by omega, by omega, by omega⟩ ih h
theorem wk_g_orders_orders {l : Launch} {Gd : hk_G} {b0 : Nat} {b1 : Nat} {b2 : Nat} {b3 : Int32} {b4 : Int32} {z : hk_St} {z2 : hk_St} (h : g_orders 8 b0 b1 b2 b3 b4 z = some z2) : hk_Met Gd l yX0_orders cX0_orders 9 none 408 25480 [.ref b0, .ref b1, .ref b2, .int b3, .int b4] z none z2 :=
  (wk_gA_orders 8) _ _ _ _ _ _ _ h
def x_first (th : Nat) (p1 : Int32) (p2 : Int32) (s0 : hk_St) : Option (Int32 × hk_St) :=
  (x_isHead th p1 s0).bind fun x1 =>
  hk_gd (hk_bf [0] s0 th) <|
  if x1 = 0 then
    some ((-1 : Int32), s0)
  else
  if (x_in p2 (0 : Int32) (1 : Int32)) = 0 then
    some ((-1 : Int32), s0)
  else
  (x_canTeach th s0).bind fun x5 =>
  hk_gd (hk_bf [0] s0 th) <|
  if x5 = 0 then
    some ((-1 : Int32), s0)
  else
  (hk_gI [0] 13 s0 th).bind fun x8 =>
    if x8 = 0 then
      some ((-5 : Int32), s0)
    else
    (hk_pI [0] 15 s0 th (0 : Int32)).bind fun s10 =>
      (hk_gR [0] 2 s10 th).bind fun x11 =>
      hk_nn x11 fun a12 =>
      (hk_lR 6 s10 a12 p1).bind fun x13 =>
      hk_nm (hk_nx s10) fun a14 =>
      hk_nm (hk_mk s10 100 5 5) fun s15 =>
      (hk_gI [0] 13 s15 th).bind fun x16 =>
      hk_nn x13 fun a17 =>
      ((g_orders 8) th a17 a14 (0 : Int32) (j_min_i (5 : Int32) x16) s15).bind fun s18 =>
      hk_gd (hk_bf [0] s15 th) <|
      if p2 = 0 then
        (hk_gI [0] 15 s18 th).bind fun x22 =>
      some (x22, s18)
      else
      (hk_gI [0] 16 s18 th).bind fun x21 =>
        some (x21, s18)
abbrev N_x_first (l : Launch) : hk_N := (l, cX0_first, "HeadReckons", 3, (some .int), 409, 25508, false)
set_option maxHeartbeats 4000000 in
theorem wk_x_first {l : Launch} {Gd : hk_G} {th : Nat} {p1 : Int32} {p2 : Int32} {s0 : hk_St} {r : Int32} {fin : hk_St} (h : x_first th p1 p2 s0 = some (r, fin)) : hk_Met Gd l yX0_first cX0_first 3 (some .int) 409 25508 [.ref th, .int p1, .int p2] s0 (some (.int r)) fin := by
  refine hk_start "HeadReckons" false (by decide +kernel) rfl (by decide) (Nat.le_of_ble_eq_true rfl) ?_
  show hk_V Gd (N_x_first l) (hk_end Gd s0 (some (.int r)) fin) 0 [(0, .ref th), (1, .int p1), (2, .int p2)] [] s0
  unfold x_first at h
  refine hv_aload_n 0 dX0_first_0 rfl rfl ?_
  refine hv_iload_n 1 dX0_first_1 rfl rfl ?_
  obtain ⟨x1, e_x1, h⟩ := hq_ob h
  obtain ⟨g2, h⟩ := hq_gd h
  refine hv_callV [.int p1] [] [.int x1] (wk_x_isHead e_x1) cs_X0_89 g2 rfl ⟨Nat.le_of_ble_eq_true rfl, Nat.le_of_ble_eq_true rfl⟩ rfl (Nat.le_of_ble_eq_true rfl) rfl dX0_first_2 ?_
  refine hv_if_eq (tgt := 24) dX0_first_5 (by decide) (fun c3 => ?_) (fun c3 => ?_)
  · replace h := hq_ip c3 h
    refine hv_iconst (v := -1) dX0_first_24 (by decide) ?_
    obtain ⟨h1, h2⟩ := hq_ret h
    subst h1
    subst h2
    exact hv_iret rfl dX0_first_25
  · replace h := hq_in c3 h
    refine hv_iload_n 2 dX0_first_8 rfl rfl ?_
    refine hv_iconst (v := 0) dX0_first_9 (by decide) ?_
    refine hv_iconst (v := 1) dX0_first_10 (by decide) ?_
    refine hv_callS [.int p2, .int (0 : Int32), .int (1 : Int32)] [] [.int (x_in p2 (0 : Int32) (1 : Int32))] (wk_x_in rfl) cs_X0_73 rfl ⟨Nat.le_of_ble_eq_true rfl, Nat.le_of_ble_eq_true rfl⟩ rfl (Nat.le_of_ble_eq_true rfl) rfl dX0_first_11 ?_
    refine hv_if_eq (tgt := 24) dX0_first_14 (by decide) (fun c4 => ?_) (fun c4 => ?_)
    · replace h := hq_ip c4 h
      refine hv_iconst (v := -1) dX0_first_24 (by decide) ?_
      obtain ⟨h1, h2⟩ := hq_ret h
      subst h1
      subst h2
      exact hv_iret rfl dX0_first_25
    · replace h := hq_in c4 h
      refine hv_aload_n 0 dX0_first_17 rfl rfl ?_
      obtain ⟨x5, e_x5, h⟩ := hq_ob h
      obtain ⟨g6, h⟩ := hq_gd h
      refine hv_callV [] [] [.int x5] (wk_x_canTeach e_x5) cs_X0_300 g6 rfl ⟨Nat.le_of_ble_eq_true rfl, Nat.le_of_ble_eq_true rfl⟩ rfl (Nat.le_of_ble_eq_true rfl) rfl dX0_first_18 ?_
      refine hv_if_ne (tgt := 26) dX0_first_21 (by decide) (fun c7 => ?_) (fun c7 => ?_)
      · replace h := hq_in c7 h
        refine hv_aload_n 0 dX0_first_26 rfl rfl ?_
        obtain ⟨x8, e_x8, h⟩ := hq_ob h
        refine hv_getI fl_X0_288 e_x8 dX0_first_27 ?_
        refine hv_if_ne (tgt := 36) dX0_first_30 (by decide) (fun c9 => ?_) (fun c9 => ?_)
        · replace h := hq_in c9 h
          refine hv_aload_n 0 dX0_first_36 rfl rfl ?_
          refine hv_iconst (v := 0) dX0_first_37 (by decide) ?_
          obtain ⟨s10, e_s10, h⟩ := hq_ob h
          refine hv_putI fp_X0_311 e_s10 (fun q => by cases q) dX0_first_38 ?_
          refine hv_aload_n 0 dX0_first_41 rfl rfl ?_
          refine hv_aload_n 0 dX0_first_42 rfl rfl ?_
          obtain ⟨x11, e_x11, h⟩ := hq_ob h
          refine hv_getR fl_X0_15 e_x11 dX0_first_43 ?_
          refine hv_iload_n 1 dX0_first_46 rfl rfl ?_
          obtain ⟨a12, e_a12, h⟩ := hq_nn h
          rw [e_a12]
          obtain ⟨x13, e_x13, h⟩ := hq_ob h
          refine hv_aald (by decide) (by decide) rfl e_x13 dX0_first_47 ?_
          refine hv_iconst (v := 5) dX0_first_48 (by decide) ?_
          obtain ⟨a14, e_a14, h⟩ := hq_nm h
          obtain ⟨s15, e_s15, h⟩ := hq_nm h
          refine hv_newa (atype := .int) (ty := 0) (n' := 5) (by decide) rfl q163 (by decide) (by decide) (by decide) dX0_first_49 ?_
          rw [show hk_mk s10 (100 + 0) 5 5 = s15 from e_s15.symm, ← e_a14]
          refine hv_iconst (v := 0) dX0_first_51 (by decide) ?_
          refine hv_iconst (v := 5) dX0_first_52 (by decide) ?_
          refine hv_aload_n 0 dX0_first_53 rfl rfl ?_
          obtain ⟨x16, e_x16, h⟩ := hq_ob h
          refine hv_getI fl_X0_288 e_x16 dX0_first_54 ?_
          refine hv_callS [.int (5 : Int32), .int x16] [.int (0 : Int32), .ref a14, va_rf x13, .ref th] [.int (j_min_i (5 : Int32) x16), .int (0 : Int32), .ref a14, va_rf x13, .ref th] (wk_j_min_i rfl) cs_X0_212 rfl ⟨Nat.le_of_ble_eq_true rfl, Nat.le_of_ble_eq_true rfl⟩ rfl (by simp only [List.map, hk_cat]; exact Nat.le_of_ble_eq_true rfl) rfl dX0_first_57 ?_
          obtain ⟨a17, e_a17, h⟩ := hq_nn h
          rw [e_a17]
          obtain ⟨s18, e_s18, h⟩ := hq_ob h
          obtain ⟨g19, h⟩ := hq_gd h
          refine hv_callV [.ref a17, .ref a14, .int (0 : Int32), .int (j_min_i (5 : Int32) x16)] [] [] (wk_g_orders_orders e_s18) cs_X0_317 g19 rfl ⟨Nat.le_of_ble_eq_true rfl, Nat.le_of_ble_eq_true rfl⟩ rfl (Nat.le_of_ble_eq_true rfl) rfl dX0_first_60 ?_
          refine hv_iload_n 2 dX0_first_63 rfl rfl ?_
          refine hv_if_ne (tgt := 74) dX0_first_64 (by decide) (fun c20 => ?_) (fun c20 => ?_)
          · replace h := hq_in c20 h
            refine hv_aload_n 0 dX0_first_74 rfl rfl ?_
            obtain ⟨x21, e_x21, h⟩ := hq_ob h
            refine hv_getI fl_X0_314 e_x21 dX0_first_75 ?_
            obtain ⟨h1, h2⟩ := hq_ret h
            subst h1
            subst h2
            exact hv_iret rfl dX0_first_78
          · replace h := hq_ip c20 h
            refine hv_aload_n 0 dX0_first_67 rfl rfl ?_
            obtain ⟨x22, e_x22, h⟩ := hq_ob h
            refine hv_getI fl_X0_311 e_x22 dX0_first_68 ?_
            refine hv_goto (tgt := 78) dX0_first_71 (by decide) ?_
            obtain ⟨h1, h2⟩ := hq_ret h
            subst h1
            subst h2
            exact hv_iret rfl dX0_first_78
        · replace h := hq_ip c9 h
          refine hv_bipush (v := -5) dX0_first_33 (by decide) ?_
          obtain ⟨h1, h2⟩ := hq_ret h
          subst h1
          subst h2
          exact hv_iret rfl dX0_first_35
      · replace h := hq_ip c7 h
        refine hv_iconst (v := -1) dX0_first_24 (by decide) ?_
        obtain ⟨h1, h2⟩ := hq_ret h
        subst h1
        subst h2
        exact hv_iret rfl dX0_first_25
def x_isNumber (p1 : Int64) : Int32 :=
  if p1 < (1 : Int64) then
    (0 : Int32)
  else
  if (999999999999999999 : Int64) < p1 then
    (0 : Int32)
  else
  (1 : Int32)
theorem bz_x_isNumber {p1 : Int64} : x_isNumber p1 &&& 1 = x_isNumber p1 := by
  unfold x_isNumber
  try unfold hk_nm
  repeat' split
  all_goals first | rfl
abbrev N_x_isNumber (l : Launch) : hk_N := (l, cX0_isNumber, "HeadReckons", 2, (some .boolean), 0, 0, false)
set_option maxHeartbeats 4000000 in
theorem wk_x_isNumber {l : Launch} {Gd : hk_G} {st : hk_St} {p1 : Int64} {r : Int32} (h : x_isNumber p1 = r) : hk_Met Gd l yX0_isNumber cX0_isNumber 2 (some .boolean) 0 0 [.long p1] st (some (.int r)) st := by
  refine hk_start "HeadReckons" false (by decide +kernel) rfl (by decide) (Nat.le_of_ble_eq_true rfl) ?_
  show hk_V Gd (N_x_isNumber l) (hk_end Gd st (some (.int r)) st) 0 [(0, .long p1)] [] st
  unfold x_isNumber at h
  refine hv_lload_n 0 dX0_isNumber_0 rfl rfl ?_
  refine hv_lconst (v := 1) dX0_isNumber_1 (by decide) ?_
  refine hv_lcmp_lt (tgt := 18) dX0_isNumber_2 dX0_isNumber_3 (by decide) (fun c1 => ?_) (fun c1 => ?_)
  · replace h := hq_ip c1 h
    refine hv_iconst (v := 0) dX0_isNumber_18 (by decide) ?_
    subst h
    exact hv_zret (ty := .boolean) rfl rfl dX0_isNumber_19
  · replace h := hq_in c1 h
    refine hv_lload_n 0 dX0_isNumber_6 rfl rfl ?_
    refine hv_ldc2 q1088 dX0_isNumber_7 ?_
    refine hv_lcmp_gt (tgt := 18) dX0_isNumber_10 dX0_isNumber_11 (by decide) (fun c2 => ?_) (fun c2 => ?_)
    · replace h := hq_ip c2 h
      refine hv_iconst (v := 0) dX0_isNumber_18 (by decide) ?_
      subst h
      exact hv_zret (ty := .boolean) rfl rfl dX0_isNumber_19
    · replace h := hq_in c2 h
      refine hv_iconst (v := 1) dX0_isNumber_14 (by decide) ?_
      refine hv_goto (tgt := 19) dX0_isNumber_15 (by decide) ?_
      subst h
      exact hv_zret (ty := .boolean) rfl rfl dX0_isNumber_19
def x_isPower (p1 : Int32) : Int32 :=
  if p1 = (2 : Int32) then
    (1 : Int32)
  else
  if p1 = (3 : Int32) then
    (1 : Int32)
  else
  if p1 = (5 : Int32) then
    (1 : Int32)
  else
  (0 : Int32)
theorem bz_x_isPower {p1 : Int32} : x_isPower p1 &&& 1 = x_isPower p1 := by
  unfold x_isPower
  try unfold hk_nm
  repeat' split
  all_goals first | rfl
abbrev N_x_isPower (l : Launch) : hk_N := (l, cX0_isPower, "HeadReckons", 1, (some .boolean), 0, 0, false)
set_option maxHeartbeats 4000000 in
theorem wk_x_isPower {l : Launch} {Gd : hk_G} {st : hk_St} {p1 : Int32} {r : Int32} (h : x_isPower p1 = r) : hk_Met Gd l yX0_isPower cX0_isPower 1 (some .boolean) 0 0 [.int p1] st (some (.int r)) st := by
  refine hk_start "HeadReckons" false (by decide +kernel) rfl (by decide) (Nat.le_of_ble_eq_true rfl) ?_
  show hk_V Gd (N_x_isPower l) (hk_end Gd st (some (.int r)) st) 0 [(0, .int p1)] [] st
  unfold x_isPower at h
  refine hv_iload_n 0 dX0_isPower_0 rfl rfl ?_
  refine hv_iconst (v := 2) dX0_isPower_1 (by decide) ?_
  refine hv_icmp_eq (tgt := 15) dX0_isPower_2 (by decide) (fun c1 => ?_) (fun c1 => ?_)
  · replace h := hq_ip c1 h
    refine hv_iconst (v := 1) dX0_isPower_15 (by decide) ?_
    refine hv_goto (tgt := 20) dX0_isPower_16 (by decide) ?_
    subst h
    exact hv_zret (ty := .boolean) rfl rfl dX0_isPower_20
  · replace h := hq_in c1 h
    refine hv_iload_n 0 dX0_isPower_5 rfl rfl ?_
    refine hv_iconst (v := 3) dX0_isPower_6 (by decide) ?_
    refine hv_icmp_eq (tgt := 15) dX0_isPower_7 (by decide) (fun c2 => ?_) (fun c2 => ?_)
    · replace h := hq_ip c2 h
      refine hv_iconst (v := 1) dX0_isPower_15 (by decide) ?_
      refine hv_goto (tgt := 20) dX0_isPower_16 (by decide) ?_
      subst h
      exact hv_zret (ty := .boolean) rfl rfl dX0_isPower_20
    · replace h := hq_in c2 h
      refine hv_iload_n 0 dX0_isPower_10 rfl rfl ?_
      refine hv_iconst (v := 5) dX0_isPower_11 (by decide) ?_
      refine hv_icmp_ne (tgt := 19) dX0_isPower_12 (by decide) (fun c3 => ?_) (fun c3 => ?_)
      · replace h := hq_in c3 h
        refine hv_iconst (v := 0) dX0_isPower_19 (by decide) ?_
        subst h
        exact hv_zret (ty := .boolean) rfl rfl dX0_isPower_20
      · replace h := hq_ip c3 h
        refine hv_iconst (v := 1) dX0_isPower_15 (by decide) ?_
        refine hv_goto (tgt := 20) dX0_isPower_16 (by decide) ?_
        subst h
        exact hv_zret (ty := .boolean) rfl rfl dX0_isPower_20
def x_isAbove_L6b (p1 : Int64) (p2 : Int32) (p3 : Int64) (e0 : Int64 → Option (Int32)) (rc : Int64 → Int32 → Option (Int32)) (v1 : Int64) (v2 : Int32) : Option (Int32) :=
  if p2 ≤ v2 then
    e0 v1
  else
  hk_gd (decide (¬ p1 = 0)) <|
  if v1 ≤ (p3 / p1) then
    hk_nm (v1 * p1) fun x7 =>
    hk_nm (v2 + (1 : Int32)) fun x8 =>
    rc x7 x8
  else
  some (1 : Int32)
def x_isAbove_L6 (p1 : Int64) (p2 : Int32) (p3 : Int64) (e0 : Int64 → Option (Int32)) : Nat → Int64 → Int32 → Option (Int32)
  | 0 => fun _ _ => none
  | n + 1 => x_isAbove_L6b p1 p2 p3 e0 (x_isAbove_L6 p1 p2 p3 e0 n)
def x_isAbove (p1 : Int64) (p2 : Int32) (p3 : Int64) : Option (Int32) :=
  x_isAbove_L6 p1 p2 p3  (fun (v3 : Int64) =>
    if v3 ≤ p3 then
      some (0 : Int32)
    else
    some (1 : Int32)) hk_F (1 : Int64) (0 : Int32) 
abbrev N_x_isAbove (l : Launch) : hk_N := (l, cX0_isAbove, "HeadReckons", 8, (some .boolean), 0, 0, false)
set_option maxHeartbeats 4000000 in
theorem wk_x_isAbove_L6b {l : Launch} {Gd : hk_G} {st : hk_St} {p1 : Int64} {p2 : Int32} {p3 : Int64} {r : Int32} {e0 : Int64 → Option (Int32)} {rc : Int64 → Int32 → Option (Int32)} (hrc : ∀ (v1 : Int64) (v2 : Int32), rc v1 v2 = some r → hk_V Gd (N_x_isAbove l) (hk_end Gd st (some (.int r)) st) 6 [(0, .long p1), (2, .int p2), (3, .long p3), (5, .long v1), (7, .int v2)] [] st) (he0 : ∀ (v3 : Int64), e0 v3 = some r → hk_V Gd (N_x_isAbove l) (hk_end Gd st (some (.int r)) st) 35 [(3, .long p3), (5, .long v3)] [] st) {v1 : Int64} {v2 : Int32} (h : x_isAbove_L6b p1 p2 p3 e0 rc v1 v2 = some r) : hk_V Gd (N_x_isAbove l) (hk_end Gd st (some (.int r)) st) 6 [(0, .long p1), (2, .int p2), (3, .long p3), (5, .long v1), (7, .int v2)] [] st := by
  unfold x_isAbove_L6b at h
  refine hv_iload 4 dX0_isAbove_6 rfl ?_
  refine hv_iload_n 1 dX0_isAbove_8 rfl rfl ?_
  refine hv_icmp_ge (tgt := 35) dX0_isAbove_9 (by decide) (fun c4 => ?_) (fun c4 => ?_)
  · replace h := hq_ip c4 h
    refine hv_sub [2, 3] rfl ?_
    exact he0 _ h
  · replace h := hq_in c4 h
    refine hv_lload 3 dX0_isAbove_12 rfl ?_
    refine hv_lload_n 2 dX0_isAbove_14 rfl rfl ?_
    refine hv_lload_n 0 dX0_isAbove_15 rfl rfl ?_
    obtain ⟨g5, h⟩ := hq_gd h
    refine hv_ldiv (of_decide_eq_true g5) dX0_isAbove_16 ?_
    refine hv_lcmp_le (tgt := 23) dX0_isAbove_17 dX0_isAbove_18 (by decide) (fun c6 => ?_) (fun c6 => ?_)
    · replace h := hq_ip c6 h
      refine hv_lload 3 dX0_isAbove_23 rfl ?_
      refine hv_lload_n 0 dX0_isAbove_25 rfl rfl ?_
      refine hv_lmul dX0_isAbove_26 ?_
      obtain ⟨x7, e_x7, h⟩ := hq_nm h
      rw [← e_x7]
      refine hv_lstore (L' := [(5, .long x7), (0, .long p1), (2, .int p2), (3, .long p3), (7, .int v2)]) dX0_isAbove_27 (Nat.le_of_ble_eq_true rfl) rfl ?_
      obtain ⟨x8, e_x8, h⟩ := hq_nm h
      refine hv_iinc (v := x8) (L' := [(7, .int x8), (5, .long x7), (0, .long p1), (2, .int p2), (3, .long p3)]) 4 dX0_isAbove_29 rfl (by rw [e_x8]; rfl) (Nat.le_of_ble_eq_true rfl) rfl ?_
      refine hv_goto (tgt := 6) dX0_isAbove_32 (by decide) ?_
      refine hv_sub [2, 3, 4, 1, 0] rfl ?_
      exact hrc _ _ h
    · replace h := hq_in c6 h
      refine hv_iconst (v := 1) dX0_isAbove_21 (by decide) ?_
      have h := Option.some.inj h
      subst h
      exact hv_zret (ty := .boolean) rfl rfl dX0_isAbove_22
theorem wk_x_isAbove_L6 {l : Launch} {Gd : hk_G} {st : hk_St} {p1 : Int64} {p2 : Int32} {p3 : Int64} {r : Int32} {e0 : Int64 → Option (Int32)} (he0 : ∀ (v3 : Int64), e0 v3 = some r → hk_V Gd (N_x_isAbove l) (hk_end Gd st (some (.int r)) st) 35 [(3, .long p3), (5, .long v3)] [] st) : ∀ (n : Nat) (v1 : Int64) (v2 : Int32), x_isAbove_L6 p1 p2 p3 e0 n v1 v2 = some r → hk_V Gd (N_x_isAbove l) (hk_end Gd st (some (.int r)) st) 6 [(0, .long p1), (2, .int p2), (3, .long p3), (5, .long v1), (7, .int v2)] [] st := by
  intro n
  induction n with
  | zero => intro v1 v2 h; cases h
  | succ n ih => intro v1 v2 h; exact wk_x_isAbove_L6b  ih he0 h
set_option maxHeartbeats 4000000 in
theorem wk_x_isAbove {l : Launch} {Gd : hk_G} {st : hk_St} {p1 : Int64} {p2 : Int32} {p3 : Int64} {r : Int32} (h : x_isAbove p1 p2 p3 = some r) : hk_Met Gd l yX0_isAbove cX0_isAbove 8 (some .boolean) 0 0 [.long p1, .int p2, .long p3] st (some (.int r)) st := by
  refine hk_start "HeadReckons" false (by decide +kernel) rfl (by decide) (Nat.le_of_ble_eq_true rfl) ?_
  show hk_V Gd (N_x_isAbove l) (hk_end Gd st (some (.int r)) st) 0 [(0, .long p1), (2, .int p2), (3, .long p3)] [] st
  unfold x_isAbove at h
  refine hv_lconst (v := 1) dX0_isAbove_0 (by decide) ?_
  refine hv_lstore (L' := [(5, .long (1 : Int64)), (0, .long p1), (2, .int p2), (3, .long p3)]) dX0_isAbove_1 (Nat.le_of_ble_eq_true rfl) rfl ?_
  refine hv_iconst (v := 0) dX0_isAbove_3 (by decide) ?_
  refine hv_istore (L' := [(7, .int (0 : Int32)), (5, .long (1 : Int64)), (0, .long p1), (2, .int p2), (3, .long p3)]) dX0_isAbove_4 (Nat.le_of_ble_eq_true rfl) rfl ?_
  refine hv_sub [2, 3, 4, 1, 0] rfl ?_
  refine wk_x_isAbove_L6  ?_ hk_F _ _ h
  · intro v3 h
    refine hv_lload 1 dX0_isAbove_35 rfl ?_
    refine hv_lload_n 0 dX0_isAbove_37 rfl rfl ?_
    refine hv_lcmp_le (tgt := 46) dX0_isAbove_38 dX0_isAbove_39 (by decide) (fun c9 => ?_) (fun c9 => ?_)
    · replace h := hq_ip c9 h
      refine hv_iconst (v := 0) dX0_isAbove_46 (by decide) ?_
      have h := Option.some.inj h
      subst h
      exact hv_zret (ty := .boolean) rfl rfl dX0_isAbove_47
    · replace h := hq_in c9 h
      refine hv_iconst (v := 1) dX0_isAbove_42 (by decide) ?_
      refine hv_goto (tgt := 47) dX0_isAbove_43 (by decide) ?_
      have h := Option.some.inj h
      subst h
      exact hv_zret (ty := .boolean) rfl rfl dX0_isAbove_47
