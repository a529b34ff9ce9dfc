set_option maxRecDepth 100000
def j_abs_j (p1 : Int64) : Int64 :=
  if (0 : Int64) ≤ p1 then
    p1
  else
  -p1
abbrev N_j_abs_j (l : Launch) : hk_N := (l, cJ2_abs, "java/lang/Math", 2, (some .long), 0, 0, false)
set_option maxHeartbeats 4000000 in
theorem wk_j_abs_j {l : Launch} {Gd : hk_G} {st : hk_St} {p1 : Int64} {r : Int64} (h : j_abs_j p1 = r) : hk_Met Gd l yJ2_abs cJ2_abs 2 (some .long) 0 0 [.long p1] st (some (.long r)) st := by
  refine hk_start "java/lang/Math" false (by decide +kernel) rfl (by decide) (Nat.le_of_ble_eq_true rfl) ?_
  show hk_V Gd (N_j_abs_j l) (hk_end Gd st (some (.long r)) st) 0 [(0, .long p1)] [] st
  unfold j_abs_j at h
  refine hv_lload_n 0 dJ2_abs_0 rfl rfl ?_
  refine hv_lconst (v := 0) dJ2_abs_1 (by decide) ?_
  refine hv_lcmp_ge (tgt := 11) dJ2_abs_2 dJ2_abs_3 (by decide) (fun c1 => ?_) (fun c1 => ?_)
  · replace h := hq_ip c1 h
    refine hv_lload_n 0 dJ2_abs_11 rfl rfl ?_
    subst h
    exact hv_lret rfl dJ2_abs_12
  · replace h := hq_in c1 h
    refine hv_lload_n 0 dJ2_abs_6 rfl rfl ?_
    refine hv_lneg dJ2_abs_7 ?_
    refine hv_goto (tgt := 12) dJ2_abs_8 (by decide) ?_
    subst h
    exact hv_lret rfl dJ2_abs_12
def xActs_squared (th : Nat) (p1 : Int64) (p2 : Int64) (s0 : hk_St) : Option (Int32 × hk_St) :=
  hk_nm (fun (v1 : Int64) (v2 : Int64) (s3 : hk_St) =>
    (hk_gI [2] 207 s3 th).bind fun x4 =>
    (x_sizeOf (v1 * v1)).bind fun x5 =>
    (hk_pI [2] 207 s3 th (x4 - x5)).bind fun s6 =>
    (hk_pL [2] 210 s6 th ((v1 * v1) - (v2 * v2))).bind fun s7 =>
    (hk_gL [2] 210 s7 th).bind fun x8 =>
    (hk_gR [2] 213 s7 th).bind fun x9 =>
    hk_nn x9 fun a10 =>
    (hk_gR [3] 300 s7 a10).bind fun x11 =>
    hk_nn x11 fun a12 =>
    (hk_lI 0 s7 a12 (1 : Int32)).bind fun x13 =>
    (hk_gL [2] 210 s7 th).bind fun x14 =>
    (x_sizeOf x14).bind fun x15 =>
    (xActs_act th (1 : Int32) x8 (x13 * x15) (0 : Int64) s7).bind fun s16 =>
    hk_gd (hk_bf [2] s7 th) <|
    some ((1 : Int32), s16)) fun k79 =>
  if ((p1 + p2) - (p1 + p2) / (2 : Int64) * (2 : Int64)) = (0 : Int64) then
    hk_nm ((p1 + p2) / (2 : Int64)) fun x19 =>
    hk_nm ((j_abs_j (p1 - p2)) / (2 : Int64)) fun x20 =>
    (xActs_left th x19 x19 s0).bind fun s21 =>
    hk_gd (hk_bf [2] s0 th) <|
    (xActs_begin th s21).bind fun s23 =>
    hk_gd (hk_bf [2] s21 th) <|
    (x_sizeOf (x19 * x19)).bind fun x25 =>
    (xActs_hold th (x19 * x19) x25 s23).bind fun s26 =>
    hk_gd (hk_bf [2] s23 th) <|
    if x20 ≤ (0 : Int64) then
      k79 x19 x20 s26
    else
    (xActs_left th x20 x20 s26).bind fun s29 =>
    hk_gd (hk_bf [2] s26 th) <|
    k79 x19 x20 s29
  else
  some ((0 : Int32), s0)
abbrev N_xActs_squared (l : Launch) : hk_N := (l, cX2_squared, "HeadReckons$Acts", 9, (some .boolean), 4, 106, false)
set_option maxHeartbeats 4000000 in
theorem wk_xActs_squared {l : Launch} {Gd : hk_G} {th : Nat} {p1 : Int64} {p2 : Int64} {s0 : hk_St} {r : Int32} {fin : hk_St} (h : xActs_squared th p1 p2 s0 = some (r, fin)) : hk_Met Gd l yX2_squared cX2_squared 9 (some .boolean) 4 106 [.ref th, .long p1, .long p2] s0 (some (.int r)) fin := by
  refine hk_start "HeadReckons$Acts" false (by decide +kernel) rfl (by decide) (Nat.le_of_ble_eq_true rfl) ?_
  show hk_V Gd (N_xActs_squared l) (hk_end Gd s0 (some (.int r)) fin) 0 [(0, .ref th), (1, .long p1), (3, .long p2)] [] s0
  unfold xActs_squared at h
  obtain ⟨k79, e_k79, h⟩ := hq_nm h
  have wk79 : ∀ (v1 : Int64) (v2 : Int64) (s3 : hk_St), k79 v1 v2 s3 = some (r, fin) → hk_V Gd (N_xActs_squared l) (hk_end Gd s0 (some (.int r)) fin) 79 [(0, .ref th), (5, .long v1), (7, .long v2)] [] s3 := by
    intro v1 v2 s3 h
    rw [e_k79] at h
    refine hv_aload_n 0 dX2_squared_79 rfl rfl ?_
    refine hv_dup dX2_squared_80 rfl ?_
    obtain ⟨x4, e_x4, h⟩ := hq_ob h
    refine hv_getI fl_X2_46 e_x4 dX2_squared_81 ?_
    refine hv_lload 1 dX2_squared_84 rfl ?_
    refine hv_lload 1 dX2_squared_86 rfl ?_
    refine hv_lmul dX2_squared_88 ?_
    obtain ⟨x5, e_x5, h⟩ := hq_ob h
    refine hv_callSN [.long (v1 * v1)] [.int x4, .ref th] [.int x5, .int x4, .ref th] (wk_x_sizeOf e_x5) cs_X2_96 rfl ⟨Nat.le_of_ble_eq_true rfl, Nat.le_of_ble_eq_true rfl⟩ rfl (Nat.le_of_ble_eq_true rfl) rfl dX2_squared_89 ?_
    refine hv_isub dX2_squared_92 ?_
    obtain ⟨s6, e_s6, h⟩ := hq_ob h
    refine hv_putI fp_X2_46 e_s6 (fun q => by cases q) dX2_squared_93 ?_
    refine hv_aload_n 0 dX2_squared_96 rfl rfl ?_
    refine hv_lload 1 dX2_squared_97 rfl ?_
    refine hv_lload 1 dX2_squared_99 rfl ?_
    refine hv_lmul dX2_squared_101 ?_
    refine hv_lload 2 dX2_squared_102 rfl ?_
    refine hv_lload 2 dX2_squared_104 rfl ?_
    refine hv_lmul dX2_squared_106 ?_
    refine hv_lsub dX2_squared_107 ?_
    obtain ⟨s7, e_s7, h⟩ := hq_ob h
    refine hv_putL fp_X2_89 e_s7 (fun q => by cases q) dX2_squared_108 ?_
    refine hv_aload_n 0 dX2_squared_111 rfl rfl ?_
    refine hv_iconst (v := 1) dX2_squared_112 (by decide) ?_
    refine hv_aload_n 0 dX2_squared_113 rfl rfl ?_
    obtain ⟨x8, e_x8, h⟩ := hq_ob h
    refine hv_getL fl_X2_89 e_x8 dX2_squared_114 ?_
    refine hv_aload_n 0 dX2_squared_117 rfl rfl ?_
    obtain ⟨x9, e_x9, h⟩ := hq_ob h
    refine hv_getR fl_X2_38 e_x9 dX2_squared_118 ?_
    obtain ⟨a10, e_a10, h⟩ := hq_nn h
    rw [e_a10]
    obtain ⟨x11, e_x11, h⟩ := hq_ob h
    refine hv_getR fl_X2_106 e_x11 dX2_squared_121 ?_
    refine hv_iconst (v := 1) dX2_squared_124 (by decide) ?_
    obtain ⟨a12, e_a12, h⟩ := hq_nn h
    rw [e_a12]
    obtain ⟨x13, e_x13, h⟩ := hq_ob h
    refine hv_iald e_x13 dX2_squared_125 ?_
    refine hv_aload_n 0 dX2_squared_126 rfl rfl ?_
    obtain ⟨x14, e_x14, h⟩ := hq_ob h
    refine hv_getL fl_X2_89 e_x14 dX2_squared_127 ?_
    obtain ⟨x15, e_x15, h⟩ := hq_ob h
    refine hv_callSN [.long x14] [.int x13, .long x8, .int (1 : Int32), .ref th] [.int x15, .int x13, .long x8, .int (1 : Int32), .ref th] (wk_x_sizeOf e_x15) cs_X2_96 rfl ⟨Nat.le_of_ble_eq_true rfl, Nat.le_of_ble_eq_true rfl⟩ rfl (Nat.le_of_ble_eq_true rfl) rfl dX2_squared_130 ?_
    refine hv_imul dX2_squared_133 ?_
    refine hv_lconst (v := 0) dX2_squared_134 (by decide) ?_
    obtain ⟨s16, e_s16, h⟩ := hq_ob h
    obtain ⟨g17, h⟩ := hq_gd h
    refine hv_callV [.int (1 : Int32), .long x8, .int (x13 * x15), .long (0 : Int64)] [] [] (wk_xActs_act e_s16) cs_X2_113 g17 rfl ⟨Nat.le_of_ble_eq_true rfl, Nat.le_of_ble_eq_true rfl⟩ rfl (Nat.le_of_ble_eq_true rfl) rfl dX2_squared_135 ?_
    refine hv_iconst (v := 1) dX2_squared_138 (by decide) ?_
    obtain ⟨h1, h2⟩ := hq_ret h
    subst h1
    subst h2
    exact hv_zret (ty := .boolean) rfl rfl dX2_squared_139
  clear e_k79
  refine hv_lload_n 1 dX2_squared_0 rfl rfl ?_
  refine hv_lload_n 2 dX2_squared_1 rfl rfl ?_
  refine hv_ladd dX2_squared_2 ?_
  refine hv_ldc2 q704 dX2_squared_3 ?_
  refine hv_lrem (by decide) dX2_squared_6 ?_
  refine hv_lconst (v := 0) dX2_squared_7 (by decide) ?_
  refine hv_lcmp_eq (tgt := 14) dX2_squared_8 dX2_squared_9 (by decide) (fun c18 => ?_) (fun c18 => ?_)
  · replace h := hq_ip c18 h
    refine hv_lload_n 1 dX2_squared_14 rfl rfl ?_
    refine hv_lload_n 2 dX2_squared_15 rfl rfl ?_
    refine hv_ladd dX2_squared_16 ?_
    refine hv_ldc2 q704 dX2_squared_17 ?_
    refine hv_ldiv (by decide) dX2_squared_20 ?_
    obtain ⟨x19, e_x19, h⟩ := hq_nm h
    rw [← e_x19]
    refine hv_lstore (L' := [(5, .long x19), (0, .ref th), (1, .long p1), (3, .long p2)]) dX2_squared_21 (Nat.le_of_ble_eq_true rfl) rfl ?_
    refine hv_lload_n 2 dX2_squared_23 rfl rfl ?_
    refine hv_lload_n 3 dX2_squared_24 rfl rfl ?_
    refine hv_lsub dX2_squared_25 ?_
    refine hv_callS [.long (p1 - p2)] [] [.long (j_abs_j (p1 - p2))] (wk_j_abs_j rfl) cs_X2_129 rfl ⟨Nat.le_of_ble_eq_true rfl, Nat.le_of_ble_eq_true rfl⟩ rfl (Nat.le_of_ble_eq_true rfl) rfl dX2_squared_26 ?_
    refine hv_ldc2 q704 dX2_squared_29 ?_
    refine hv_ldiv (by decide) dX2_squared_32 ?_
    obtain ⟨x20, e_x20, h⟩ := hq_nm h
    rw [← e_x20]
    refine hv_lstore (L' := [(7, .long x20), (5, .long x19), (0, .ref th), (1, .long p1), (3, .long p2)]) dX2_squared_33 (Nat.le_of_ble_eq_true rfl) rfl ?_
    refine hv_aload_n 2 dX2_squared_35 rfl rfl ?_
    refine hv_lload 1 dX2_squared_36 rfl ?_
    refine hv_lload 1 dX2_squared_38 rfl ?_
    obtain ⟨s21, e_s21, h⟩ := hq_ob h
    obtain ⟨g22, h⟩ := hq_gd h
    refine hv_callV [.long x19, .long x19] [] [] (wk_xActs_left e_s21) cs_X2_72 g22 rfl ⟨Nat.le_of_ble_eq_true rfl, Nat.le_of_ble_eq_true rfl⟩ rfl (Nat.le_of_ble_eq_true rfl) rfl dX2_squared_40 ?_
    refine hv_aload_n 2 dX2_squared_43 rfl rfl ?_
    obtain ⟨s23, e_s23, h⟩ := hq_ob h
    obtain ⟨g24, h⟩ := hq_gd h
    refine hv_callV [] [] [] (wk_xActs_begin e_s23) cs_X2_59 g24 rfl ⟨Nat.le_of_ble_eq_true rfl, Nat.le_of_ble_eq_true rfl⟩ rfl (Nat.le_of_ble_eq_true rfl) rfl dX2_squared_44 ?_
    refine hv_aload_n 2 dX2_squared_47 rfl rfl ?_
    refine hv_lload 1 dX2_squared_48 rfl ?_
    refine hv_lload 1 dX2_squared_50 rfl ?_
    refine hv_lmul dX2_squared_52 ?_
    refine hv_lload 1 dX2_squared_53 rfl ?_
    refine hv_lload 1 dX2_squared_55 rfl ?_
    refine hv_lmul dX2_squared_57 ?_
    obtain ⟨x25, e_x25, h⟩ := hq_ob h
    refine hv_callSN [.long (x19 * x19)] [.long (x19 * x19), .ref th] [.int x25, .long (x19 * x19), .ref th] (wk_x_sizeOf e_x25) cs_X2_96 rfl ⟨Nat.le_of_ble_eq_true rfl, Nat.le_of_ble_eq_true rfl⟩ rfl (Nat.le_of_ble_eq_true rfl) rfl dX2_squared_58 ?_
    obtain ⟨s26, e_s26, h⟩ := hq_ob h
    obtain ⟨g27, h⟩ := hq_gd h
    refine hv_callV [.long (x19 * x19), .int x25] [] [] (wk_xActs_hold e_s26) cs_X2_123 g27 rfl ⟨Nat.le_of_ble_eq_true rfl, Nat.le_of_ble_eq_true rfl⟩ rfl (Nat.le_of_ble_eq_true rfl) rfl dX2_squared_61 ?_
    refine hv_lload 0 dX2_squared_64 rfl ?_
    refine hv_lconst (v := 0) dX2_squared_66 (by decide) ?_
    refine hv_lcmp_le (tgt := 79) dX2_squared_67 dX2_squared_68 (by decide) (fun c28 => ?_) (fun c28 => ?_)
    · replace h := hq_ip c28 h
      refine hv_sub [2, 1, 0] rfl ?_
      exact wk79 _ _ _ h
    · replace h := hq_in c28 h
      refine hv_aload_n 2 dX2_squared_71 rfl rfl ?_
      refine hv_lload 0 dX2_squared_72 rfl ?_
      refine hv_lload 0 dX2_squared_74 rfl ?_
      obtain ⟨s29, e_s29, h⟩ := hq_ob h
      obtain ⟨g30, h⟩ := hq_gd h
      refine hv_callV [.long x20, .long x20] [] [] (wk_xActs_left e_s29) cs_X2_72 g30 rfl ⟨Nat.le_of_ble_eq_true rfl, Nat.le_of_ble_eq_true rfl⟩ rfl (Nat.le_of_ble_eq_true rfl) rfl dX2_squared_76 ?_
      refine hv_sub [2, 1, 0] rfl ?_
      exact wk79 _ _ _ h
  · replace h := hq_in c18 h
    refine hv_iconst (v := 0) dX2_squared_12 (by decide) ?_
    obtain ⟨h1, h2⟩ := hq_ret h
    subst h1
    subst h2
    exact hv_zret (ty := .boolean) rfl rfl dX2_squared_13
def xActs_split_L12b (th : Nat) (p1 : Int64) (p2 : Int64) (e0 : Int64 → hk_St → Option (Int32 × hk_St)) (rc : Int64 → hk_St → Option (Int32 × hk_St)) (v6 : Int64) (s7 : hk_St) : Option (Int32 × hk_St) :=
  if v6 ≤ (1 : Int64) then
    e0 v6 s7
  else
  hk_gd (decide (¬ v6 = 0)) <|
  if (p2 - p2 / v6 * v6) = (0 : Int64) then
    if p2 = v6 then
    hk_nm (v6 - (1 : Int64)) fun x15 =>
  rc x15 s7
  else
  e0 v6 s7
  else
  hk_nm (v6 - (1 : Int64)) fun x13 =>
    rc x13 s7
def xActs_split_L12 (th : Nat) (p1 : Int64) (p2 : Int64) (e0 : Int64 → hk_St → Option (Int32 × hk_St)) : Nat → Int64 → hk_St → Option (Int32 × hk_St)
  | 0 => fun _ _ => none
  | n + 1 => xActs_split_L12b th p1 p2 e0 (xActs_split_L12 th p1 p2 e0 n)
def xActs_split (th : Nat) (p1 : Int64) (p2 : Int64) (s0 : hk_St) : Option (Int32 × hk_St) :=
  (hk_gR [2] 213 s0 th).bind fun x1 =>
  hk_nn x1 fun a2 =>
  (hk_gR [3] 300 s0 a2).bind fun x3 =>
  hk_nn x3 fun a4 =>
  (hk_lI 0 s0 a4 (3 : Int32)).bind fun x5 =>
  xActs_split_L12 th p1 p2  (fun (v8 : Int64) (s9 : hk_St) =>
    if (2 : Int64) ≤ v8 then
      (xActs_left th p1 v8 s9).bind fun s17 =>
      hk_gd (hk_bf [2] s9 th) <|
      (xActs_begin th s17).bind fun s19 =>
      hk_gd (hk_bf [2] s17 th) <|
      (x_sizeOf (p1 * v8)).bind fun x21 =>
      (xActs_hold th (p1 * v8) x21 s19).bind fun s22 =>
      hk_gd (hk_bf [2] s19 th) <|
      hk_gd (decide (¬ v8 = 0)) <|
      (xActs_left th (p1 * v8) (p2 / v8) s22).bind fun s25 =>
      hk_gd (hk_bf [2] s22 th) <|
      some ((1 : Int32), s25)
    else
    some ((0 : Int32), s9)) hk_F x5.toInt64 s0
abbrev N_xActs_split (l : Launch) : hk_N := (l, cX2_split, "HeadReckons$Acts", 7, (some .boolean), 4, 106, false)
set_option maxHeartbeats 4000000 in
theorem wk_xActs_split_L12b {l : Launch} {Gd : hk_G} {th : Nat} {p1 : Int64} {p2 : Int64} {s0 : hk_St} {r : Int32} {fin : hk_St} {e0 : Int64 → hk_St → Option (Int32 × hk_St)} {rc : Int64 → hk_St → Option (Int32 × hk_St)} (hrc : ∀ (v6 : Int64) (s7 : hk_St), rc v6 s7 = some (r, fin) → hk_V Gd (N_xActs_split l) (hk_end Gd s0 (some (.int r)) fin) 12 [(0, .ref th), (1, .long p1), (3, .long p2), (5, .long v6)] [] s7) (he0 : ∀ (v8 : Int64) (s9 : hk_St), e0 v8 s9 = some (r, fin) → hk_V Gd (N_xActs_split l) (hk_end Gd s0 (some (.int r)) fin) 44 [(0, .ref th), (1, .long p1), (3, .long p2), (5, .long v8)] [] s9) {v6 : Int64} {s7 : hk_St} (h : xActs_split_L12b th p1 p2 e0 rc v6 s7 = some (r, fin)) : hk_V Gd (N_xActs_split l) (hk_end Gd s0 (some (.int r)) fin) 12 [(0, .ref th), (1, .long p1), (3, .long p2), (5, .long v6)] [] s7 := by
  unfold xActs_split_L12b at h
  refine hv_lload 3 dX2_split_12 rfl ?_
  refine hv_lconst (v := 1) dX2_split_14 (by decide) ?_
  refine hv_lcmp_le (tgt := 44) dX2_split_15 dX2_split_16 (by decide) (fun c10 => ?_) (fun c10 => ?_)
  · replace h := hq_ip c10 h
    exact he0 _ _ h
  · replace h := hq_in c10 h
    refine hv_lload_n 2 dX2_split_19 rfl rfl ?_
    refine hv_lload 3 dX2_split_20 rfl ?_
    obtain ⟨g11, h⟩ := hq_gd h
    refine hv_lrem (of_decide_eq_true g11) dX2_split_22 ?_
    refine hv_lconst (v := 0) dX2_split_23 (by decide) ?_
    refine hv_lcmp_ne (tgt := 35) dX2_split_24 dX2_split_25 (by decide) (fun c12 => ?_) (fun c12 => ?_)
    · replace h := hq_in c12 h
      refine hv_lload 3 dX2_split_35 rfl ?_
      refine hv_lconst (v := 1) dX2_split_37 (by decide) ?_
      refine hv_lsub dX2_split_38 ?_
      obtain ⟨x13, e_x13, h⟩ := hq_nm h
      rw [← e_x13]
      refine hv_lstore (L' := [(5, .long x13), (0, .ref th), (1, .long p1), (3, .long p2)]) dX2_split_39 (Nat.le_of_ble_eq_true rfl) rfl ?_
      refine hv_goto (tgt := 12) dX2_split_41 (by decide) ?_
      refine hv_sub [1, 2, 3, 0] rfl ?_
      exact hrc _ _ h
    · replace h := hq_ip c12 h
      refine hv_lload_n 2 dX2_split_28 rfl rfl ?_
      refine hv_lload 3 dX2_split_29 rfl ?_
      refine hv_lcmp_ne (tgt := 44) dX2_split_31 dX2_split_32 (by decide) (fun c14 => ?_) (fun c14 => ?_)
      · replace h := hq_in c14 h
        exact he0 _ _ h
      · replace h := hq_ip c14 h
        refine hv_lload 3 dX2_split_35 rfl ?_
        refine hv_lconst (v := 1) dX2_split_37 (by decide) ?_
        refine hv_lsub dX2_split_38 ?_
        obtain ⟨x15, e_x15, h⟩ := hq_nm h
        rw [← e_x15]
        refine hv_lstore (L' := [(5, .long x15), (0, .ref th), (1, .long p1), (3, .long p2)]) dX2_split_39 (Nat.le_of_ble_eq_true rfl) rfl ?_
        refine hv_goto (tgt := 12) dX2_split_41 (by decide) ?_
        refine hv_sub [1, 2, 3, 0] rfl ?_
        exact hrc _ _ h
theorem wk_xActs_split_L12 {l : Launch} {Gd : hk_G} {th : Nat} {p1 : Int64} {p2 : Int64} {s0 : hk_St} {r : Int32} {fin : hk_St} {e0 : Int64 → hk_St → Option (Int32 × hk_St)} (he0 : ∀ (v8 : Int64) (s9 : hk_St), e0 v8 s9 = some (r, fin) → hk_V Gd (N_xActs_split l) (hk_end Gd s0 (some (.int r)) fin) 44 [(0, .ref th), (1, .long p1), (3, .long p2), (5, .long v8)] [] s9) : ∀ (n : Nat) (v6 : Int64) (s7 : hk_St), xActs_split_L12 th p1 p2 e0 n v6 s7 = some (r, fin) → hk_V Gd (N_xActs_split l) (hk_end Gd s0 (some (.int r)) fin) 12 [(0, .ref th), (1, .long p1), (3, .long p2), (5, .long v6)] [] s7 := by
  intro n
  induction n with
  | zero => intro v6 s7 h; cases h
  | succ n ih => intro v6 s7 h; exact wk_xActs_split_L12b  ih he0 h
set_option maxHeartbeats 4000000 in
theorem wk_xActs_split {l : Launch} {Gd : hk_G} {th : Nat} {p1 : Int64} {p2 : Int64} {s0 : hk_St} {r : Int32} {fin : hk_St} (h : xActs_split th p1 p2 s0 = some (r, fin)) : hk_Met Gd l yX2_split cX2_split 7 (some .boolean) 4 106 [.ref th, .long p1, .long p2] s0 (some (.int r)) fin := by
  refine hk_start "HeadReckons$Acts" false (by decide +kernel) rfl (by decide) (Nat.le_of_ble_eq_true rfl) ?_
  show hk_V Gd (N_xActs_split l) (hk_end Gd s0 (some (.int r)) fin) 0 [(0, .ref th), (1, .long p1), (3, .long p2)] [] s0
  unfold xActs_split at h
  refine hv_aload_n 0 dX2_split_0 rfl rfl ?_
  obtain ⟨x1, e_x1, h⟩ := hq_ob h
  refine hv_getR fl_X2_38 e_x1 dX2_split_1 ?_
  obtain ⟨a2, e_a2, h⟩ := hq_nn h
  rw [e_a2]
  obtain ⟨x3, e_x3, h⟩ := hq_ob h
  refine hv_getR fl_X2_106 e_x3 dX2_split_4 ?_
  refine hv_iconst (v := 3) dX2_split_7 (by decide) ?_
  obtain ⟨a4, e_a4, h⟩ := hq_nn h
  rw [e_a4]
  obtain ⟨x5, e_x5, h⟩ := hq_ob h
  refine hv_iald e_x5 dX2_split_8 ?_
  refine hv_i2l dX2_split_9 ?_
  refine hv_lstore (L' := [(5, .long x5.toInt64), (0, .ref th), (1, .long p1), (3, .long p2)]) dX2_split_10 (Nat.le_of_ble_eq_true rfl) rfl ?_
  refine hv_sub [1, 2, 3, 0] rfl ?_
  refine wk_xActs_split_L12  ?_ hk_F _ _ h
  · intro v8 s9 h
    refine hv_lload 3 dX2_split_44 rfl ?_
    refine hv_ldc2 q704 dX2_split_46 ?_
    refine hv_lcmp_ge (tgt := 55) dX2_split_49 dX2_split_50 (by decide) (fun c16 => ?_) (fun c16 => ?_)
    · replace h := hq_ip c16 h
      refine hv_aload_n 0 dX2_split_55 rfl rfl ?_
      refine hv_lload_n 1 dX2_split_56 rfl rfl ?_
      refine hv_lload 3 dX2_split_57 rfl ?_
      obtain ⟨s17, e_s17, h⟩ := hq_ob h
      obtain ⟨g18, h⟩ := hq_gd h
      refine hv_callV [.long p1, .long v8] [] [] (wk_xActs_left e_s17) cs_X2_72 g18 rfl ⟨Nat.le_of_ble_eq_true rfl, Nat.le_of_ble_eq_true rfl⟩ rfl (Nat.le_of_ble_eq_true rfl) rfl dX2_split_59 ?_
      refine hv_aload_n 0 dX2_split_62 rfl rfl ?_
      obtain ⟨s19, e_s19, h⟩ := hq_ob h
      obtain ⟨g20, h⟩ := hq_gd h
      refine hv_callV [] [] [] (wk_xActs_begin e_s19) cs_X2_59 g20 rfl ⟨Nat.le_of_ble_eq_true rfl, Nat.le_of_ble_eq_true rfl⟩ rfl (Nat.le_of_ble_eq_true rfl) rfl dX2_split_63 ?_
      refine hv_aload_n 0 dX2_split_66 rfl rfl ?_
      refine hv_lload_n 1 dX2_split_67 rfl rfl ?_
      refine hv_lload 3 dX2_split_68 rfl ?_
      refine hv_lmul dX2_split_70 ?_
      refine hv_lload_n 1 dX2_split_71 rfl rfl ?_
      refine hv_lload 3 dX2_split_72 rfl ?_
      refine hv_lmul dX2_split_74 ?_
      obtain ⟨x21, e_x21, h⟩ := hq_ob h
      refine hv_callSN [.long (p1 * v8)] [.long (p1 * v8), .ref th] [.int x21, .long (p1 * v8), .ref th] (wk_x_sizeOf e_x21) cs_X2_96 rfl ⟨Nat.le_of_ble_eq_true rfl, Nat.le_of_ble_eq_true rfl⟩ rfl (Nat.le_of_ble_eq_true rfl) rfl dX2_split_75 ?_
      obtain ⟨s22, e_s22, h⟩ := hq_ob h
      obtain ⟨g23, h⟩ := hq_gd h
      refine hv_callV [.long (p1 * v8), .int x21] [] [] (wk_xActs_hold e_s22) cs_X2_123 g23 rfl ⟨Nat.le_of_ble_eq_true rfl, Nat.le_of_ble_eq_true rfl⟩ rfl (Nat.le_of_ble_eq_true rfl) rfl dX2_split_78 ?_
      refine hv_aload_n 0 dX2_split_81 rfl rfl ?_
      refine hv_lload_n 1 dX2_split_82 rfl rfl ?_
      refine hv_lload 3 dX2_split_83 rfl ?_
      refine hv_lmul dX2_split_85 ?_
      refine hv_lload_n 2 dX2_split_86 rfl rfl ?_
      refine hv_lload 3 dX2_split_87 rfl ?_
      obtain ⟨g24, h⟩ := hq_gd h
      refine hv_ldiv (of_decide_eq_true g24) dX2_split_89 ?_
      obtain ⟨s25, e_s25, h⟩ := hq_ob h
      obtain ⟨g26, h⟩ := hq_gd h
      refine hv_callV [.long (p1 * v8), .long (p2 / v8)] [] [] (wk_xActs_left e_s25) cs_X2_72 g26 rfl ⟨Nat.le_of_ble_eq_true rfl, Nat.le_of_ble_eq_true rfl⟩ rfl (Nat.le_of_ble_eq_true rfl) rfl dX2_split_90 ?_
      refine hv_iconst (v := 1) dX2_split_93 (by decide) ?_
      obtain ⟨h1, h2⟩ := hq_ret h
      subst h1
      subst h2
      exact hv_zret (ty := .boolean) rfl rfl dX2_split_94
    · replace h := hq_in c16 h
      refine hv_iconst (v := 0) dX2_split_53 (by decide) ?_
      obtain ⟨h1, h2⟩ := hq_ret h
      subst h1
      subst h2
      exact hv_zret (ty := .boolean) rfl rfl dX2_split_54
def xActs_lay (th : Nat) (p1 : Nat) (p2 : Int32) (p3 : Int32) (p4 : Int32) (s0 : hk_St) : Option (Int32 × hk_St) :=
  (hk_pR [2] 213 s0 th (some p1)).bind fun s1 =>
  (hk_pI [2] 206 s1 th (0 : Int32)).bind fun s2 =>
  (hk_pI [2] 207 s2 th (0 : Int32)).bind fun s3 =>
  (hk_pI [2] 208 s3 th (0 : Int32)).bind fun s4 =>
  (hk_pI [2] 209 s4 th (0 : Int32)).bind fun s5 =>
  (hk_pL [2] 211 s5 th (1 : Int64)).bind fun s6 =>
  (xActs_begin th s6).bind fun s7 =>
  hk_gd (hk_bf [2] s6 th) <|
  if p2 = 0 then
    (xHead_knows p1 p3 p4 s7).bind fun x9 =>
    hk_gd (hk_bf [3] s7 p1) <|
    if x9 = 0 then
      some ((0 : Int32), s7)
    else
    (xActs_look th p3.toInt64 p4.toInt64 (1 : Int64) s7).bind fun s12 =>
      hk_gd (hk_bf [2] s7 th) <|
      some ((1 : Int32), s12)
  else
  if p2 = 1 then
    (xActs_left th p3.toInt64 p4.toInt64 s7).bind fun s15 =>
    hk_gd (hk_bf [2] s7 th) <|
    some ((1 : Int32), s15)
  else
  if p2 = 2 then
    (xActs_right th p3.toInt64 p4.toInt64 s7).bind fun s18 =>
    hk_gd (hk_bf [2] s7 th) <|
    some ((1 : Int32), s18)
  else
  if p2 = 3 then
    (xActs_crossed th p3.toInt64 p4.toInt64 s7).bind fun s21 =>
    hk_gd (hk_bf [2] s7 th) <|
    some ((1 : Int32), s21)
  else
  if p2 = 4 then
    (xActs_squared th p3.toInt64 p4.toInt64 s7).bind fun q24 =>
    hk_gd (hk_bf [2] s7 th) <|
    hk_gd (decide (q24.1 &&& 1 = q24.1)) <| some (q24.1, q24.2)
  else
  if p2 = 5 then
    (xActs_split th p3.toInt64 p4.toInt64 s7).bind fun q28 =>
    hk_gd (hk_bf [2] s7 th) <|
    hk_gd (decide (q28.1 &&& 1 = q28.1)) <| some (q28.1, q28.2)
  else
  (xActs_right th p4.toInt64 p3.toInt64 s7).bind fun s32 =>
  hk_gd (hk_bf [2] s7 th) <|
  some ((1 : Int32), s32)
abbrev N_xActs_lay (l : Launch) : hk_N := (l, cX2_lay, "HeadReckons$Acts", 5, (some .boolean), 5, 135, false)
set_option maxHeartbeats 4000000 in
theorem wk_xActs_lay {l : Launch} {Gd : hk_G} {th : Nat} {p1 : Nat} {p2 : Int32} {p3 : Int32} {p4 : Int32} {s0 : hk_St} {r : Int32} {fin : hk_St} (h : xActs_lay th p1 p2 p3 p4 s0 = some (r, fin)) : hk_Met Gd l yX2_lay cX2_lay 5 (some .boolean) 5 135 [.ref th, .ref p1, .int p2, .int p3, .int p4] s0 (some (.int r)) fin := by
  refine hk_start "HeadReckons$Acts" false (by decide +kernel) rfl (by decide) (Nat.le_of_ble_eq_true rfl) ?_
  show hk_V Gd (N_xActs_lay l) (hk_end Gd s0 (some (.int r)) fin) 0 [(0, .ref th), (1, .ref p1), (2, .int p2), (3, .int p3), (4, .int p4)] [] s0
  unfold xActs_lay at h
  refine hv_aload_n 0 dX2_lay_0 rfl rfl ?_
  refine hv_aload_n 1 dX2_lay_1 rfl rfl ?_
  obtain ⟨s1, e_s1, h⟩ := hq_ob h
  refine hv_putR fp_X2_38 e_s1 (fun q => by cases q) dX2_lay_2 ?_
  refine hv_aload_n 0 dX2_lay_5 rfl rfl ?_
  refine hv_iconst (v := 0) dX2_lay_6 (by decide) ?_
  obtain ⟨s2, e_s2, h⟩ := hq_ob h
  refine hv_putI fp_X2_42 e_s2 (fun q => by cases q) dX2_lay_7 ?_
  refine hv_aload_n 0 dX2_lay_10 rfl rfl ?_
  refine hv_iconst (v := 0) dX2_lay_11 (by decide) ?_
  obtain ⟨s3, e_s3, h⟩ := hq_ob h
  refine hv_putI fp_X2_46 e_s3 (fun q => by cases q) dX2_lay_12 ?_
  refine hv_aload_n 0 dX2_lay_15 rfl rfl ?_
  refine hv_iconst (v := 0) dX2_lay_16 (by decide) ?_
  obtain ⟨s4, e_s4, h⟩ := hq_ob h
  refine hv_putI fp_X2_49 e_s4 (fun q => by cases q) dX2_lay_17 ?_
  refine hv_aload_n 0 dX2_lay_20 rfl rfl ?_
  refine hv_iconst (v := 0) dX2_lay_21 (by decide) ?_
  obtain ⟨s5, e_s5, h⟩ := hq_ob h
  refine hv_putI fp_X2_52 e_s5 (fun q => by cases q) dX2_lay_22 ?_
  refine hv_aload_n 0 dX2_lay_25 rfl rfl ?_
  refine hv_lconst (v := 1) dX2_lay_26 (by decide) ?_
  obtain ⟨s6, e_s6, h⟩ := hq_ob h
  refine hv_putL fp_X2_55 e_s6 (fun q => by cases q) dX2_lay_27 ?_
  refine hv_aload_n 0 dX2_lay_30 rfl rfl ?_
  obtain ⟨s7, e_s7, h⟩ := hq_ob h
  obtain ⟨g8, h⟩ := hq_gd h
  refine hv_callV [] [] [] (wk_xActs_begin e_s7) cs_X2_59 g8 rfl ⟨Nat.le_of_ble_eq_true rfl, Nat.le_of_ble_eq_true rfl⟩ rfl (Nat.le_of_ble_eq_true rfl) rfl dX2_lay_31 ?_
  refine hv_iload_n 2 dX2_lay_34 rfl rfl ?_
  by_cases c14 : p2 = 0
  · replace h := hq_ip c14 h
    refine hv_tableIn (tgt := 72) (off := 37) dX2_lay_35 (by rw [c14]; decide) (by rw [c14]; decide) (by rw [c14]; rfl) (by decide) ?_
    refine hv_aload_n 1 dX2_lay_72 rfl rfl ?_
    refine hv_iload_n 3 dX2_lay_73 rfl rfl ?_
    refine hv_iload 4 dX2_lay_74 rfl ?_
    obtain ⟨x9, e_x9, h⟩ := hq_ob h
    obtain ⟨g10, h⟩ := hq_gd h
    refine hv_callV [.int p3, .int p4] [] [.int x9] (wk_xHead_knows e_x9) cs_X2_62 g10 rfl ⟨Nat.le_of_ble_eq_true rfl, Nat.le_of_ble_eq_true rfl⟩ rfl (Nat.le_of_ble_eq_true rfl) rfl dX2_lay_76 ?_
    refine hv_if_ne (tgt := 84) dX2_lay_79 (by decide) (fun c11 => ?_) (fun c11 => ?_)
    · replace h := hq_in c11 h
      refine hv_aload_n 0 dX2_lay_84 rfl rfl ?_
      refine hv_iload_n 3 dX2_lay_85 rfl rfl ?_
      refine hv_i2l dX2_lay_86 ?_
      refine hv_iload 4 dX2_lay_87 rfl ?_
      refine hv_i2l dX2_lay_89 ?_
      refine hv_lconst (v := 1) dX2_lay_90 (by decide) ?_
      obtain ⟨s12, e_s12, h⟩ := hq_ob h
      obtain ⟨g13, h⟩ := hq_gd h
      refine hv_callV [.long p3.toInt64, .long p4.toInt64, .long (1 : Int64)] [] [] (wk_xActs_look e_s12) cs_X2_68 g13 rfl ⟨Nat.le_of_ble_eq_true rfl, Nat.le_of_ble_eq_true rfl⟩ rfl (Nat.le_of_ble_eq_true rfl) rfl dX2_lay_91 ?_
      refine hv_iconst (v := 1) dX2_lay_94 (by decide) ?_
      obtain ⟨h1, h2⟩ := hq_ret h
      subst h1
      subst h2
      exact hv_zret (ty := .boolean) rfl rfl dX2_lay_95
    · replace h := hq_ip c11 h
      refine hv_iconst (v := 0) dX2_lay_82 (by decide) ?_
      obtain ⟨h1, h2⟩ := hq_ret h
      subst h1
      subst h2
      exact hv_zret (ty := .boolean) rfl rfl dX2_lay_83
  replace h := hq_in c14 h
  by_cases c17 : p2 = 1
  · replace h := hq_ip c17 h
    refine hv_tableIn (tgt := 96) (off := 61) dX2_lay_35 (by rw [c17]; decide) (by rw [c17]; decide) (by rw [c17]; rfl) (by decide) ?_
    refine hv_aload_n 0 dX2_lay_96 rfl rfl ?_
    refine hv_iload_n 3 dX2_lay_97 rfl rfl ?_
    refine hv_i2l dX2_lay_98 ?_
    refine hv_iload 4 dX2_lay_99 rfl ?_
    refine hv_i2l dX2_lay_101 ?_
    obtain ⟨s15, e_s15, h⟩ := hq_ob h
    obtain ⟨g16, h⟩ := hq_gd h
    refine hv_callV [.long p3.toInt64, .long p4.toInt64] [] [] (wk_xActs_left e_s15) cs_X2_72 g16 rfl ⟨Nat.le_of_ble_eq_true rfl, Nat.le_of_ble_eq_true rfl⟩ rfl (Nat.le_of_ble_eq_true rfl) rfl dX2_lay_102 ?_
    refine hv_iconst (v := 1) dX2_lay_105 (by decide) ?_
    obtain ⟨h1, h2⟩ := hq_ret h
    subst h1
    subst h2
    exact hv_zret (ty := .boolean) rfl rfl dX2_lay_106
  replace h := hq_in c17 h
  by_cases c20 : p2 = 2
  · replace h := hq_ip c20 h
    refine hv_tableIn (tgt := 107) (off := 72) dX2_lay_35 (by rw [c20]; decide) (by rw [c20]; decide) (by rw [c20]; rfl) (by decide) ?_
    refine hv_aload_n 0 dX2_lay_107 rfl rfl ?_
    refine hv_iload_n 3 dX2_lay_108 rfl rfl ?_
    refine hv_i2l dX2_lay_109 ?_
    refine hv_iload 4 dX2_lay_110 rfl ?_
    refine hv_i2l dX2_lay_112 ?_
    obtain ⟨s18, e_s18, h⟩ := hq_ob h
    obtain ⟨g19, h⟩ := hq_gd h
    refine hv_callV [.long p3.toInt64, .long p4.toInt64] [] [] (wk_xActs_right e_s18) cs_X2_76 g19 rfl ⟨Nat.le_of_ble_eq_true rfl, Nat.le_of_ble_eq_true rfl⟩ rfl (Nat.le_of_ble_eq_true rfl) rfl dX2_lay_113 ?_
    refine hv_iconst (v := 1) dX2_lay_116 (by decide) ?_
    obtain ⟨h1, h2⟩ := hq_ret h
    subst h1
    subst h2
    exact hv_zret (ty := .boolean) rfl rfl dX2_lay_117
  replace h := hq_in c20 h
  by_cases c23 : p2 = 3
  · replace h := hq_ip c23 h
    refine hv_tableIn (tgt := 118) (off := 83) dX2_lay_35 (by rw [c23]; decide) (by rw [c23]; decide) (by rw [c23]; rfl) (by decide) ?_
    refine hv_aload_n 0 dX2_lay_118 rfl rfl ?_
    refine hv_iload_n 3 dX2_lay_119 rfl rfl ?_
    refine hv_i2l dX2_lay_120 ?_
    refine hv_iload 4 dX2_lay_121 rfl ?_
    refine hv_i2l dX2_lay_123 ?_
    obtain ⟨s21, e_s21, h⟩ := hq_ob h
    obtain ⟨g22, h⟩ := hq_gd h
    refine hv_callV [.long p3.toInt64, .long p4.toInt64] [] [] (wk_xActs_crossed e_s21) cs_X2_79 g22 rfl ⟨Nat.le_of_ble_eq_true rfl, Nat.le_of_ble_eq_true rfl⟩ rfl (Nat.le_of_ble_eq_true rfl) rfl dX2_lay_124 ?_
    refine hv_iconst (v := 1) dX2_lay_127 (by decide) ?_
    obtain ⟨h1, h2⟩ := hq_ret h
    subst h1
    subst h2
    exact hv_zret (ty := .boolean) rfl rfl dX2_lay_128
  replace h := hq_in c23 h
  by_cases c27 : p2 = 4
  · replace h := hq_ip c27 h
    refine hv_tableIn (tgt := 129) (off := 94) dX2_lay_35 (by rw [c27]; decide) (by rw [c27]; decide) (by rw [c27]; rfl) (by decide) ?_
    refine hv_aload_n 0 dX2_lay_129 rfl rfl ?_
    refine hv_iload_n 3 dX2_lay_130 rfl rfl ?_
    refine hv_i2l dX2_lay_131 ?_
    refine hv_iload 4 dX2_lay_132 rfl ?_
    refine hv_i2l dX2_lay_134 ?_
    obtain ⟨q24, e_q24, h⟩ := hq_ob h
    obtain ⟨g25, h⟩ := hq_gd h
    refine hv_callV [.long p3.toInt64, .long p4.toInt64] [] [.int q24.1] (wk_xActs_squared e_q24) cs_X2_82 g25 rfl ⟨Nat.le_of_ble_eq_true rfl, Nat.le_of_ble_eq_true rfl⟩ rfl (Nat.le_of_ble_eq_true rfl) rfl dX2_lay_135 ?_
    obtain ⟨g26, h⟩ := hq_gd h
    obtain ⟨h1, h2⟩ := hq_ret h
    subst h1
    subst h2
    exact hv_zret (ty := .boolean) rfl (hk_nz (of_decide_eq_true g26)) dX2_lay_138
  replace h := hq_in c27 h
  by_cases c31 : p2 = 5
  · replace h := hq_ip c31 h
    refine hv_tableIn (tgt := 139) (off := 104) dX2_lay_35 (by rw [c31]; decide) (by rw [c31]; decide) (by rw [c31]; rfl) (by decide) ?_
    refine hv_aload_n 0 dX2_lay_139 rfl rfl ?_
    refine hv_iload_n 3 dX2_lay_140 rfl rfl ?_
    refine hv_i2l dX2_lay_141 ?_
    refine hv_iload 4 dX2_lay_142 rfl ?_
    refine hv_i2l dX2_lay_144 ?_
    obtain ⟨q28, e_q28, h⟩ := hq_ob h
    obtain ⟨g29, h⟩ := hq_gd h
    refine hv_callV [.long p3.toInt64, .long p4.toInt64] [] [.int q28.1] (wk_xActs_split e_q28) cs_X2_86 g29 rfl ⟨Nat.le_of_ble_eq_true rfl, Nat.le_of_ble_eq_true rfl⟩ rfl (Nat.le_of_ble_eq_true rfl) rfl dX2_lay_145 ?_
    obtain ⟨g30, h⟩ := hq_gd h
    obtain ⟨h1, h2⟩ := hq_ret h
    subst h1
    subst h2
    exact hv_zret (ty := .boolean) rfl (hk_nz (of_decide_eq_true g30)) dX2_lay_148
  replace h := hq_in c31 h
  refine hv_tableD (tgt := 149) [0, 1, 2, 3, 4, 5] dX2_lay_35 (by decide) (by decide) (List.forall_mem_cons.mpr ⟨lv_neT c14 (by decide), (List.forall_mem_cons.mpr ⟨lv_neT c17 (by decide), (List.forall_mem_cons.mpr ⟨lv_neT c20 (by decide), (List.forall_mem_cons.mpr ⟨lv_neT c23 (by decide), (List.forall_mem_cons.mpr ⟨lv_neT c27 (by decide), (List.forall_mem_cons.mpr ⟨lv_neT c31 (by decide), (fun _ q => absurd q List.not_mem_nil)⟩)⟩)⟩)⟩)⟩)⟩) (by decide) ?_
  refine hv_aload_n 0 dX2_lay_149 rfl rfl ?_
  refine hv_iload 4 dX2_lay_150 rfl ?_
  refine hv_i2l dX2_lay_152 ?_
  refine hv_iload_n 3 dX2_lay_153 rfl rfl ?_
  refine hv_i2l dX2_lay_154 ?_
  obtain ⟨s32, e_s32, h⟩ := hq_ob h
  obtain ⟨g33, h⟩ := hq_gd h
  refine hv_callV [.long p4.toInt64, .long p3.toInt64] [] [] (wk_xActs_right e_s32) cs_X2_76 g33 rfl ⟨Nat.le_of_ble_eq_true rfl, Nat.le_of_ble_eq_true rfl⟩ rfl (Nat.le_of_ble_eq_true rfl) rfl dX2_lay_155 ?_
  refine hv_iconst (v := 1) dX2_lay_158 (by decide) ?_
  obtain ⟨h1, h2⟩ := hq_ret h
  subst h1
  subst h2
  exact hv_zret (ty := .boolean) rfl rfl dX2_lay_159
def x_lays (th : Nat) (p1 : Int32) (p2 : Int32) (s0 : hk_St) : Option (Int32 × hk_St) :=
  (hk_gR [0] 9 s0 th).bind fun x1 =>
  (hk_gR [0] 2 s0 th).bind fun x2 =>
  hk_nn x2 fun a3 =>
  (hk_lR 6 s0 a3 (p1 / (10 : Int32))).bind fun x4 =>
  hk_nn x1 fun a5 =>
  hk_nn x4 fun a6 =>
  (xActs_lay a5 a6 (p1 - p1 / (10 : Int32) * (10 : Int32)) (p2 / (10000 : Int32)) (p2 - p2 / (10000 : Int32) * (10000 : Int32)) s0).bind fun q7 =>
  hk_gd (hk_bf [2] s0 a5) <|
  hk_gd (decide (q7.1 &&& 1 = q7.1)) <| some (q7.1, q7.2)
abbrev N_x_lays (l : Launch) : hk_N := (l, cX0_lays, "HeadReckons", 3, (some .boolean), 6, 159, false)
set_option maxHeartbeats 4000000 in
theorem wk_x_lays {l : Launch} {Gd : hk_G} {th : Nat} {p1 : Int32} {p2 : Int32} {s0 : hk_St} {r : Int32} {fin : hk_St} (h : x_lays th p1 p2 s0 = some (r, fin)) : hk_Met Gd l yX0_lays cX0_lays 3 (some .boolean) 6 159 [.ref th, .int p1, .int p2] s0 (some (.int r)) fin := by
  refine hk_start "HeadReckons" false (by decide +kernel) rfl (by decide) (Nat.le_of_ble_eq_true rfl) ?_
  show hk_V Gd (N_x_lays l) (hk_end Gd s0 (some (.int r)) fin) 0 [(0, .ref th), (1, .int p1), (2, .int p2)] [] s0
  unfold x_lays at h
  refine hv_aload_n 0 dX0_lays_0 rfl rfl ?_
  obtain ⟨x1, e_x1, h⟩ := hq_ob h
  refine hv_getR fl_X0_37 e_x1 dX0_lays_1 ?_
  refine hv_aload_n 0 dX0_lays_4 rfl rfl ?_
  obtain ⟨x2, e_x2, h⟩ := hq_ob h
  refine hv_getR fl_X0_15 e_x2 dX0_lays_5 ?_
  refine hv_iload_n 1 dX0_lays_8 rfl rfl ?_
  refine hv_bipush (v := 10) dX0_lays_9 (by decide) ?_
  refine hv_idiv (by decide) dX0_lays_11 ?_
  obtain ⟨a3, e_a3, h⟩ := hq_nn h
  rw [e_a3]
  obtain ⟨x4, e_x4, h⟩ := hq_ob h
  refine hv_aald (by decide) (by decide) rfl e_x4 dX0_lays_12 ?_
  refine hv_iload_n 1 dX0_lays_13 rfl rfl ?_
  refine hv_bipush (v := 10) dX0_lays_14 (by decide) ?_
  refine hv_irem (by decide) dX0_lays_16 ?_
  refine hv_iload_n 2 dX0_lays_17 rfl rfl ?_
  refine hv_sipush (v := 10000) dX0_lays_18 (by decide) ?_
  refine hv_idiv (by decide) dX0_lays_21 ?_
  refine hv_iload_n 2 dX0_lays_22 rfl rfl ?_
  refine hv_sipush (v := 10000) dX0_lays_23 (by decide) ?_
  refine hv_irem (by decide) dX0_lays_26 ?_
  obtain ⟨a5, e_a5, h⟩ := hq_nn h
  rw [e_a5]
  obtain ⟨a6, e_a6, h⟩ := hq_nn h
  rw [e_a6]
  obtain ⟨q7, e_q7, h⟩ := hq_ob h
  obtain ⟨g8, h⟩ := hq_gd h
  refine hv_callV [.ref a6, .int (p1 - p1 / (10 : Int32) * (10 : Int32)), .int (p2 / (10000 : Int32)), .int (p2 - p2 / (10000 : Int32) * (10000 : Int32))] [] [.int q7.1] (wk_xActs_lay e_q7) cs_X0_150 g8 rfl ⟨Nat.le_of_ble_eq_true rfl, Nat.le_of_ble_eq_true rfl⟩ rfl (Nat.le_of_ble_eq_true rfl) rfl dX0_lays_27 ?_
  obtain ⟨g9, h⟩ := hq_gd h
  obtain ⟨h1, h2⟩ := hq_ret h
  subst h1
  subst h2
  exact hv_zret (ty := .boolean) rfl (hk_nz (of_decide_eq_true g9)) dX0_lays_30
def x_way (th : Nat) (p1 : Int32) (p2 : Int32) (p3 : Int32) (s0 : hk_St) : Option (Int32 × hk_St) :=
  (x_isBy th p1 s0).bind fun x1 =>
  hk_gd (hk_bf [0] s0 th) <|
  if x1 = 0 then
    some ((-1 : Int32), s0)
  else
  if (x_isPair p2) = 0 then
    some ((-1 : Int32), s0)
  else
  if (x_in p3 (0 : Int32) (2 : Int32)) = 0 then
    some ((-1 : Int32), s0)
  else
  (x_lays th p1 p2 s0).bind fun q6 =>
    hk_gd (hk_bf [0] s0 th) <|
    if q6.1 = 0 then
      some ((-2 : Int32), q6.2)
    else
    if p3 = 0 then
        (hk_gR [0] 9 q6.2 th).bind fun x17 =>
      hk_nn x17 fun a18 =>
      (hk_gI [2] 208 q6.2 a18).bind fun x19 =>
      some (x19, q6.2)
      else
      if p3 = (1 : Int32) then
          (hk_gR [0] 9 q6.2 th).bind fun x14 =>
        hk_nn x14 fun a15 =>
        (hk_gI [2] 209 q6.2 a15).bind fun x16 =>
        some (x16, q6.2)
        else
        (hk_gR [0] 9 q6.2 th).bind fun x11 =>
          hk_nn x11 fun a12 =>
          (hk_gI [2] 206 q6.2 a12).bind fun x13 =>
          some (x13, q6.2)
abbrev N_x_way (l : Launch) : hk_N := (l, cX0_way, "HeadReckons", 4, (some .int), 7, 181, false)
set_option maxHeartbeats 4000000 in
theorem wk_x_way {l : Launch} {Gd : hk_G} {th : Nat} {p1 : Int32} {p2 : Int32} {p3 : Int32} {s0 : hk_St} {r : Int32} {fin : hk_St} (h : x_way th p1 p2 p3 s0 = some (r, fin)) : hk_Met Gd l yX0_way cX0_way 4 (some .int) 7 181 [.ref th, .int p1, .int p2, .int p3] s0 (some (.int r)) fin := by
  refine hk_start "HeadReckons" false (by decide +kernel) rfl (by decide) (Nat.le_of_ble_eq_true rfl) ?_
  show hk_V Gd (N_x_way l) (hk_end Gd s0 (some (.int r)) fin) 0 [(0, .ref th), (1, .int p1), (2, .int p2), (3, .int p3)] [] s0
  unfold x_way at h
  refine hv_aload_n 0 dX0_way_0 rfl rfl ?_
  refine hv_iload_n 1 dX0_way_1 rfl rfl ?_
  obtain ⟨x1, e_x1, h⟩ := hq_ob h
  obtain ⟨g2, h⟩ := hq_gd h
  refine hv_callV [.int p1] [] [.int x1] (wk_x_isBy e_x1) cs_X0_154 g2 rfl ⟨Nat.le_of_ble_eq_true rfl, Nat.le_of_ble_eq_true rfl⟩ rfl (Nat.le_of_ble_eq_true rfl) rfl dX0_way_2 ?_
  refine hv_if_eq (tgt := 24) dX0_way_5 (by decide) (fun c3 => ?_) (fun c3 => ?_)
  · replace h := hq_ip c3 h
    refine hv_iconst (v := -1) dX0_way_24 (by decide) ?_
    obtain ⟨h1, h2⟩ := hq_ret h
    subst h1
    subst h2
    exact hv_iret rfl dX0_way_25
  · replace h := hq_in c3 h
    refine hv_iload_n 2 dX0_way_8 rfl rfl ?_
    refine hv_callS [.int p2] [] [.int (x_isPair p2)] (wk_x_isPair rfl) cs_X0_157 rfl ⟨Nat.le_of_ble_eq_true rfl, Nat.le_of_ble_eq_true rfl⟩ rfl (Nat.le_of_ble_eq_true rfl) rfl dX0_way_9 ?_
    refine hv_if_eq (tgt := 24) dX0_way_12 (by decide) (fun c4 => ?_) (fun c4 => ?_)
    · replace h := hq_ip c4 h
      refine hv_iconst (v := -1) dX0_way_24 (by decide) ?_
      obtain ⟨h1, h2⟩ := hq_ret h
      subst h1
      subst h2
      exact hv_iret rfl dX0_way_25
    · replace h := hq_in c4 h
      refine hv_iload_n 3 dX0_way_15 rfl rfl ?_
      refine hv_iconst (v := 0) dX0_way_16 (by decide) ?_
      refine hv_iconst (v := 2) dX0_way_17 (by decide) ?_
      refine hv_callS [.int p3, .int (0 : Int32), .int (2 : Int32)] [] [.int (x_in p3 (0 : Int32) (2 : Int32))] (wk_x_in rfl) cs_X0_73 rfl ⟨Nat.le_of_ble_eq_true rfl, Nat.le_of_ble_eq_true rfl⟩ rfl (Nat.le_of_ble_eq_true rfl) rfl dX0_way_18 ?_
      refine hv_if_ne (tgt := 26) dX0_way_21 (by decide) (fun c5 => ?_) (fun c5 => ?_)
      · replace h := hq_in c5 h
        refine hv_aload_n 0 dX0_way_26 rfl rfl ?_
        refine hv_iload_n 1 dX0_way_27 rfl rfl ?_
        refine hv_iload_n 2 dX0_way_28 rfl rfl ?_
        obtain ⟨q6, e_q6, h⟩ := hq_ob h
        obtain ⟨g7, h⟩ := hq_gd h
        refine hv_callV [.int p1, .int p2] [] [.int q6.1] (wk_x_lays e_q6) cs_X0_160 g7 rfl ⟨Nat.le_of_ble_eq_true rfl, Nat.le_of_ble_eq_true rfl⟩ rfl (Nat.le_of_ble_eq_true rfl) rfl dX0_way_29 ?_
        refine hv_if_ne (tgt := 38) dX0_way_32 (by decide) (fun c8 => ?_) (fun c8 => ?_)
        · replace h := hq_in c8 h
          refine hv_iload_n 3 dX0_way_38 rfl rfl ?_
          refine hv_if_ne (tgt := 52) dX0_way_39 (by decide) (fun c9 => ?_) (fun c9 => ?_)
          · replace h := hq_in c9 h
            refine hv_iload_n 3 dX0_way_52 rfl rfl ?_
            refine hv_iconst (v := 1) dX0_way_53 (by decide) ?_
            refine hv_icmp_ne (tgt := 67) dX0_way_54 (by decide) (fun c10 => ?_) (fun c10 => ?_)
            · replace h := hq_in c10 h
              refine hv_aload_n 0 dX0_way_67 rfl rfl ?_
              obtain ⟨x11, e_x11, h⟩ := hq_ob h
              refine hv_getR fl_X0_37 e_x11 dX0_way_68 ?_
              obtain ⟨a12, e_a12, h⟩ := hq_nn h
              rw [e_a12]
              obtain ⟨x13, e_x13, h⟩ := hq_ob h
              refine hv_getI fl_X0_169 e_x13 dX0_way_71 ?_
              obtain ⟨h1, h2⟩ := hq_ret h
              subst h1
              subst h2
              exact hv_iret rfl dX0_way_74
            · replace h := hq_ip c10 h
              refine hv_aload_n 0 dX0_way_57 rfl rfl ?_
              obtain ⟨x14, e_x14, h⟩ := hq_ob h
              refine hv_getR fl_X0_37 e_x14 dX0_way_58 ?_
              obtain ⟨a15, e_a15, h⟩ := hq_nn h
              rw [e_a15]
              obtain ⟨x16, e_x16, h⟩ := hq_ob h
              refine hv_getI fl_X0_166 e_x16 dX0_way_61 ?_
              refine hv_goto (tgt := 74) dX0_way_64 (by decide) ?_
              obtain ⟨h1, h2⟩ := hq_ret h
              subst h1
              subst h2
              exact hv_iret rfl dX0_way_74
          · replace h := hq_ip c9 h
            refine hv_aload_n 0 dX0_way_42 rfl rfl ?_
            obtain ⟨x17, e_x17, h⟩ := hq_ob h
            refine hv_getR fl_X0_37 e_x17 dX0_way_43 ?_
            obtain ⟨a18, e_a18, h⟩ := hq_nn h
            rw [e_a18]
            obtain ⟨x19, e_x19, h⟩ := hq_ob h
            refine hv_getI fl_X0_163 e_x19 dX0_way_46 ?_
            refine hv_goto (tgt := 74) dX0_way_49 (by decide) ?_
            obtain ⟨h1, h2⟩ := hq_ret h
            subst h1
            subst h2
            exact hv_iret rfl dX0_way_74
        · replace h := hq_ip c8 h
          refine hv_bipush (v := -2) dX0_way_35 (by decide) ?_
          obtain ⟨h1, h2⟩ := hq_ret h
          subst h1
          subst h2
          exact hv_iret rfl dX0_way_37
      · replace h := hq_ip c5 h
        refine hv_iconst (v := -1) dX0_way_24 (by decide) ?_
        obtain ⟨h1, h2⟩ := hq_ret h
        subst h1
        subst h2
        exact hv_iret rfl dX0_way_25
def x_step (th : Nat) (p1 : Int32) (p2 : Int32) (p3 : Int32) (p4 : Int32) (s0 : hk_St) : Option (Int32 × hk_St) :=
  (x_isBy th p1 s0).bind fun x1 =>
  hk_gd (hk_bf [0] s0 th) <|
  if x1 = 0 then
    some ((-2000000000 : Int32), s0)
  else
  if (x_isPair p2) = 0 then
    some ((-2000000000 : Int32), s0)
  else
  if (x_in p4 (0 : Int32) (3 : Int32)) = 0 then
    some ((-2000000000 : Int32), s0)
  else
  (x_lays th p1 p2 s0).bind fun q6 =>
  hk_gd (hk_bf [0] s0 th) <|
  if q6.1 = 0 then
    some ((-2000000000 : Int32), q6.2)
  else
  (hk_gR [0] 9 q6.2 th).bind fun x9 =>
  hk_nn x9 fun a10 =>
  (hk_gI [2] 206 q6.2 a10).bind fun x11 =>
  if (x_in p3 (0 : Int32) (x11 - (1 : Int32))) = 0 then
    some ((-2000000000 : Int32), q6.2)
  else
  if p4 = 0 then
      (hk_gR [0] 9 q6.2 th).bind fun x31 =>
    hk_nn x31 fun a32 =>
    (hk_gR [2] 200 q6.2 a32).bind fun x33 =>
    hk_nn x33 fun a34 =>
    (hk_lI 0 q6.2 a34 p3).bind fun x35 =>
    some (x35, q6.2)
    else
    if p4 = (1 : Int32) then
        (hk_gR [0] 9 q6.2 th).bind fun x26 =>
      hk_nn x26 fun a27 =>
      (hk_gR [2] 203 q6.2 a27).bind fun x28 =>
      hk_nn x28 fun a29 =>
      (hk_lL q6.2 a29 p3).bind fun x30 =>
      some (x30.toInt32, q6.2)
      else
      if p4 = (2 : Int32) then
          (hk_gR [0] 9 q6.2 th).bind fun x21 =>
        hk_nn x21 fun a22 =>
        (hk_gR [2] 201 q6.2 a22).bind fun x23 =>
        hk_nn x23 fun a24 =>
        (hk_lI 0 q6.2 a24 p3).bind fun x25 =>
        some (x25, q6.2)
        else
        (hk_gR [0] 9 q6.2 th).bind fun x16 =>
          hk_nn x16 fun a17 =>
          (hk_gR [2] 202 q6.2 a17).bind fun x18 =>
          hk_nn x18 fun a19 =>
          (hk_lI 0 q6.2 a19 p3).bind fun x20 =>
          some (x20, q6.2)
abbrev N_x_step (l : Launch) : hk_N := (l, cX0_step, "HeadReckons", 5, (some .int), 7, 181, false)
set_option maxHeartbeats 4000000 in
theorem wk_x_step {l : Launch} {Gd : hk_G} {th : Nat} {p1 : Int32} {p2 : Int32} {p3 : Int32} {p4 : Int32} {s0 : hk_St} {r : Int32} {fin : hk_St} (h : x_step th p1 p2 p3 p4 s0 = some (r, fin)) : hk_Met Gd l yX0_step cX0_step 5 (some .int) 7 181 [.ref th, .int p1, .int p2, .int p3, .int p4] s0 (some (.int r)) fin := by
  refine hk_start "HeadReckons" false (by decide +kernel) rfl (by decide) (Nat.le_of_ble_eq_true rfl) ?_
  show hk_V Gd (N_x_step l) (hk_end Gd s0 (some (.int r)) fin) 0 [(0, .ref th), (1, .int p1), (2, .int p2), (3, .int p3), (4, .int p4)] [] s0
  unfold x_step at h
  refine hv_aload_n 0 dX0_step_0 rfl rfl ?_
  refine hv_iload_n 1 dX0_step_1 rfl rfl ?_
  obtain ⟨x1, e_x1, h⟩ := hq_ob h
  obtain ⟨g2, h⟩ := hq_gd h
  refine hv_callV [.int p1] [] [.int x1] (wk_x_isBy e_x1) cs_X0_154 g2 rfl ⟨Nat.le_of_ble_eq_true rfl, Nat.le_of_ble_eq_true rfl⟩ rfl (Nat.le_of_ble_eq_true rfl) rfl dX0_step_2 ?_
  refine hv_if_eq (tgt := 51) dX0_step_5 (by decide) (fun c3 => ?_) (fun c3 => ?_)
  · replace h := hq_ip c3 h
    refine hv_ldc q716 dX0_step_51 ?_
    obtain ⟨h1, h2⟩ := hq_ret h
    subst h1
    subst h2
    exact hv_iret rfl dX0_step_53
  · replace h := hq_in c3 h
    refine hv_iload_n 2 dX0_step_8 rfl rfl ?_
    refine hv_callS [.int p2] [] [.int (x_isPair p2)] (wk_x_isPair rfl) cs_X0_157 rfl ⟨Nat.le_of_ble_eq_true rfl, Nat.le_of_ble_eq_true rfl⟩ rfl (Nat.le_of_ble_eq_true rfl) rfl dX0_step_9 ?_
    refine hv_if_eq (tgt := 51) dX0_step_12 (by decide) (fun c4 => ?_) (fun c4 => ?_)
    · replace h := hq_ip c4 h
      refine hv_ldc q716 dX0_step_51 ?_
      obtain ⟨h1, h2⟩ := hq_ret h
      subst h1
      subst h2
      exact hv_iret rfl dX0_step_53
    · replace h := hq_in c4 h
      refine hv_iload 4 dX0_step_15 rfl ?_
      refine hv_iconst (v := 0) dX0_step_17 (by decide) ?_
      refine hv_iconst (v := 3) dX0_step_18 (by decide) ?_
      refine hv_callS [.int p4, .int (0 : Int32), .int (3 : Int32)] [] [.int (x_in p4 (0 : Int32) (3 : Int32))] (wk_x_in rfl) cs_X0_73 rfl ⟨Nat.le_of_ble_eq_true rfl, Nat.le_of_ble_eq_true rfl⟩ rfl (Nat.le_of_ble_eq_true rfl) rfl dX0_step_19 ?_
      refine hv_if_eq (tgt := 51) dX0_step_22 (by decide) (fun c5 => ?_) (fun c5 => ?_)
      · replace h := hq_ip c5 h
        refine hv_ldc q716 dX0_step_51 ?_
        obtain ⟨h1, h2⟩ := hq_ret h
        subst h1
        subst h2
        exact hv_iret rfl dX0_step_53
      · replace h := hq_in c5 h
        refine hv_aload_n 0 dX0_step_25 rfl rfl ?_
        refine hv_iload_n 1 dX0_step_26 rfl rfl ?_
        refine hv_iload_n 2 dX0_step_27 rfl rfl ?_
        obtain ⟨q6, e_q6, h⟩ := hq_ob h
        obtain ⟨g7, h⟩ := hq_gd h
        refine hv_callV [.int p1, .int p2] [] [.int q6.1] (wk_x_lays e_q6) cs_X0_160 g7 rfl ⟨Nat.le_of_ble_eq_true rfl, Nat.le_of_ble_eq_true rfl⟩ rfl (Nat.le_of_ble_eq_true rfl) rfl dX0_step_28 ?_
        refine hv_if_eq (tgt := 51) dX0_step_31 (by decide) (fun c8 => ?_) (fun c8 => ?_)
        · replace h := hq_ip c8 h
          refine hv_ldc q716 dX0_step_51 ?_
          obtain ⟨h1, h2⟩ := hq_ret h
          subst h1
          subst h2
          exact hv_iret rfl dX0_step_53
        · replace h := hq_in c8 h
          refine hv_iload_n 3 dX0_step_34 rfl rfl ?_
          refine hv_iconst (v := 0) dX0_step_35 (by decide) ?_
          refine hv_aload_n 0 dX0_step_36 rfl rfl ?_
          obtain ⟨x9, e_x9, h⟩ := hq_ob h
          refine hv_getR fl_X0_37 e_x9 dX0_step_37 ?_
          obtain ⟨a10, e_a10, h⟩ := hq_nn h
          rw [e_a10]
          obtain ⟨x11, e_x11, h⟩ := hq_ob h
          refine hv_getI fl_X0_169 e_x11 dX0_step_40 ?_
          refine hv_iconst (v := 1) dX0_step_43 (by decide) ?_
          refine hv_isub dX0_step_44 ?_
          refine hv_callS [.int p3, .int (0 : Int32), .int (x11 - (1 : Int32))] [] [.int (x_in p3 (0 : Int32) (x11 - (1 : Int32)))] (wk_x_in rfl) cs_X0_73 rfl ⟨Nat.le_of_ble_eq_true rfl, Nat.le_of_ble_eq_true rfl⟩ rfl (Nat.le_of_ble_eq_true rfl) rfl dX0_step_45 ?_
          refine hv_if_ne (tgt := 54) dX0_step_48 (by decide) (fun c12 => ?_) (fun c12 => ?_)
          · replace h := hq_in c12 h
            refine hv_iload 4 dX0_step_54 rfl ?_
            refine hv_if_ne (tgt := 71) dX0_step_56 (by decide) (fun c13 => ?_) (fun c13 => ?_)
            · replace h := hq_in c13 h
              refine hv_iload 4 dX0_step_71 rfl ?_
              refine hv_iconst (v := 1) dX0_step_73 (by decide) ?_
              refine hv_icmp_ne (tgt := 90) dX0_step_74 (by decide) (fun c14 => ?_) (fun c14 => ?_)
              · replace h := hq_in c14 h
                refine hv_iload 4 dX0_step_90 rfl ?_
                refine hv_iconst (v := 2) dX0_step_92 (by decide) ?_
                refine hv_icmp_ne (tgt := 108) dX0_step_93 (by decide) (fun c15 => ?_) (fun c15 => ?_)
                · replace h := hq_in c15 h
                  refine hv_aload_n 0 dX0_step_108 rfl rfl ?_
                  obtain ⟨x16, e_x16, h⟩ := hq_ob h
                  refine hv_getR fl_X0_37 e_x16 dX0_step_109 ?_
                  obtain ⟨a17, e_a17, h⟩ := hq_nn h
                  rw [e_a17]
                  obtain ⟨x18, e_x18, h⟩ := hq_ob h
                  refine hv_getR fl_X0_183 e_x18 dX0_step_112 ?_
                  refine hv_iload_n 3 dX0_step_115 rfl rfl ?_
                  obtain ⟨a19, e_a19, h⟩ := hq_nn h
                  rw [e_a19]
                  obtain ⟨x20, e_x20, h⟩ := hq_ob h
                  refine hv_iald e_x20 dX0_step_116 ?_
                  obtain ⟨h1, h2⟩ := hq_ret h
                  subst h1
                  subst h2
                  exact hv_iret rfl dX0_step_117
                · replace h := hq_ip c15 h
                  refine hv_aload_n 0 dX0_step_96 rfl rfl ?_
                  obtain ⟨x21, e_x21, h⟩ := hq_ob h
                  refine hv_getR fl_X0_37 e_x21 dX0_step_97 ?_
                  obtain ⟨a22, e_a22, h⟩ := hq_nn h
                  rw [e_a22]
                  obtain ⟨x23, e_x23, h⟩ := hq_ob h
                  refine hv_getR fl_X0_180 e_x23 dX0_step_100 ?_
                  refine hv_iload_n 3 dX0_step_103 rfl rfl ?_
                  obtain ⟨a24, e_a24, h⟩ := hq_nn h
                  rw [e_a24]
                  obtain ⟨x25, e_x25, h⟩ := hq_ob h
                  refine hv_iald e_x25 dX0_step_104 ?_
                  refine hv_goto (tgt := 117) dX0_step_105 (by decide) ?_
                  obtain ⟨h1, h2⟩ := hq_ret h
                  subst h1
                  subst h2
                  exact hv_iret rfl dX0_step_117
              · replace h := hq_ip c14 h
                refine hv_aload_n 0 dX0_step_77 rfl rfl ?_
                obtain ⟨x26, e_x26, h⟩ := hq_ob h
                refine hv_getR fl_X0_37 e_x26 dX0_step_78 ?_
                obtain ⟨a27, e_a27, h⟩ := hq_nn h
                rw [e_a27]
                obtain ⟨x28, e_x28, h⟩ := hq_ob h
                refine hv_getR fl_X0_176 e_x28 dX0_step_81 ?_
                refine hv_iload_n 3 dX0_step_84 rfl rfl ?_
                obtain ⟨a29, e_a29, h⟩ := hq_nn h
                rw [e_a29]
                obtain ⟨x30, e_x30, h⟩ := hq_ob h
                refine hv_lald e_x30 dX0_step_85 ?_
                refine hv_l2i dX0_step_86 ?_
                refine hv_goto (tgt := 117) dX0_step_87 (by decide) ?_
                obtain ⟨h1, h2⟩ := hq_ret h
                subst h1
                subst h2
                exact hv_iret rfl dX0_step_117
            · replace h := hq_ip c13 h
              refine hv_aload_n 0 dX0_step_59 rfl rfl ?_
              obtain ⟨x31, e_x31, h⟩ := hq_ob h
              refine hv_getR fl_X0_37 e_x31 dX0_step_60 ?_
              obtain ⟨a32, e_a32, h⟩ := hq_nn h
              rw [e_a32]
              obtain ⟨x33, e_x33, h⟩ := hq_ob h
              refine hv_getR fl_X0_173 e_x33 dX0_step_63 ?_
              refine hv_iload_n 3 dX0_step_66 rfl rfl ?_
              obtain ⟨a34, e_a34, h⟩ := hq_nn h
              rw [e_a34]
              obtain ⟨x35, e_x35, h⟩ := hq_ob h
              refine hv_iald e_x35 dX0_step_67 ?_
              refine hv_goto (tgt := 117) dX0_step_68 (by decide) ?_
              obtain ⟨h1, h2⟩ := hq_ret h
              subst h1
              subst h2
              exact hv_iret rfl dX0_step_117
          · replace h := hq_ip c12 h
            refine hv_ldc q716 dX0_step_51 ?_
            obtain ⟨h1, h2⟩ := hq_ret h
            subst h1
            subst h2
            exact hv_iret rfl dX0_step_53
def xFacts_clear_L2b (th : Nat) (e0 : hk_St → Option hk_St) (rc : Int32 → hk_St → Option hk_St) (v1 : Int32) (s2 : hk_St) : Option hk_St :=
  (hk_gR [1] 100 s2 th).bind fun x4 =>
  hk_nn x4 fun a5 =>
  (hk_len s2 a5).bind fun x6 =>
  if x6 ≤ v1 then
    e0 s2
  else
  (hk_gR [1] 100 s2 th).bind fun x8 =>
  hk_nn x8 fun a9 =>
  (hk_tI 0 s2 a9 v1 (0 : Int32)).bind fun s10 =>
  hk_nm (v1 + (1 : Int32)) fun x11 =>
  rc x11 s10
def xFacts_clear_L2 (th : Nat) (e0 : hk_St → Option hk_St) : Nat → Int32 → hk_St → Option hk_St
  | 0 => fun _ _ => none
  | n + 1 => xFacts_clear_L2b th e0 (xFacts_clear_L2 th e0 n)
def xFacts_clear (th : Nat) (s0 : hk_St) : Option hk_St :=
  xFacts_clear_L2 th  (fun (s3 : hk_St) =>
    some s3) hk_F (0 : Int32) s0
abbrev N_xFacts_clear (l : Launch) : hk_N := (l, cX1_clear, "HeadReckons$Facts", 2, none, 0, 0, false)
set_option maxHeartbeats 4000000 in
theorem wk_xFacts_clear_L2b {l : Launch} {Gd : hk_G} {th : Nat} {s0 : hk_St} {fin : hk_St} {e0 : hk_St → Option hk_St} {rc : Int32 → hk_St → Option hk_St} (hrc : ∀ (v1 : Int32) (s2 : hk_St), rc v1 s2 = some fin → hk_V Gd (N_xFacts_clear l) (hk_end Gd s0 none fin) 2 [(0, .ref th), (1, .int v1)] [] s2) (he0 : ∀ (s3 : hk_St), e0 s3 = some fin → hk_V Gd (N_xFacts_clear l) (hk_end Gd s0 none fin) 24 [] [] s3) {v1 : Int32} {s2 : hk_St} (h : xFacts_clear_L2b th e0 rc v1 s2 = some fin) : hk_V Gd (N_xFacts_clear l) (hk_end Gd s0 none fin) 2 [(0, .ref th), (1, .int v1)] [] s2 := by
  unfold xFacts_clear_L2b at h
  refine hv_iload_n 1 dX1_clear_2 rfl rfl ?_
  refine hv_aload_n 0 dX1_clear_3 rfl rfl ?_
  obtain ⟨x4, e_x4, h⟩ := hq_ob h
  refine hv_getR fl_X1_7 e_x4 dX1_clear_4 ?_
  obtain ⟨a5, e_a5, h⟩ := hq_nn h
  rw [e_a5]
  obtain ⟨x6, e_x6, h⟩ := hq_ob h
  refine hv_alen e_x6 dX1_clear_7 ?_
  refine hv_icmp_ge (tgt := 24) dX1_clear_8 (by decide) (fun c7 => ?_) (fun c7 => ?_)
  · replace h := hq_ip c7 h
    refine hv_sub [] rfl ?_
    exact he0 _ h
  · replace h := hq_in c7 h
    refine hv_aload_n 0 dX1_clear_11 rfl rfl ?_
    obtain ⟨x8, e_x8, h⟩ := hq_ob h
    refine hv_getR fl_X1_7 e_x8 dX1_clear_12 ?_
    refine hv_iload_n 1 dX1_clear_15 rfl rfl ?_
    refine hv_iconst (v := 0) dX1_clear_16 (by decide) ?_
    obtain ⟨a9, e_a9, h⟩ := hq_nn h
    rw [e_a9]
    obtain ⟨s10, e_s10, h⟩ := hq_ob h
    refine hv_iast e_s10 dX1_clear_17 ?_
    obtain ⟨x11, e_x11, h⟩ := hq_nm h
    refine hv_iinc (v := x11) (L' := [(1, .int x11), (0, .ref th)]) 1 dX1_clear_18 rfl (by rw [e_x11]; rfl) (Nat.le_of_ble_eq_true rfl) rfl ?_
    refine hv_goto (tgt := 2) dX1_clear_21 (by decide) ?_
    refine hv_sub [1, 0] rfl ?_
    exact hrc _ _ h
theorem wk_xFacts_clear_L2 {l : Launch} {Gd : hk_G} {th : Nat} {s0 : hk_St} {fin : hk_St} {e0 : hk_St → Option hk_St} (he0 : ∀ (s3 : hk_St), e0 s3 = some fin → hk_V Gd (N_xFacts_clear l) (hk_end Gd s0 none fin) 24 [] [] s3) : ∀ (n : Nat) (v1 : Int32) (s2 : hk_St), xFacts_clear_L2 th e0 n v1 s2 = some fin → hk_V Gd (N_xFacts_clear l) (hk_end Gd s0 none fin) 2 [(0, .ref th), (1, .int v1)] [] s2 := by
  intro n
  induction n with
  | zero => intro v1 s2 h; cases h
  | succ n ih => intro v1 s2 h; exact wk_xFacts_clear_L2b  ih he0 h
set_option maxHeartbeats 4000000 in
theorem wk_xFacts_clear {l : Launch} {Gd : hk_G} {th : Nat} {s0 : hk_St} {fin : hk_St} (h : xFacts_clear th s0 = some fin) : hk_Met Gd l yX1_clear cX1_clear 2 none 0 0 [.ref th] s0 none fin := by
  refine hk_start "HeadReckons$Facts" false (by decide +kernel) rfl (by decide) (Nat.le_of_ble_eq_true rfl) ?_
  show hk_V Gd (N_xFacts_clear l) (hk_end Gd s0 none fin) 0 [(0, .ref th)] [] s0
  unfold xFacts_clear at h
  refine hv_iconst (v := 0) dX1_clear_0 (by decide) ?_
  refine hv_istore_n (L' := [(1, .int (0 : Int32)), (0, .ref th)]) dX1_clear_1 rfl (Nat.le_of_ble_eq_true rfl) rfl ?_
  refine hv_sub [1, 0] rfl ?_
  refine wk_xFacts_clear_L2  ?_ hk_F _ _ h
  · intro s3 h
    have h := Option.some.inj h
    subst h
    exact hv_vret rfl dX1_clear_24
def j_abs_i (p1 : Int32) : Int32 :=
  if 0 ≤ p1 then
    p1
  else
  -p1
abbrev N_j_abs_i (l : Launch) : hk_N := (l, cJ2_abs_2, "java/lang/Math", 1, (some .int), 0, 0, false)
set_option maxHeartbeats 4000000 in
theorem wk_j_abs_i {l : Launch} {Gd : hk_G} {st : hk_St} {p1 : Int32} {r : Int32} (h : j_abs_i p1 = r) : hk_Met Gd l yJ2_abs_2 cJ2_abs_2 1 (some .int) 0 0 [.int p1] st (some (.int r)) st := by
  refine hk_start "java/lang/Math" false (by decide +kernel) rfl (by decide) (Nat.le_of_ble_eq_true rfl) ?_
  show hk_V Gd (N_j_abs_i l) (hk_end Gd st (some (.int r)) st) 0 [(0, .int p1)] [] st
  unfold j_abs_i at h
  refine hv_iload_n 0 dJ2_abs_2_0 rfl rfl ?_
  refine hv_if_ge (tgt := 9) dJ2_abs_2_1 (by decide) (fun c1 => ?_) (fun c1 => ?_)
  · replace h := hq_ip c1 h
    refine hv_iload_n 0 dJ2_abs_2_9 rfl rfl ?_
    subst h
    exact hv_iret rfl dJ2_abs_2_10
  · replace h := hq_in c1 h
    refine hv_iload_n 0 dJ2_abs_2_4 rfl rfl ?_
    refine hv_ineg dJ2_abs_2_5 ?_
    refine hv_goto (tgt := 10) dJ2_abs_2_6 (by decide) ?_
    subst h
    exact hv_iret rfl dJ2_abs_2_10
def x_noughts_L4b (p1 : Int32) (e0 : Int32 → Option (Int32)) (rc : Int32 → Int32 → Option (Int32)) (v1 : Int32) (v2 : Int32) : Option (Int32) :=
  if v2 ≤ 0 then
    e0 v1
  else
  if (v2 - v2 / (10 : Int32) * (10 : Int32)) = 0 then
    hk_nm (v1 + (1 : Int32)) fun x8 =>
  hk_nm (v2 / (10 : Int32)) fun x9 =>
  rc x8 x9
  else
  hk_nm (v1 + (0 : Int32)) fun x6 =>
    hk_nm (v2 / (10 : Int32)) fun x7 =>
    rc x6 x7
def x_noughts_L4 (p1 : Int32) (e0 : Int32 → Option (Int32)) : Nat → Int32 → Int32 → Option (Int32)
  | 0 => fun _ _ => none
  | n + 1 => x_noughts_L4b p1 e0 (x_noughts_L4 p1 e0 n)
def x_noughts (p1 : Int32) : Option (Int32) :=
  x_noughts_L4 p1  (fun (v3 : Int32) =>
    some v3) hk_F (0 : Int32) p1 
abbrev N_x_noughts (l : Launch) : hk_N := (l, cX0_noughts, "HeadReckons", 3, (some .int), 0, 0, false)
set_option maxHeartbeats 4000000 in
theorem wk_x_noughts_L4b {l : Launch} {Gd : hk_G} {st : hk_St} {p1 : Int32} {r : Int32} {e0 : Int32 → Option (Int32)} {rc : Int32 → Int32 → Option (Int32)} (hrc : ∀ (v1 : Int32) (v2 : Int32), rc v1 v2 = some r → hk_V Gd (N_x_noughts l) (hk_end Gd st (some (.int r)) st) 4 [(1, .int v1), (2, .int v2)] [] st) (he0 : ∀ (v3 : Int32), e0 v3 = some r → hk_V Gd (N_x_noughts l) (hk_end Gd st (some (.int r)) st) 31 [(1, .int v3)] [] st) {v1 : Int32} {v2 : Int32} (h : x_noughts_L4b p1 e0 rc v1 v2 = some r) : hk_V Gd (N_x_noughts l) (hk_end Gd st (some (.int r)) st) 4 [(1, .int v1), (2, .int v2)] [] st := by
  unfold x_noughts_L4b at h
  refine hv_iload_n 1 dX0_noughts_4 rfl rfl ?_
  refine hv_if_le (tgt := 31) dX0_noughts_5 (by decide) (fun c4 => ?_) (fun c4 => ?_)
  · replace h := hq_ip c4 h
    refine hv_sub [0] rfl ?_
    exact he0 _ h
  · replace h := hq_in c4 h
    refine hv_iload_n 0 dX0_noughts_8 rfl rfl ?_
    refine hv_iload_n 1 dX0_noughts_9 rfl rfl ?_
    refine hv_bipush (v := 10) dX0_noughts_10 (by decide) ?_
    refine hv_irem (by decide) dX0_noughts_12 ?_
    refine hv_if_ne (tgt := 20) dX0_noughts_13 (by decide) (fun c5 => ?_) (fun c5 => ?_)
    · replace h := hq_in c5 h
      refine hv_iconst (v := 0) dX0_noughts_20 (by decide) ?_
      refine hv_iadd dX0_noughts_21 ?_
      obtain ⟨x6, e_x6, h⟩ := hq_nm h
      rw [← e_x6]
      refine hv_istore_n (L' := [(1, .int x6), (2, .int v2)]) dX0_noughts_22 rfl (Nat.le_of_ble_eq_true rfl) rfl ?_
      refine hv_iload_n 1 dX0_noughts_23 rfl rfl ?_
      refine hv_bipush (v := 10) dX0_noughts_24 (by decide) ?_
      refine hv_idiv (by decide) dX0_noughts_26 ?_
      obtain ⟨x7, e_x7, h⟩ := hq_nm h
      rw [← e_x7]
      refine hv_istore_n (L' := [(2, .int x7), (1, .int x6)]) dX0_noughts_27 rfl (Nat.le_of_ble_eq_true rfl) rfl ?_
      refine hv_goto (tgt := 4) dX0_noughts_28 (by decide) ?_
      refine hv_sub [1, 0] rfl ?_
      exact hrc _ _ h
    · replace h := hq_ip c5 h
      refine hv_iconst (v := 1) dX0_noughts_16 (by decide) ?_
      refine hv_goto (tgt := 21) dX0_noughts_17 (by decide) ?_
      refine hv_iadd dX0_noughts_21 ?_
      obtain ⟨x8, e_x8, h⟩ := hq_nm h
      rw [← e_x8]
      refine hv_istore_n (L' := [(1, .int x8), (2, .int v2)]) dX0_noughts_22 rfl (Nat.le_of_ble_eq_true rfl) rfl ?_
      refine hv_iload_n 1 dX0_noughts_23 rfl rfl ?_
      refine hv_bipush (v := 10) dX0_noughts_24 (by decide) ?_
      refine hv_idiv (by decide) dX0_noughts_26 ?_
      obtain ⟨x9, e_x9, h⟩ := hq_nm h
      rw [← e_x9]
      refine hv_istore_n (L' := [(2, .int x9), (1, .int x8)]) dX0_noughts_27 rfl (Nat.le_of_ble_eq_true rfl) rfl ?_
      refine hv_goto (tgt := 4) dX0_noughts_28 (by decide) ?_
      refine hv_sub [1, 0] rfl ?_
      exact hrc _ _ h
theorem wk_x_noughts_L4 {l : Launch} {Gd : hk_G} {st : hk_St} {p1 : Int32} {r : Int32} {e0 : Int32 → Option (Int32)} (he0 : ∀ (v3 : Int32), e0 v3 = some r → hk_V Gd (N_x_noughts l) (hk_end Gd st (some (.int r)) st) 31 [(1, .int v3)] [] st) : ∀ (n : Nat) (v1 : Int32) (v2 : Int32), x_noughts_L4 p1 e0 n v1 v2 = some r → hk_V Gd (N_x_noughts l) (hk_end Gd st (some (.int r)) st) 4 [(1, .int v1), (2, .int v2)] [] st := by
  intro n
  induction n with
  | zero => intro v1 v2 h; cases h
  | succ n ih => intro v1 v2 h; exact wk_x_noughts_L4b  ih he0 h
set_option maxHeartbeats 4000000 in
theorem wk_x_noughts {l : Launch} {Gd : hk_G} {st : hk_St} {p1 : Int32} {r : Int32} (h : x_noughts p1 = some r) : hk_Met Gd l yX0_noughts cX0_noughts 3 (some .int) 0 0 [.int p1] st (some (.int r)) st := by
  refine hk_start "HeadReckons" false (by decide +kernel) rfl (by decide) (Nat.le_of_ble_eq_true rfl) ?_
  show hk_V Gd (N_x_noughts l) (hk_end Gd st (some (.int r)) st) 0 [(0, .int p1)] [] st
  unfold x_noughts at h
  refine hv_iconst (v := 0) dX0_noughts_0 (by decide) ?_
  refine hv_istore_n (L' := [(1, .int (0 : Int32)), (0, .int p1)]) dX0_noughts_1 rfl (Nat.le_of_ble_eq_true rfl) rfl ?_
  refine hv_iload_n 1 dX0_noughts_2 rfl rfl ?_
  refine hv_istore_n (L' := [(2, .int p1), (1, .int (0 : Int32)), (0, .int p1)]) dX0_noughts_3 rfl (Nat.le_of_ble_eq_true rfl) rfl ?_
  refine hv_sub [1, 0] rfl ?_
  refine wk_x_noughts_L4  ?_ hk_F _ _ h
  · intro v3 h
    refine hv_iload_n 0 dX0_noughts_31 rfl rfl ?_
    have h := Option.some.inj h
    subst h
    exact hv_iret rfl dX0_noughts_32
def xPair_is (p1 : Int32) : Int32 :=
  if p1 = 0 then
    (0 : Int32)
  else
  (1 : Int32)
abbrev N_xPair_is (l : Launch) : hk_N := (l, cX13_is, "HeadReckons$Pair", 1, (some .int), 0, 0, false)
set_option maxHeartbeats 4000000 in
theorem wk_xPair_is {l : Launch} {Gd : hk_G} {st : hk_St} {p1 : Int32} {r : Int32} (h : xPair_is p1 = r) : hk_Met Gd l yX13_is cX13_is 1 (some .int) 0 0 [.int p1] st (some (.int r)) st := by
  refine hk_start "HeadReckons$Pair" false (by decide +kernel) rfl (by decide) (Nat.le_of_ble_eq_true rfl) ?_
  show hk_V Gd (N_xPair_is l) (hk_end Gd st (some (.int r)) st) 0 [(0, .int p1)] [] st
  unfold xPair_is at h
  refine hv_iload_n 0 dX13_is_0 rfl rfl ?_
  refine hv_if_eq (tgt := 8) dX13_is_1 (by decide) (fun c1 => ?_) (fun c1 => ?_)
  · replace h := hq_ip c1 h
    refine hv_iconst (v := 0) dX13_is_8 (by decide) ?_
    subst h
    exact hv_iret rfl dX13_is_9
  · replace h := hq_in c1 h
    refine hv_iconst (v := 1) dX13_is_4 (by decide) ?_
    refine hv_goto (tgt := 9) dX13_is_5 (by decide) ?_
    subst h
    exact hv_iret rfl dX13_is_9

def xName_value (th : Nat) (p1 : Nat) (s0 : hk_St) : Option (Int32) :=
  (hk_gR [1] 100 s0 p1).bind fun x1 =>
  (hk_gI [8] 800 s0 th).bind fun x2 =>
  hk_nn x1 fun a3 =>
  (hk_lI 0 s0 a3 x2).bind fun x4 =>
  some x4
abbrev N_xName_value (l : Launch) : hk_N := (l, cX9_value, "HeadReckons$Name", 2, (some .int), 0, 0, false)
set_option maxHeartbeats 4000000 in
theorem wk_xName_value {l : Launch} {Gd : hk_G} {th : Nat} {p1 : Nat} {s0 : hk_St} {r : Int32} (h : xName_value th p1 s0 = some r) : hk_Met Gd l yX9_value cX9_value 2 (some .int) 0 0 [.ref th, .ref p1] s0 (some (.int r)) s0 := by
  refine hk_start "HeadReckons$Name" false (by decide +kernel) rfl (by decide) (Nat.le_of_ble_eq_true rfl) ?_
  show hk_V Gd (N_xName_value l) (hk_end Gd s0 (some (.int r)) s0) 0 [(0, .ref th), (1, .ref p1)] [] s0
  unfold xName_value at h
  refine hv_aload_n 1 dX9_value_0 rfl rfl ?_
  obtain ⟨x1, e_x1, h⟩ := hq_ob h
  refine hv_getR fl_X9_13 e_x1 dX9_value_1 ?_
  refine hv_aload_n 0 dX9_value_4 rfl rfl ?_
  obtain ⟨x2, e_x2, h⟩ := hq_ob h
  refine hv_getI fl_X9_7 e_x2 dX9_value_5 ?_
  obtain ⟨a3, e_a3, h⟩ := hq_nn h
  rw [e_a3]
  obtain ⟨x4, e_x4, h⟩ := hq_ob h
  refine hv_iald e_x4 dX9_value_8 ?_
  have h := Option.some.inj h
  subst h
  exact hv_iret rfl dX9_value_9
def xLeaf_value (th : Nat) (p1 : Nat) (s0 : hk_St) : Option (Int32) :=
  (hk_gI [11] 1100 s0 th).bind fun x1 =>
  some x1
abbrev N_xLeaf_value (l : Launch) : hk_N := (l, cX12_value, "HeadReckons$Leaf", 2, (some .int), 0, 0, false)
set_option maxHeartbeats 4000000 in
theorem wk_xLeaf_value {l : Launch} {Gd : hk_G} {th : Nat} {p1 : Nat} {s0 : hk_St} {r : Int32} (h : xLeaf_value th p1 s0 = some r) : hk_Met Gd l yX12_value cX12_value 2 (some .int) 0 0 [.ref th, .ref p1] s0 (some (.int r)) s0 := by
  refine hk_start "HeadReckons$Leaf" false (by decide +kernel) rfl (by decide) (Nat.le_of_ble_eq_true rfl) ?_
  show hk_V Gd (N_xLeaf_value l) (hk_end Gd s0 (some (.int r)) s0) 0 [(0, .ref th), (1, .ref p1)] [] s0
  unfold xLeaf_value at h
  refine hv_aload_n 0 dX12_value_0 rfl rfl ?_
  obtain ⟨x1, e_x1, h⟩ := hq_ob h
  refine hv_getI fl_X12_7 e_x1 dX12_value_1 ?_
  have h := Option.some.inj h
  subst h
  exact hv_iret rfl dX12_value_4
def xDenied_value (rcv : Nat → Nat → hk_St → Option Int32) (th : Nat) (p1 : Nat) (s0 : hk_St) : Option (Int32) :=
  (hk_gR [9] 900 s0 th).bind fun x1 =>
  hk_nn x1 fun a2 =>
  (rcv a2 p1 s0).bind fun x3 =>
  if x3 = 0 then
    some (1 : Int32)
  else
  some (0 : Int32)
abbrev N_xDenied_value (l : Launch) (fr lo : Nat) : hk_N := (l, cX10_value, "HeadReckons$Denied", 2, (some .int), fr, lo, false)
set_option maxHeartbeats 4000000 in
theorem wk_xDenied_value {l : Launch} {Gd : hk_G} {fr lo fr' lo' : Nat} (hroom : fr' + 1 ≤ fr ∧ lo' + 19 ≤ lo ∧ 10 ≤ fr ∧ 100 ≤ lo) {rcv : Nat → Nat → hk_St → Option Int32} (h_rcv : ∀ (b x : Nat) (z : hk_St) (r : Int32), rcv b x z = some r → hk_Dm vi_value (some .int) Gd l fr' lo' b [.ref x] z (some (.int r)) z) {th : Nat} {p1 : Nat} {s0 : hk_St} {r : Int32} (h : xDenied_value rcv th p1 s0 = some r) : hk_Met Gd l yX10_value cX10_value 2 (some .int) fr lo [.ref th, .ref p1] s0 (some (.int r)) s0 := by
  refine hk_start "HeadReckons$Denied" false (by decide +kernel) rfl (by decide) (Nat.le_of_ble_eq_true rfl) ?_
  show hk_V Gd (N_xDenied_value l fr lo) (hk_end Gd s0 (some (.int r)) s0) 0 [(0, .ref th), (1, .ref p1)] [] s0
  unfold xDenied_value at h
  refine hv_aload_n 0 dX10_value_0 rfl rfl ?_
  obtain ⟨x1, e_x1, h⟩ := hq_ob h
  refine hv_getR fl_X10_7 e_x1 dX10_value_1 ?_
  refine hv_aload_n 1 dX10_value_4 rfl rfl ?_
  obtain ⟨a2, e_a2, h⟩ := hq_nn h
  rw [e_a2]
  obtain ⟨x3, e_x3, h⟩ := hq_ob h
  refine hv_callD [.ref p1] [] [.int x3] (h_rcv _ _ _ _ e_x3) cd_X10_13 rfl ⟨by show _ ≤ fr; omega, by show _ ≤ lo; omega⟩ rfl (Nat.le_of_ble_eq_true rfl) rfl dX10_value_5 ?_
  refine hv_if_ne (tgt := 15) dX10_value_8 (by decide) (fun c4 => ?_) (fun c4 => ?_)
  · replace h := hq_in c4 h
    refine hv_iconst (v := 0) dX10_value_15 (by decide) ?_
    have h := Option.some.inj h
    subst h
    exact hv_iret rfl dX10_value_16
  · replace h := hq_ip c4 h
    refine hv_iconst (v := 1) dX10_value_11 (by decide) ?_
    refine hv_goto (tgt := 16) dX10_value_12 (by decide) ?_
    have h := Option.some.inj h
    subst h
    exact hv_iret rfl dX10_value_16
def xTurned_value (rcv : Nat → Nat → hk_St → Option Int32) (th : Nat) (p1 : Nat) (s0 : hk_St) : Option (Int32) :=
  (hk_gR [10] 1000 s0 th).bind fun x1 =>
  hk_nn x1 fun a2 =>
  (rcv a2 p1 s0).bind fun x3 =>
  some (-x3)
abbrev N_xTurned_value (l : Launch) (fr lo : Nat) : hk_N := (l, cX11_value, "HeadReckons$Turned", 2, (some .int), fr, lo, false)
set_option maxHeartbeats 4000000 in
theorem wk_xTurned_value {l : Launch} {Gd : hk_G} {fr lo fr' lo' : Nat} (hroom : fr' + 1 ≤ fr ∧ lo' + 19 ≤ lo ∧ 10 ≤ fr ∧ 100 ≤ lo) {rcv : Nat → Nat → hk_St → Option Int32} (h_rcv : ∀ (b x : Nat) (z : hk_St) (r : Int32), rcv b x z = some r → hk_Dm vi_value (some .int) Gd l fr' lo' b [.ref x] z (some (.int r)) z) {th : Nat} {p1 : Nat} {s0 : hk_St} {r : Int32} (h : xTurned_value rcv th p1 s0 = some r) : hk_Met Gd l yX11_value cX11_value 2 (some .int) fr lo [.ref th, .ref p1] s0 (some (.int r)) s0 := by
  refine hk_start "HeadReckons$Turned" false (by decide +kernel) rfl (by decide) (Nat.le_of_ble_eq_true rfl) ?_
  show hk_V Gd (N_xTurned_value l fr lo) (hk_end Gd s0 (some (.int r)) s0) 0 [(0, .ref th), (1, .ref p1)] [] s0
  unfold xTurned_value at h
  refine hv_aload_n 0 dX11_value_0 rfl rfl ?_
  obtain ⟨x1, e_x1, h⟩ := hq_ob h
  refine hv_getR fl_X11_7 e_x1 dX11_value_1 ?_
  refine hv_aload_n 1 dX11_value_4 rfl rfl ?_
  obtain ⟨a2, e_a2, h⟩ := hq_nn h
  rw [e_a2]
  obtain ⟨x3, e_x3, h⟩ := hq_ob h
  refine hv_callD [.ref p1] [] [.int x3] (h_rcv _ _ _ _ e_x3) cd_X11_13 rfl ⟨by show _ ≤ fr; omega, by show _ ≤ lo; omega⟩ rfl (Nat.le_of_ble_eq_true rfl) rfl dX11_value_5 ?_
  refine hv_ineg dX11_value_8 ?_
  have h := Option.some.inj h
  subst h
  exact hv_iret rfl dX11_value_9
def xPair_value (rcv : Nat → Nat → hk_St → Option Int32) (th : Nat) (p1 : Nat) (s0 : hk_St) : Option (Int32) :=
  hk_nm (fun (v1 : Int32) =>
    some (xPair_is v1)) fun k263 =>
  hk_nm (fun (_ : Unit) =>
    k263 (1 : Int32)) fun k258 =>
  hk_nm (fun (v2 : Int32) =>
    some (xPair_is v2)) fun k246 =>
  hk_nm (fun (_ : Unit) =>
    k246 (0 : Int32)) fun k245 =>
  hk_nm (fun (v3 : Int32) =>
    some (xPair_is v3)) fun k229 =>
  hk_nm (fun (v4 : Int32) =>
    some (xPair_is v4)) fun k215 =>
  hk_nm (fun (v5 : Int32) =>
    some (xPair_is v5)) fun k201 =>
  (hk_gR [12] 1201 s0 th).bind fun x6 =>
  hk_nn x6 fun a7 =>
  (rcv a7 p1 s0).bind fun x8 =>
  (hk_gR [12] 1202 s0 th).bind fun x9 =>
  hk_nn x9 fun a10 =>
  (rcv a10 p1 s0).bind fun x11 =>
  (hk_gI [12] 1200 s0 th).bind fun x12 =>
  if x12 = 37 then
    if x11 = 0 then
      some (0 : Int32)
    else
    if x11 = (-1 : Int32) then
      some (0 : Int32)
    else
    hk_gd (decide (¬ x11 = 0)) <|
      some (x8 - x8 / x11 * x11)
  else
  if x12 = 38 then
    if x8 = 0 then
      k245 ()
    else
    if x11 = 0 then
      k245 ()
    else
    k246 (1 : Int32)
  else
  if x12 = 42 then
    some (x8 * x11)
  else
  if x12 = 43 then
    some (x8 + x11)
  else
  if x12 = 45 then
    some (x8 - x11)
  else
  if x12 = 47 then
    if x11 = 0 then
      some (0 : Int32)
    else
    if x11 = (-1 : Int32) then
        some (-x8)
      else
      hk_gd (decide (¬ x11 = 0)) <|
        some (x8 / x11)
  else
  if x12 = 60 then
    if x11 ≤ x8 then
      k201 (0 : Int32)
    else
    k201 (1 : Int32)
  else
  if x12 = 61 then
    if x8 = x11 then
      k215 (1 : Int32)
    else
    k215 (0 : Int32)
  else
  if x12 = 62 then
    if x8 ≤ x11 then
      k229 (0 : Int32)
    else
    k229 (1 : Int32)
  else
  if x8 = 0 then
    if x11 = 0 then
    k263 (0 : Int32)
  else
  k258 ()
  else
  k258 ()
abbrev N_xPair_value (l : Launch) (fr lo : Nat) : hk_N := (l, cX13_value, "HeadReckons$Pair", 4, (some .int), fr, lo, false)
set_option maxHeartbeats 4000000 in
theorem wk_xPair_value {l : Launch} {Gd : hk_G} {fr lo fr' lo' : Nat} (hroom : fr' + 1 ≤ fr ∧ lo' + 19 ≤ lo ∧ 10 ≤ fr ∧ 100 ≤ lo) {rcv : Nat → Nat → hk_St → Option Int32} (h_rcv : ∀ (b x : Nat) (z : hk_St) (r : Int32), rcv b x z = some r → hk_Dm vi_value (some .int) Gd l fr' lo' b [.ref x] z (some (.int r)) z) {th : Nat} {p1 : Nat} {s0 : hk_St} {r : Int32} (h : xPair_value rcv th p1 s0 = some r) : hk_Met Gd l yX13_value cX13_value 4 (some .int) fr lo [.ref th, .ref p1] s0 (some (.int r)) s0 := by
  refine hk_start "HeadReckons$Pair" false (by decide +kernel) rfl (by decide) (Nat.le_of_ble_eq_true rfl) ?_
  show hk_V Gd (N_xPair_value l fr lo) (hk_end Gd s0 (some (.int r)) s0) 0 [(0, .ref th), (1, .ref p1)] [] s0
  unfold xPair_value at h
  obtain ⟨k263, e_k263, h⟩ := hq_nm h
  have wk263 : ∀ (v1 : Int32), k263 v1 = some r → hk_V Gd (N_xPair_value l fr lo) (hk_end Gd s0 (some (.int r)) s0) 263 [] [.int v1] s0 := by
    intro v1 h
    rw [e_k263] at h
    refine hv_callS [.int v1] [] [.int (xPair_is v1)] (wk_xPair_is rfl) cs_X13_24 rfl ⟨by show _ ≤ fr; omega, by show _ ≤ lo; omega⟩ rfl (Nat.le_of_ble_eq_true rfl) rfl dX13_value_263 ?_
    have h := Option.some.inj h
    subst h
    exact hv_iret rfl dX13_value_266
  clear e_k263
  obtain ⟨k258, e_k258, h⟩ := hq_nm h
  have wk258 : ∀ (_ : Unit), k258 () = some r → hk_V Gd (N_xPair_value l fr lo) (hk_end Gd s0 (some (.int r)) s0) 258 [] [] s0 := by
    intro _ h
    rw [e_k258] at h
    refine hv_iconst (v := 1) dX13_value_258 (by decide) ?_
    refine hv_goto (tgt := 263) dX13_value_259 (by decide) ?_
    exact wk263 _ h
  clear e_k258
  obtain ⟨k246, e_k246, h⟩ := hq_nm h
  have wk246 : ∀ (v2 : Int32), k246 v2 = some r → hk_V Gd (N_xPair_value l fr lo) (hk_end Gd s0 (some (.int r)) s0) 246 [] [.int v2] s0 := by
    intro v2 h
    rw [e_k246] at h
    refine hv_callS [.int v2] [] [.int (xPair_is v2)] (wk_xPair_is rfl) cs_X13_24 rfl ⟨by show _ ≤ fr; omega, by show _ ≤ lo; omega⟩ rfl (Nat.le_of_ble_eq_true rfl) rfl dX13_value_246 ?_
    have h := Option.some.inj h
    subst h
    exact hv_iret rfl dX13_value_249
  clear e_k246
  obtain ⟨k245, e_k245, h⟩ := hq_nm h
  have wk245 : ∀ (_ : Unit), k245 () = some r → hk_V Gd (N_xPair_value l fr lo) (hk_end Gd s0 (some (.int r)) s0) 245 [] [] s0 := by
    intro _ h
    rw [e_k245] at h
    refine hv_iconst (v := 0) dX13_value_245 (by decide) ?_
    exact wk246 _ h
  clear e_k245
  obtain ⟨k229, e_k229, h⟩ := hq_nm h
  have wk229 : ∀ (v3 : Int32), k229 v3 = some r → hk_V Gd (N_xPair_value l fr lo) (hk_end Gd s0 (some (.int r)) s0) 229 [] [.int v3] s0 := by
    intro v3 h
    rw [e_k229] at h
    refine hv_callS [.int v3] [] [.int (xPair_is v3)] (wk_xPair_is rfl) cs_X13_24 rfl ⟨by show _ ≤ fr; omega, by show _ ≤ lo; omega⟩ rfl (Nat.le_of_ble_eq_true rfl) rfl dX13_value_229 ?_
    have h := Option.some.inj h
    subst h
    exact hv_iret rfl dX13_value_232
  clear e_k229
  obtain ⟨k215, e_k215, h⟩ := hq_nm h
  have wk215 : ∀ (v4 : Int32), k215 v4 = some r → hk_V Gd (N_xPair_value l fr lo) (hk_end Gd s0 (some (.int r)) s0) 215 [] [.int v4] s0 := by
    intro v4 h
    rw [e_k215] at h
    refine hv_callS [.int v4] [] [.int (xPair_is v4)] (wk_xPair_is rfl) cs_X13_24 rfl ⟨by show _ ≤ fr; omega, by show _ ≤ lo; omega⟩ rfl (Nat.le_of_ble_eq_true rfl) rfl dX13_value_215 ?_
    have h := Option.some.inj h
    subst h
    exact hv_iret rfl dX13_value_218
  clear e_k215
  obtain ⟨k201, e_k201, h⟩ := hq_nm h
  have wk201 : ∀ (v5 : Int32), k201 v5 = some r → hk_V Gd (N_xPair_value l fr lo) (hk_end Gd s0 (some (.int r)) s0) 201 [] [.int v5] s0 := by
    intro v5 h
    rw [e_k201] at h
    refine hv_callS [.int v5] [] [.int (xPair_is v5)] (wk_xPair_is rfl) cs_X13_24 rfl ⟨by show _ ≤ fr; omega, by show _ ≤ lo; omega⟩ rfl (Nat.le_of_ble_eq_true rfl) rfl dX13_value_201 ?_
    have h := Option.some.inj h
    subst h
    exact hv_iret rfl dX13_value_204
  clear e_k201
  refine hv_aload_n 0 dX13_value_0 rfl rfl ?_
  obtain ⟨x6, e_x6, h⟩ := hq_ob h
  refine hv_getR fl_X13_13 e_x6 dX13_value_1 ?_
  refine hv_aload_n 1 dX13_value_4 rfl rfl ?_
  obtain ⟨a7, e_a7, h⟩ := hq_nn h
  rw [e_a7]
  obtain ⟨x8, e_x8, h⟩ := hq_ob h
  refine hv_callD [.ref p1] [] [.int x8] (h_rcv _ _ _ _ e_x8) cd_X13_20 rfl ⟨by show _ ≤ fr; omega, by show _ ≤ lo; omega⟩ rfl (Nat.le_of_ble_eq_true rfl) rfl dX13_value_5 ?_
  refine hv_istore_n (L' := [(2, .int x8), (0, .ref th), (1, .ref p1)]) dX13_value_8 rfl (Nat.le_of_ble_eq_true rfl) rfl ?_
  refine hv_aload_n 1 dX13_value_9 rfl rfl ?_
  obtain ⟨x9, e_x9, h⟩ := hq_ob h
  refine hv_getR fl_X13_17 e_x9 dX13_value_10 ?_
  refine hv_aload_n 2 dX13_value_13 rfl rfl ?_
  obtain ⟨a10, e_a10, h⟩ := hq_nn h
  rw [e_a10]
  obtain ⟨x11, e_x11, h⟩ := hq_ob h
  refine hv_callD [.ref p1] [] [.int x11] (h_rcv _ _ _ _ e_x11) cd_X13_20 rfl ⟨by show _ ≤ fr; omega, by show _ ≤ lo; omega⟩ rfl (Nat.le_of_ble_eq_true rfl) rfl dX13_value_14 ?_
  refine hv_istore_n (L' := [(3, .int x11), (2, .int x8), (0, .ref th), (1, .ref p1)]) dX13_value_17 rfl (Nat.le_of_ble_eq_true rfl) rfl ?_
  refine hv_aload_n 2 dX13_value_18 rfl rfl ?_
  obtain ⟨x12, e_x12, h⟩ := hq_ob h
  refine hv_getI fl_X13_7 e_x12 dX13_value_19 ?_
  by_cases c16 : x12 = 37
  · replace h := hq_ip c16 h
    refine hv_tableIn (tgt := 174) (off := 152) dX13_value_22 (by rw [c16]; decide) (by rw [c16]; decide) (by rw [c16]; rfl) (by decide) ?_
    refine hv_iload_n 0 dX13_value_174 rfl rfl ?_
    refine hv_if_eq (tgt := 183) dX13_value_175 (by decide) (fun c13 => ?_) (fun c13 => ?_)
    · replace h := hq_ip c13 h
      refine hv_iconst (v := 0) dX13_value_183 (by decide) ?_
      refine hv_goto (tgt := 190) dX13_value_184 (by decide) ?_
      have h := Option.some.inj h
      subst h
      exact hv_iret rfl dX13_value_190
    · replace h := hq_in c13 h
      refine hv_iload_n 0 dX13_value_178 rfl rfl ?_
      refine hv_iconst (v := -1) dX13_value_179 (by decide) ?_
      refine hv_icmp_ne (tgt := 187) dX13_value_180 (by decide) (fun c14 => ?_) (fun c14 => ?_)
      · replace h := hq_in c14 h
        refine hv_iload_n 1 dX13_value_187 rfl rfl ?_
        refine hv_iload_n 0 dX13_value_188 rfl rfl ?_
        obtain ⟨g15, h⟩ := hq_gd h
        refine hv_irem (of_decide_eq_true g15) dX13_value_189 ?_
        have h := Option.some.inj h
        subst h
        exact hv_iret rfl dX13_value_190
      · replace h := hq_ip c14 h
        refine hv_iconst (v := 0) dX13_value_183 (by decide) ?_
        refine hv_goto (tgt := 190) dX13_value_184 (by decide) ?_
        have h := Option.some.inj h
        subst h
        exact hv_iret rfl dX13_value_190
  replace h := hq_in c16 h
  by_cases c19 : x12 = 38
  · replace h := hq_ip c19 h
    refine hv_tableIn (tgt := 233) (off := 211) dX13_value_22 (by rw [c19]; decide) (by rw [c19]; decide) (by rw [c19]; rfl) (by decide) ?_
    refine hv_iload_n 1 dX13_value_233 rfl rfl ?_
    refine hv_if_eq (tgt := 245) dX13_value_234 (by decide) (fun c17 => ?_) (fun c17 => ?_)
    · replace h := hq_ip c17 h
      refine hv_sub [] rfl ?_
      exact wk245 () h
    · replace h := hq_in c17 h
      refine hv_iload_n 0 dX13_value_237 rfl rfl ?_
      refine hv_if_eq (tgt := 245) dX13_value_238 (by decide) (fun c18 => ?_) (fun c18 => ?_)
      · replace h := hq_ip c18 h
        refine hv_sub [] rfl ?_
        exact wk245 () h
      · replace h := hq_in c18 h
        refine hv_iconst (v := 1) dX13_value_241 (by decide) ?_
        refine hv_goto (tgt := 246) dX13_value_242 (by decide) ?_
        refine hv_sub [] rfl ?_
        exact wk246 _ h
  replace h := hq_in c19 h
  by_cases c20 : x12 = 42
  · replace h := hq_ip c20 h
    refine hv_tableIn (tgt := 148) (off := 126) dX13_value_22 (by rw [c20]; decide) (by rw [c20]; decide) (by rw [c20]; rfl) (by decide) ?_
    refine hv_iload_n 1 dX13_value_148 rfl rfl ?_
    refine hv_iload_n 0 dX13_value_149 rfl rfl ?_
    refine hv_imul dX13_value_150 ?_
    have h := Option.some.inj h
    subst h
    exact hv_iret rfl dX13_value_151
  replace h := hq_in c20 h
  by_cases c21 : x12 = 43
  · replace h := hq_ip c21 h
    refine hv_tableIn (tgt := 140) (off := 118) dX13_value_22 (by rw [c21]; decide) (by rw [c21]; decide) (by rw [c21]; rfl) (by decide) ?_
    refine hv_iload_n 1 dX13_value_140 rfl rfl ?_
    refine hv_iload_n 0 dX13_value_141 rfl rfl ?_
    refine hv_iadd dX13_value_142 ?_
    have h := Option.some.inj h
    subst h
    exact hv_iret rfl dX13_value_143
  replace h := hq_in c21 h
  by_cases c22 : x12 = 45
  · replace h := hq_ip c22 h
    refine hv_tableIn (tgt := 144) (off := 122) dX13_value_22 (by rw [c22]; decide) (by rw [c22]; decide) (by rw [c22]; rfl) (by decide) ?_
    refine hv_iload_n 1 dX13_value_144 rfl rfl ?_
    refine hv_iload_n 0 dX13_value_145 rfl rfl ?_
    refine hv_isub dX13_value_146 ?_
    have h := Option.some.inj h
    subst h
    exact hv_iret rfl dX13_value_147
  replace h := hq_in c22 h
  by_cases c26 : x12 = 47
  · replace h := hq_ip c26 h
    refine hv_tableIn (tgt := 152) (off := 130) dX13_value_22 (by rw [c26]; decide) (by rw [c26]; decide) (by rw [c26]; rfl) (by decide) ?_
    refine hv_iload_n 0 dX13_value_152 rfl rfl ?_
    refine hv_if_ne (tgt := 160) dX13_value_153 (by decide) (fun c23 => ?_) (fun c23 => ?_)
    · replace h := hq_in c23 h
      refine hv_iload_n 0 dX13_value_160 rfl rfl ?_
      refine hv_iconst (v := -1) dX13_value_161 (by decide) ?_
      refine hv_icmp_ne (tgt := 170) dX13_value_162 (by decide) (fun c24 => ?_) (fun c24 => ?_)
      · replace h := hq_in c24 h
        refine hv_iload_n 1 dX13_value_170 rfl rfl ?_
        refine hv_iload_n 0 dX13_value_171 rfl rfl ?_
        obtain ⟨g25, h⟩ := hq_gd h
        refine hv_idiv (of_decide_eq_true g25) dX13_value_172 ?_
        have h := Option.some.inj h
        subst h
        exact hv_iret rfl dX13_value_173
      · replace h := hq_ip c24 h
        refine hv_iload_n 1 dX13_value_165 rfl rfl ?_
        refine hv_ineg dX13_value_166 ?_
        refine hv_goto (tgt := 173) dX13_value_167 (by decide) ?_
        have h := Option.some.inj h
        subst h
        exact hv_iret rfl dX13_value_173
    · replace h := hq_ip c23 h
      refine hv_iconst (v := 0) dX13_value_156 (by decide) ?_
      refine hv_goto (tgt := 173) dX13_value_157 (by decide) ?_
      have h := Option.some.inj h
      subst h
      exact hv_iret rfl dX13_value_173
  replace h := hq_in c26 h
  by_cases c28 : x12 = 60
  · replace h := hq_ip c28 h
    refine hv_tableIn (tgt := 191) (off := 169) dX13_value_22 (by rw [c28]; decide) (by rw [c28]; decide) (by rw [c28]; rfl) (by decide) ?_
    refine hv_iload_n 1 dX13_value_191 rfl rfl ?_
    refine hv_iload_n 0 dX13_value_192 rfl rfl ?_
    refine hv_icmp_ge (tgt := 200) dX13_value_193 (by decide) (fun c27 => ?_) (fun c27 => ?_)
    · replace h := hq_ip c27 h
      refine hv_iconst (v := 0) dX13_value_200 (by decide) ?_
      refine hv_sub [] rfl ?_
      exact wk201 _ h
    · replace h := hq_in c27 h
      refine hv_iconst (v := 1) dX13_value_196 (by decide) ?_
      refine hv_goto (tgt := 201) dX13_value_197 (by decide) ?_
      refine hv_sub [] rfl ?_
      exact wk201 _ h
  replace h := hq_in c28 h
  by_cases c30 : x12 = 61
  · replace h := hq_ip c30 h
    refine hv_tableIn (tgt := 205) (off := 183) dX13_value_22 (by rw [c30]; decide) (by rw [c30]; decide) (by rw [c30]; rfl) (by decide) ?_
    refine hv_iload_n 1 dX13_value_205 rfl rfl ?_
    refine hv_iload_n 0 dX13_value_206 rfl rfl ?_
    refine hv_icmp_ne (tgt := 214) dX13_value_207 (by decide) (fun c29 => ?_) (fun c29 => ?_)
    · replace h := hq_in c29 h
      refine hv_iconst (v := 0) dX13_value_214 (by decide) ?_
      refine hv_sub [] rfl ?_
      exact wk215 _ h
    · replace h := hq_ip c29 h
      refine hv_iconst (v := 1) dX13_value_210 (by decide) ?_
      refine hv_goto (tgt := 215) dX13_value_211 (by decide) ?_
      refine hv_sub [] rfl ?_
      exact wk215 _ h
  replace h := hq_in c30 h
  by_cases c32 : x12 = 62
  · replace h := hq_ip c32 h
    refine hv_tableIn (tgt := 219) (off := 197) dX13_value_22 (by rw [c32]; decide) (by rw [c32]; decide) (by rw [c32]; rfl) (by decide) ?_
    refine hv_iload_n 1 dX13_value_219 rfl rfl ?_
    refine hv_iload_n 0 dX13_value_220 rfl rfl ?_
    refine hv_icmp_le (tgt := 228) dX13_value_221 (by decide) (fun c31 => ?_) (fun c31 => ?_)
    · replace h := hq_ip c31 h
      refine hv_iconst (v := 0) dX13_value_228 (by decide) ?_
      refine hv_sub [] rfl ?_
      exact wk229 _ h
    · replace h := hq_in c31 h
      refine hv_iconst (v := 1) dX13_value_224 (by decide) ?_
      refine hv_goto (tgt := 229) dX13_value_225 (by decide) ?_
      refine hv_sub [] rfl ?_
      exact wk229 _ h
  replace h := hq_in c32 h
  refine hv_tableD (tgt := 250) [37, 38, 42, 43, 45, 47, 60, 61, 62] dX13_value_22 (by decide) (by decide) (List.forall_mem_cons.mpr ⟨lv_neT c16 (by decide), (List.forall_mem_cons.mpr ⟨lv_neT c19 (by decide), (List.forall_mem_cons.mpr ⟨lv_neT c20 (by decide), (List.forall_mem_cons.mpr ⟨lv_neT c21 (by decide), (List.forall_mem_cons.mpr ⟨lv_neT c22 (by decide), (List.forall_mem_cons.mpr ⟨lv_neT c26 (by decide), (List.forall_mem_cons.mpr ⟨lv_neT c28 (by decide), (List.forall_mem_cons.mpr ⟨lv_neT c30 (by decide), (List.forall_mem_cons.mpr ⟨lv_neT c32 (by decide), (fun _ q => absurd q List.not_mem_nil)⟩)⟩)⟩)⟩)⟩)⟩)⟩)⟩)⟩) (by decide) ?_
  refine hv_iload_n 1 dX13_value_250 rfl rfl ?_
  refine hv_if_ne (tgt := 258) dX13_value_251 (by decide) (fun c33 => ?_) (fun c33 => ?_)
  · replace h := hq_in c33 h
    refine hv_sub [] rfl ?_
    exact wk258 () h
  · replace h := hq_ip c33 h
    refine hv_iload_n 0 dX13_value_254 rfl rfl ?_
    refine hv_if_eq (tgt := 262) dX13_value_255 (by decide) (fun c34 => ?_) (fun c34 => ?_)
    · replace h := hq_ip c34 h
      refine hv_iconst (v := 0) dX13_value_262 (by decide) ?_
      refine hv_sub [] rfl ?_
      exact wk263 _ h
    · replace h := hq_in c34 h
      refine hv_sub [] rfl ?_
      exact wk258 () h
def g_V : Nat → Nat → Nat → hk_St → Option Int32
  | 0 => fun _ _ _ => none
  | d + 1 => fun b x s => if hk_bf [8] s b = true then xName_value b x s else
    if hk_bf [9] s b = true then xDenied_value (g_V d) b x s else
    if hk_bf [10] s b = true then xTurned_value (g_V d) b x s else
    if hk_bf [11] s b = true then xLeaf_value b x s else
    if hk_bf [12] s b = true then xPair_value (g_V d) b x s else
    none
theorem wd_value_all {l : Launch} {Gd : hk_G} : ∀ (d : Nat) (b x : Nat) (s : hk_St) (r : Int32), g_V d b x s = some r → hk_Dm vi_value (some .int) Gd l (20 + d) (200 + 60 * d) b [.ref x] s (some (.int r)) s := by
  intro d
  induction d with
  | zero => intro b x s r h; cases h
  | succ d ih =>
    intro b x s r h
    unfold g_V at h
    by_cases c0 : hk_bf [8] s b = true
    · replace h := hq_ip c0 h
      exact ⟨(8, yX9_value, cX9_value, 2), List.mem_of_getElem? (i := 0) rfl, c0, 0, 0, wk_xName_value h, by omega, by show 2 + _ ≤ _; omega⟩
    replace h := hq_in c0 h
    by_cases c1 : hk_bf [9] s b = true
    · replace h := hq_ip c1 h
      exact ⟨(9, yX10_value, cX10_value, 2), List.mem_of_getElem? (i := 1) rfl, c1, 20 + (d + 1), 190 + 60 * (d + 1), wk_xDenied_value ⟨by omega, by omega, by omega, by omega⟩ ih h, by omega, by show 2 + _ ≤ _; omega⟩
    replace h := hq_in c1 h
    by_cases c2 : hk_bf [10] s b = true
    · replace h := hq_ip c2 h
      exact ⟨(10, yX11_value, cX11_value, 2), List.mem_of_getElem? (i := 2) rfl, c2, 20 + (d + 1), 190 + 60 * (d + 1), wk_xTurned_value ⟨by omega, by omega, by omega, by omega⟩ ih h, by omega, by show 2 + _ ≤ _; omega⟩
    replace h := hq_in c2 h
    by_cases c3 : hk_bf [11] s b = true
    · replace h := hq_ip c3 h
      exact ⟨(11, yX12_value, cX12_value, 2), List.mem_of_getElem? (i := 3) rfl, c3, 0, 0, wk_xLeaf_value h, by omega, by show 2 + _ ≤ _; omega⟩
    replace h := hq_in c3 h
    by_cases c4 : hk_bf [12] s b = true
    · replace h := hq_ip c4 h
      exact ⟨(12, yX13_value, cX13_value, 4), List.mem_of_getElem? (i := 4) rfl, c4, 20 + (d + 1), 190 + 60 * (d + 1), wk_xPair_value ⟨by omega, by omega, by omega, by omega⟩ ih h, by omega, by show 4 + _ ≤ _; omega⟩
    replace h := hq_in c4 h
    cases h
theorem wd_value {l : Launch} {Gd : hk_G} {b x : Nat} {s : hk_St} {r : Int32} (h : g_V 200 b x s = some r) : hk_Dm vi_value (some .int) Gd l 220 12200 b [.ref x] s (some (.int r)) s := wd_value_all 200 b x s r h
def x_gives_L5b (th : Nat) (s0 : hk_St) (e0 : Unit → Option (Int32)) (rc : (Option Nat) → Option (Int32)) (v2 : Option Nat) : Option (Int32) :=
  hk_nm (fun (v3 : Nat) =>
    (hk_gR [7] 701 s0 v3).bind fun x4 =>
    (hk_gR [0] 8 s0 th).bind fun x5 =>
    hk_nn x4 fun a6 =>
    hk_nn x5 fun a7 =>
    ((g_V 200) a6 a7 s0).bind fun x8 =>
    some x8) fun k30 =>
  hk_oc v2 (e0 ()) fun a9 =>
  (hk_gR [7] 700 s0 a9).bind fun x10 =>
  hk_oc x10 (k30 a9) fun a11 =>
  (hk_gR [7] 700 s0 a9).bind fun x12 =>
  (hk_gR [0] 8 s0 th).bind fun x13 =>
  hk_nn x12 fun a14 =>
  hk_nn x13 fun a15 =>
  ((g_V 200) a14 a15 s0).bind fun x16 =>
  if x16 = 0 then
    (hk_gR [7] 702 s0 a9).bind fun x18 =>
    rc x18
  else
  k30 a9
def x_gives_L5 (th : Nat) (s0 : hk_St) (e0 : Unit → Option (Int32)) : Nat → (Option Nat) → Option (Int32)
  | 0 => fun _ => none
  | n + 1 => x_gives_L5b th s0 e0 (x_gives_L5 th s0 e0 n)
def x_gives (th : Nat) (s0 : hk_St) : Option (Int32) :=
  (hk_gR [0] 7 s0 th).bind fun x1 =>
  x_gives_L5 th s0  (fun (_ : Unit) =>
    some (0 : Int32)) hk_F x1 
abbrev N_x_gives (l : Launch) : hk_N := (l, cX0_gives, "HeadReckons", 2, (some .int), 221, 12219, false)
set_option maxHeartbeats 4000000 in
theorem wk_x_gives_L5b {l : Launch} {Gd : hk_G} {th : Nat} {s0 : hk_St} {r : Int32} {e0 : Unit → Option (Int32)} {rc : (Option Nat) → Option (Int32)} (hrc : ∀ (v2 : Option Nat), rc v2 = some r → hk_V Gd (N_x_gives l) (hk_end Gd s0 (some (.int r)) s0) 5 [(0, .ref th), (1, va_rf v2)] [] s0) (he0 : ∀ (_ : Unit), e0 () = some r → hk_V Gd (N_x_gives l) (hk_end Gd s0 (some (.int r)) s0) 50 [] [] s0) {v2 : Option Nat} (h : x_gives_L5b th s0 e0 rc v2 = some r) : hk_V Gd (N_x_gives l) (hk_end Gd s0 (some (.int r)) s0) 5 [(0, .ref th), (1, va_rf v2)] [] s0 := by
  unfold x_gives_L5b at h
  obtain ⟨k30, e_k30, h⟩ := hq_nm h
  have wk30 : ∀ (v3 : Nat), k30 v3 = some r → hk_V Gd (N_x_gives l) (hk_end Gd s0 (some (.int r)) s0) 30 [(0, .ref th), (1, .ref v3)] [] s0 := by
    intro v3 h
    rw [e_k30] at h
    refine hv_aload_n 1 dX0_gives_30 rfl rfl ?_
    obtain ⟨x4, e_x4, h⟩ := hq_ob h
    refine hv_getR fl_X0_144 e_x4 dX0_gives_31 ?_
    refine hv_aload_n 0 dX0_gives_34 rfl rfl ?_
    obtain ⟨x5, e_x5, h⟩ := hq_ob h
    refine hv_getR fl_X0_28 e_x5 dX0_gives_35 ?_
    obtain ⟨a6, e_a6, h⟩ := hq_nn h
    rw [e_a6]
    obtain ⟨a7, e_a7, h⟩ := hq_nn h
    rw [e_a7]
    obtain ⟨x8, e_x8, h⟩ := hq_ob h
    refine hv_callD [.ref a7] [] [.int x8] (wd_value e_x8) cd_X0_138 rfl ⟨Nat.le_of_ble_eq_true rfl, Nat.le_of_ble_eq_true rfl⟩ rfl (Nat.le_of_ble_eq_true rfl) rfl dX0_gives_38 ?_
    have h := Option.some.inj h
    subst h
    exact hv_iret rfl dX0_gives_41
  clear e_k30
  refine hv_aload_nq 1 dX0_gives_5 rfl rfl ?_
  refine hv_ifnull (tgt := 50) dX0_gives_6 (by decide) (fun e20 => ?_) (fun a9 e20 => ?_)
  · rw [e20] at h
    try rw [e20]
    refine hv_sub [] rfl ?_
    exact he0 () h
  · rw [e20] at h
    try rw [e20]
    refine hv_aload_n 1 dX0_gives_9 rfl rfl ?_
    obtain ⟨x10, e_x10, h⟩ := hq_ob h
    refine hv_getR fl_X0_132 e_x10 dX0_gives_10 ?_
    refine hv_ifnull (tgt := 30) dX0_gives_13 (by decide) (fun e19 => ?_) (fun a11 e19 => ?_)
    · rw [e19] at h
      try rw [e19]
      exact wk30 _ h
    · rw [e19] at h
      try rw [e19]
      refine hv_aload_n 1 dX0_gives_16 rfl rfl ?_
      obtain ⟨x12, e_x12, h⟩ := hq_ob h
      refine hv_getR fl_X0_132 e_x12 dX0_gives_17 ?_
      refine hv_aload_n 0 dX0_gives_20 rfl rfl ?_
      obtain ⟨x13, e_x13, h⟩ := hq_ob h
      refine hv_getR fl_X0_28 e_x13 dX0_gives_21 ?_
      obtain ⟨a14, e_a14, h⟩ := hq_nn h
      rw [e_a14]
      obtain ⟨a15, e_a15, h⟩ := hq_nn h
      rw [e_a15]
      obtain ⟨x16, e_x16, h⟩ := hq_ob h
      refine hv_callD [.ref a15] [] [.int x16] (wd_value e_x16) cd_X0_138 rfl ⟨Nat.le_of_ble_eq_true rfl, Nat.le_of_ble_eq_true rfl⟩ rfl (Nat.le_of_ble_eq_true rfl) rfl dX0_gives_24 ?_
      refine hv_if_eq (tgt := 42) dX0_gives_27 (by decide) (fun c17 => ?_) (fun c17 => ?_)
      · replace h := hq_ip c17 h
        refine hv_aload_n 1 dX0_gives_42 rfl rfl ?_
        obtain ⟨x18, e_x18, h⟩ := hq_ob h
        refine hv_getR fl_X0_147 e_x18 dX0_gives_43 ?_
        refine hv_astore_nq (L' := [(1, va_rf x18), (0, .ref th)]) dX0_gives_46 rfl (Nat.le_of_ble_eq_true rfl) rfl ?_
        refine hv_goto (tgt := 5) dX0_gives_47 (by decide) ?_
        refine hv_sub [1, 0] rfl ?_
        exact hrc _ h
      · replace h := hq_in c17 h
        exact wk30 _ h
theorem wk_x_gives_L5 {l : Launch} {Gd : hk_G} {th : Nat} {s0 : hk_St} {r : Int32} {e0 : Unit → Option (Int32)} (he0 : ∀ (_ : Unit), e0 () = some r → hk_V Gd (N_x_gives l) (hk_end Gd s0 (some (.int r)) s0) 50 [] [] s0) : ∀ (n : Nat) (v2 : Option Nat), x_gives_L5 th s0 e0 n v2 = some r → hk_V Gd (N_x_gives l) (hk_end Gd s0 (some (.int r)) s0) 5 [(0, .ref th), (1, va_rf v2)] [] s0 := by
  intro n
  induction n with
  | zero => intro v2 h; cases h
  | succ n ih => intro v2 h; exact wk_x_gives_L5b  ih he0 h
set_option maxHeartbeats 4000000 in
theorem wk_x_gives {l : Launch} {Gd : hk_G} {th : Nat} {s0 : hk_St} {r : Int32} (h : x_gives th s0 = some r) : hk_Met Gd l yX0_gives cX0_gives 2 (some .int) 221 12219 [.ref th] s0 (some (.int r)) s0 := by
  refine hk_start "HeadReckons" false (by decide +kernel) rfl (by decide) (Nat.le_of_ble_eq_true rfl) ?_
  show hk_V Gd (N_x_gives l) (hk_end Gd s0 (some (.int r)) s0) 0 [(0, .ref th)] [] s0
  unfold x_gives at h
  refine hv_aload_n 0 dX0_gives_0 rfl rfl ?_
  obtain ⟨x1, e_x1, h⟩ := hq_ob h
  refine hv_getR fl_X0_128 e_x1 dX0_gives_1 ?_
  refine hv_astore_nq (L' := [(1, va_rf x1), (0, .ref th)]) dX0_gives_4 rfl (Nat.le_of_ble_eq_true rfl) rfl ?_
  refine hv_sub [1, 0] rfl ?_
  refine wk_x_gives_L5  ?_ hk_F _ h
  · intro _ h
    refine hv_iconst (v := 0) dX0_gives_50 (by decide) ?_
    have h := Option.some.inj h
    subst h
    exact hv_iret rfl dX0_gives_51
