set_option maxRecDepth 100000
def m_init_L252b (th : Nat) (e0 : hk_St → Option hk_St) (rc : Int32 → hk_St → Option hk_St) (v91 : Int32) (s92 : hk_St) : Option hk_St :=
  if (6 : Int32) ≤ v91 then
    e0 s92
  else
  (hk_gR [4] 451 s92 th).bind fun x95 =>
  hk_nn x95 fun a96 =>
  (hk_tI 0 s92 a96 v91 (-1 : Int32)).bind fun s97 =>
  hk_nm (v91 + (1 : Int32)) fun x98 =>
  rc x98 s97
def m_init_L252 (th : Nat) (e0 : hk_St → Option hk_St) : Nat → Int32 → hk_St → Option hk_St
  | 0 => fun _ _ => none
  | n + 1 => m_init_L252b th e0 (m_init_L252 th e0 n)
def m_init (th : Nat) (s0 : hk_St) : Option hk_St :=
  hk_nm (hk_nx s0) fun a1 =>
  hk_nm (hk_mk s0 100 30 30) fun s2 =>
  (hk_pR [4] 400 s2 th (some a1)).bind fun s3 =>
  hk_nm (hk_nx s3) fun a4 =>
  hk_nm (hk_mk s3 100 40 40) fun s5 =>
  (hk_pR [4] 401 s5 th (some a4)).bind fun s6 =>
  hk_nm (hk_nx s6) fun a7 =>
  hk_nm (hk_mk s6 100 40 40) fun s8 =>
  (hk_pR [4] 402 s8 th (some a7)).bind fun s9 =>
  hk_nm (hk_nx s9) fun a10 =>
  hk_nm (hk_mk s9 100 40 40) fun s11 =>
  (hk_pR [4] 403 s11 th (some a10)).bind fun s12 =>
  hk_nm (hk_nx s12) fun a13 =>
  hk_nm (hk_mk s12 100 120 120) fun s14 =>
  (hk_pR [4] 406 s14 th (some a13)).bind fun s15 =>
  hk_nm (hk_nx s15) fun a16 =>
  hk_nm (hk_mk s15 100 120 120) fun s17 =>
  (hk_pR [4] 408 s17 th (some a16)).bind fun s18 =>
  hk_nm (hk_nx s18) fun a19 =>
  hk_nm (hk_mk s18 100 8 8) fun s20 =>
  (hk_pR [4] 415 s20 th (some a19)).bind fun s21 =>
  hk_nm (hk_nx s21) fun a22 =>
  hk_nm (hk_mk s21 100 5 5) fun s23 =>
  (hk_pR [4] 417 s23 th (some a22)).bind fun s24 =>
  hk_nm (hk_nx s24) fun a25 =>
  hk_nm (hk_mk s24 100 6 6) fun s26 =>
  (hk_pR [4] 418 s26 th (some a25)).bind fun s27 =>
  hk_nm (hk_nx s27) fun a28 =>
  hk_nm (hk_mk s27 100 360 360) fun s29 =>
  (hk_pR [4] 419 s29 th (some a28)).bind fun s30 =>
  hk_nm (hk_nx s30) fun a31 =>
  hk_nm (hk_mk s30 100 360 360) fun s32 =>
  (hk_pR [4] 420 s32 th (some a31)).bind fun s33 =>
  hk_nm (hk_nx s33) fun a34 =>
  hk_nm (hk_mk s33 100 200 200) fun s35 =>
  (hk_pR [4] 422 s35 th (some a34)).bind fun s36 =>
  hk_nm (hk_nx s36) fun a37 =>
  hk_nm (hk_mk s36 100 200 200) fun s38 =>
  (hk_pR [4] 423 s38 th (some a37)).bind fun s39 =>
  hk_nm (hk_nx s39) fun a40 =>
  hk_nm (hk_mk s39 100 200 200) fun s41 =>
  (hk_pR [4] 424 s41 th (some a40)).bind fun s42 =>
  hk_nm (hk_nx s42) fun a43 =>
  hk_nm (hk_mk s42 100 200 200) fun s44 =>
  (hk_pR [4] 425 s44 th (some a43)).bind fun s45 =>
  hk_nm (hk_nx s45) fun a46 =>
  hk_nm (hk_mk s45 100 200 200) fun s47 =>
  (hk_pR [4] 426 s47 th (some a46)).bind fun s48 =>
  hk_nm (hk_nx s48) fun a49 =>
  hk_nm (hk_mk s48 100 200 200) fun s50 =>
  (hk_pR [4] 427 s50 th (some a49)).bind fun s51 =>
  hk_nm (hk_nx s51) fun a52 =>
  hk_nm (hk_mk s51 100 4 4) fun s53 =>
  (hk_pR [4] 432 s53 th (some a52)).bind fun s54 =>
  hk_nm (hk_nx s54) fun a55 =>
  hk_nm (hk_mk s54 100 40 40) fun s56 =>
  (hk_pR [4] 434 s56 th (some a55)).bind fun s57 =>
  hk_nm (hk_nx s57) fun a58 =>
  hk_nm (hk_mk s57 100 40 40) fun s59 =>
  (hk_pR [4] 435 s59 th (some a58)).bind fun s60 =>
  hk_nm (hk_nx s60) fun a61 =>
  hk_nm (hk_mk s60 100 40 40) fun s62 =>
  (hk_pR [4] 436 s62 th (some a61)).bind fun s63 =>
  hk_nm (hk_nx s63) fun a64 =>
  hk_nm (hk_mk s63 100 8 8) fun s65 =>
  (hk_pR [4] 438 s65 th (some a64)).bind fun s66 =>
  hk_nm (hk_nx s66) fun a67 =>
  hk_nm (hk_mk s66 100 60 60) fun s68 =>
  (hk_pR [4] 439 s68 th (some a67)).bind fun s69 =>
  hk_nm (hk_nx s69) fun a70 =>
  hk_nm (hk_mk s69 100 5 5) fun s71 =>
  (hk_pR [4] 441 s71 th (some a70)).bind fun s72 =>
  hk_nm (hk_nx s72) fun a73 =>
  hk_nm (hk_mk s72 100 50 50) fun s74 =>
  (hk_pR [4] 446 s74 th (some a73)).bind fun s75 =>
  hk_nm (hk_nx s75) fun a76 =>
  hk_nm (hk_mk s75 100 24 24) fun s77 =>
  (hk_pR [4] 447 s77 th (some a76)).bind fun s78 =>
  hk_nm (hk_nx s78) fun a79 =>
  hk_nm (hk_mk s78 100 6 6) fun s80 =>
  (hk_pR [4] 451 s80 th (some a79)).bind fun s81 =>
  hk_nm (hk_nx s81) fun a82 =>
  hk_nm (hk_mk s81 100 6 6) fun s83 =>
  (hk_pR [4] 452 s83 th (some a82)).bind fun s84 =>
  hk_nm (hk_nx s84) fun a85 =>
  hk_nm (hk_mk s84 104 360 360) fun s86 =>
  (hk_pR [4] 453 s86 th (some a85)).bind fun s87 =>
  hk_nm (hk_nx s87) fun a88 =>
  hk_nm (hk_mk s87 104 60 60) fun s89 =>
  (hk_pR [4] 454 s89 th (some a88)).bind fun s90 =>
  m_init_L252 th  (fun (s93 : hk_St) =>
    (hk_pI [4] 409 s93 th (-1 : Int32)).bind fun s99 =>
    some s99) hk_F (0 : Int32) s90
abbrev N_m_init (l : Launch) : hk_N := (l, cX4_init, "HeadReckonsModel", 2, none, 1, 20, true)
set_option maxHeartbeats 4000000 in
theorem wk_m_init_L252b {l : Launch} {Gd : hk_G} {th : Nat} {s0 : hk_St} {fin : hk_St} {e0 : hk_St → Option hk_St} {rc : Int32 → hk_St → Option hk_St} (hrc : ∀ (v91 : Int32) (s92 : hk_St), rc v91 s92 = some fin → hk_V Gd (N_m_init l) (hk_end Gd s0 none fin) 252 [(0, .ref th), (1, .int v91)] [] s92) (he0 : ∀ (s93 : hk_St), e0 s93 = some fin → hk_V Gd (N_m_init l) (hk_end Gd s0 none fin) 271 [(0, .ref th)] [] s93) {v91 : Int32} {s92 : hk_St} (h : m_init_L252b th e0 rc v91 s92 = some fin) : hk_V Gd (N_m_init l) (hk_end Gd s0 none fin) 252 [(0, .ref th), (1, .int v91)] [] s92 := by
  unfold m_init_L252b at h
  refine hv_iload_n 1 dX4_init_252 rfl rfl ?_
  refine hv_bipush (v := 6) dX4_init_253 (by decide) ?_
  refine hv_icmp_ge (tgt := 271) dX4_init_255 (by decide) (fun c94 => ?_) (fun c94 => ?_)
  · replace h := hq_ip c94 h
    refine hv_sub [0] rfl ?_
    exact he0 _ h
  · replace h := hq_in c94 h
    refine hv_aload_n 0 dX4_init_258 rfl rfl ?_
    obtain ⟨x95, e_x95, h⟩ := hq_ob h
    refine hv_getR fl_X4_88 e_x95 dX4_init_259 ?_
    refine hv_iload_n 1 dX4_init_262 rfl rfl ?_
    refine hv_iconst (v := -1) dX4_init_263 (by decide) ?_
    obtain ⟨a96, e_a96, h⟩ := hq_nn h
    rw [e_a96]
    obtain ⟨s97, e_s97, h⟩ := hq_ob h
    refine hv_iast e_s97 dX4_init_264 ?_
    obtain ⟨x98, e_x98, h⟩ := hq_nm h
    refine hv_iinc (v := x98) (L' := [(1, .int x98), (0, .ref th)]) 1 dX4_init_265 rfl (by rw [e_x98]; rfl) (Nat.le_of_ble_eq_true rfl) rfl ?_
    refine hv_goto (tgt := 252) dX4_init_268 (by decide) ?_
    refine hv_sub [1, 0] rfl ?_
    exact hrc _ _ h
theorem wk_m_init_L252 {l : Launch} {Gd : hk_G} {th : Nat} {s0 : hk_St} {fin : hk_St} {e0 : hk_St → Option hk_St} (he0 : ∀ (s93 : hk_St), e0 s93 = some fin → hk_V Gd (N_m_init l) (hk_end Gd s0 none fin) 271 [(0, .ref th)] [] s93) : ∀ (n : Nat) (v91 : Int32) (s92 : hk_St), m_init_L252 th e0 n v91 s92 = some fin → hk_V Gd (N_m_init l) (hk_end Gd s0 none fin) 252 [(0, .ref th), (1, .int v91)] [] s92 := by
  intro n
  induction n with
  | zero => intro v91 s92 h; cases h
  | succ n ih => intro v91 s92 h; exact wk_m_init_L252b  ih he0 h
set_option maxHeartbeats 4000000 in
theorem wk_m_init {l : Launch} {Gd : hk_G} {th : Nat} {s0 : hk_St} {fin : hk_St} (h : m_init th s0 = some fin) : hk_Met Gd l yX4_init cX4_init 2 none 1 20 [.ref th] s0 none fin := by
  refine hk_start "HeadReckonsModel" true (by decide +kernel) rfl (by decide) (Nat.le_of_ble_eq_true rfl) ?_
  show hk_V Gd (N_m_init l) (hk_end Gd s0 none fin) 0 [(0, .ref th)] [] s0
  unfold m_init at h
  refine hv_aload_n 0 dX4_init_0 rfl rfl ?_
  refine hv_objInit q1602 q144 q145 dX4_init_1 (Nat.le_of_ble_eq_true rfl) (Nat.le_of_ble_eq_true rfl) ?_
  refine hv_aload_n 0 dX4_init_4 rfl rfl ?_
  refine hv_bipush (v := 30) dX4_init_5 (by decide) ?_
  obtain ⟨a1, e_a1, h⟩ := hq_nm h
  obtain ⟨s2, e_s2, h⟩ := hq_nm h
  refine hv_newa (atype := .int) (ty := 0) (n' := 30) (by decide) rfl q163 (by decide) (by decide) (by decide) dX4_init_7 ?_
  rw [show hk_mk s0 (100 + 0) 30 30 = s2 from e_s2.symm, ← e_a1]
  obtain ⟨s3, e_s3, h⟩ := hq_ob h
  refine hv_putR fp_X4_9 e_s3 (fun _ => rfl) dX4_init_9 ?_
  refine hv_aload_n 0 dX4_init_12 rfl rfl ?_
  refine hv_bipush (v := 40) dX4_init_13 (by decide) ?_
  obtain ⟨a4, e_a4, h⟩ := hq_nm h
  obtain ⟨s5, e_s5, h⟩ := hq_nm h
  refine hv_newa (atype := .int) (ty := 0) (n' := 40) (by decide) rfl q163 (by decide) (by decide) (by decide) dX4_init_15 ?_
  rw [show hk_mk s3 (100 + 0) 40 40 = s5 from e_s5.symm, ← e_a4]
  obtain ⟨s6, e_s6, h⟩ := hq_ob h
  refine hv_putR fp_X4_13 e_s6 (fun _ => rfl) dX4_init_17 ?_
  refine hv_aload_n 0 dX4_init_20 rfl rfl ?_
  refine hv_bipush (v := 40) dX4_init_21 (by decide) ?_
  obtain ⟨a7, e_a7, h⟩ := hq_nm h
  obtain ⟨s8, e_s8, h⟩ := hq_nm h
  refine hv_newa (atype := .int) (ty := 0) (n' := 40) (by decide) rfl q163 (by decide) (by decide) (by decide) dX4_init_23 ?_
  rw [show hk_mk s6 (100 + 0) 40 40 = s8 from e_s8.symm, ← e_a7]
  obtain ⟨s9, e_s9, h⟩ := hq_ob h
  refine hv_putR fp_X4_16 e_s9 (fun _ => rfl) dX4_init_25 ?_
  refine hv_aload_n 0 dX4_init_28 rfl rfl ?_
  refine hv_bipush (v := 40) dX4_init_29 (by decide) ?_
  obtain ⟨a10, e_a10, h⟩ := hq_nm h
  obtain ⟨s11, e_s11, h⟩ := hq_nm h
  refine hv_newa (atype := .int) (ty := 0) (n' := 40) (by decide) rfl q163 (by decide) (by decide) (by decide) dX4_init_31 ?_
  rw [show hk_mk s9 (100 + 0) 40 40 = s11 from e_s11.symm, ← e_a10]
  obtain ⟨s12, e_s12, h⟩ := hq_ob h
  refine hv_putR fp_X4_19 e_s12 (fun _ => rfl) dX4_init_33 ?_
  refine hv_aload_n 0 dX4_init_36 rfl rfl ?_
  refine hv_bipush (v := 120) dX4_init_37 (by decide) ?_
  obtain ⟨a13, e_a13, h⟩ := hq_nm h
  obtain ⟨s14, e_s14, h⟩ := hq_nm h
  refine hv_newa (atype := .int) (ty := 0) (n' := 120) (by decide) rfl q163 (by decide) (by decide) (by decide) dX4_init_39 ?_
  rw [show hk_mk s12 (100 + 0) 120 120 = s14 from e_s14.symm, ← e_a13]
  obtain ⟨s15, e_s15, h⟩ := hq_ob h
  refine hv_putR fp_X4_22 e_s15 (fun _ => rfl) dX4_init_41 ?_
  refine hv_aload_n 0 dX4_init_44 rfl rfl ?_
  refine hv_bipush (v := 120) dX4_init_45 (by decide) ?_
  obtain ⟨a16, e_a16, h⟩ := hq_nm h
  obtain ⟨s17, e_s17, h⟩ := hq_nm h
  refine hv_newa (atype := .int) (ty := 0) (n' := 120) (by decide) rfl q163 (by decide) (by decide) (by decide) dX4_init_47 ?_
  rw [show hk_mk s15 (100 + 0) 120 120 = s17 from e_s17.symm, ← e_a16]
  obtain ⟨s18, e_s18, h⟩ := hq_ob h
  refine hv_putR fp_X4_25 e_s18 (fun _ => rfl) dX4_init_49 ?_
  refine hv_aload_n 0 dX4_init_52 rfl rfl ?_
  refine hv_bipush (v := 8) dX4_init_53 (by decide) ?_
  obtain ⟨a19, e_a19, h⟩ := hq_nm h
  obtain ⟨s20, e_s20, h⟩ := hq_nm h
  refine hv_newa (atype := .int) (ty := 0) (n' := 8) (by decide) rfl q163 (by decide) (by decide) (by decide) dX4_init_55 ?_
  rw [show hk_mk s18 (100 + 0) 8 8 = s20 from e_s20.symm, ← e_a19]
  obtain ⟨s21, e_s21, h⟩ := hq_ob h
  refine hv_putR fp_X4_28 e_s21 (fun _ => rfl) dX4_init_57 ?_
  refine hv_aload_n 0 dX4_init_60 rfl rfl ?_
  refine hv_iconst (v := 5) dX4_init_61 (by decide) ?_
  obtain ⟨a22, e_a22, h⟩ := hq_nm h
  obtain ⟨s23, e_s23, h⟩ := hq_nm h
  refine hv_newa (atype := .int) (ty := 0) (n' := 5) (by decide) rfl q163 (by decide) (by decide) (by decide) dX4_init_62 ?_
  rw [show hk_mk s21 (100 + 0) 5 5 = s23 from e_s23.symm, ← e_a22]
  obtain ⟨s24, e_s24, h⟩ := hq_ob h
  refine hv_putR fp_X4_31 e_s24 (fun _ => rfl) dX4_init_64 ?_
  refine hv_aload_n 0 dX4_init_67 rfl rfl ?_
  refine hv_bipush (v := 6) dX4_init_68 (by decide) ?_
  obtain ⟨a25, e_a25, h⟩ := hq_nm h
  obtain ⟨s26, e_s26, h⟩ := hq_nm h
  refine hv_newa (atype := .int) (ty := 0) (n' := 6) (by decide) rfl q163 (by decide) (by decide) (by decide) dX4_init_70 ?_
  rw [show hk_mk s24 (100 + 0) 6 6 = s26 from e_s26.symm, ← e_a25]
  obtain ⟨s27, e_s27, h⟩ := hq_ob h
  refine hv_putR fp_X4_34 e_s27 (fun _ => rfl) dX4_init_72 ?_
  refine hv_aload_n 0 dX4_init_75 rfl rfl ?_
  refine hv_sipush (v := 360) dX4_init_76 (by decide) ?_
  obtain ⟨a28, e_a28, h⟩ := hq_nm h
  obtain ⟨s29, e_s29, h⟩ := hq_nm h
  refine hv_newa (atype := .int) (ty := 0) (n' := 360) (by decide) rfl q163 (by decide) (by decide) (by decide) dX4_init_79 ?_
  rw [show hk_mk s27 (100 + 0) 360 360 = s29 from e_s29.symm, ← e_a28]
  obtain ⟨s30, e_s30, h⟩ := hq_ob h
  refine hv_putR fp_X4_37 e_s30 (fun _ => rfl) dX4_init_81 ?_
  refine hv_aload_n 0 dX4_init_84 rfl rfl ?_
  refine hv_sipush (v := 360) dX4_init_85 (by decide) ?_
  obtain ⟨a31, e_a31, h⟩ := hq_nm h
  obtain ⟨s32, e_s32, h⟩ := hq_nm h
  refine hv_newa (atype := .int) (ty := 0) (n' := 360) (by decide) rfl q163 (by decide) (by decide) (by decide) dX4_init_88 ?_
  rw [show hk_mk s30 (100 + 0) 360 360 = s32 from e_s32.symm, ← e_a31]
  obtain ⟨s33, e_s33, h⟩ := hq_ob h
  refine hv_putR fp_X4_40 e_s33 (fun _ => rfl) dX4_init_90 ?_
  refine hv_aload_n 0 dX4_init_93 rfl rfl ?_
  refine hv_sipush (v := 200) dX4_init_94 (by decide) ?_
  obtain ⟨a34, e_a34, h⟩ := hq_nm h
  obtain ⟨s35, e_s35, h⟩ := hq_nm h
  refine hv_newa (atype := .int) (ty := 0) (n' := 200) (by decide) rfl q163 (by decide) (by decide) (by decide) dX4_init_97 ?_
  rw [show hk_mk s33 (100 + 0) 200 200 = s35 from e_s35.symm, ← e_a34]
  obtain ⟨s36, e_s36, h⟩ := hq_ob h
  refine hv_putR fp_X4_43 e_s36 (fun _ => rfl) dX4_init_99 ?_
  refine hv_aload_n 0 dX4_init_102 rfl rfl ?_
  refine hv_sipush (v := 200) dX4_init_103 (by decide) ?_
  obtain ⟨a37, e_a37, h⟩ := hq_nm h
  obtain ⟨s38, e_s38, h⟩ := hq_nm h
  refine hv_newa (atype := .int) (ty := 0) (n' := 200) (by decide) rfl q163 (by decide) (by decide) (by decide) dX4_init_106 ?_
  rw [show hk_mk s36 (100 + 0) 200 200 = s38 from e_s38.symm, ← e_a37]
  obtain ⟨s39, e_s39, h⟩ := hq_ob h
  refine hv_putR fp_X4_46 e_s39 (fun _ => rfl) dX4_init_108 ?_
  refine hv_aload_n 0 dX4_init_111 rfl rfl ?_
  refine hv_sipush (v := 200) dX4_init_112 (by decide) ?_
  obtain ⟨a40, e_a40, h⟩ := hq_nm h
  obtain ⟨s41, e_s41, h⟩ := hq_nm h
  refine hv_newa (atype := .int) (ty := 0) (n' := 200) (by decide) rfl q163 (by decide) (by decide) (by decide) dX4_init_115 ?_
  rw [show hk_mk s39 (100 + 0) 200 200 = s41 from e_s41.symm, ← e_a40]
  obtain ⟨s42, e_s42, h⟩ := hq_ob h
  refine hv_putR fp_X4_49 e_s42 (fun _ => rfl) dX4_init_117 ?_
  refine hv_aload_n 0 dX4_init_120 rfl rfl ?_
  refine hv_sipush (v := 200) dX4_init_121 (by decide) ?_
  obtain ⟨a43, e_a43, h⟩ := hq_nm h
  obtain ⟨s44, e_s44, h⟩ := hq_nm h
  refine hv_newa (atype := .int) (ty := 0) (n' := 200) (by decide) rfl q163 (by decide) (by decide) (by decide) dX4_init_124 ?_
  rw [show hk_mk s42 (100 + 0) 200 200 = s44 from e_s44.symm, ← e_a43]
  obtain ⟨s45, e_s45, h⟩ := hq_ob h
  refine hv_putR fp_X4_52 e_s45 (fun _ => rfl) dX4_init_126 ?_
  refine hv_aload_n 0 dX4_init_129 rfl rfl ?_
  refine hv_sipush (v := 200) dX4_init_130 (by decide) ?_
  obtain ⟨a46, e_a46, h⟩ := hq_nm h
  obtain ⟨s47, e_s47, h⟩ := hq_nm h
  refine hv_newa (atype := .int) (ty := 0) (n' := 200) (by decide) rfl q163 (by decide) (by decide) (by decide) dX4_init_133 ?_
  rw [show hk_mk s45 (100 + 0) 200 200 = s47 from e_s47.symm, ← e_a46]
  obtain ⟨s48, e_s48, h⟩ := hq_ob h
  refine hv_putR fp_X4_55 e_s48 (fun _ => rfl) dX4_init_135 ?_
  refine hv_aload_n 0 dX4_init_138 rfl rfl ?_
  refine hv_sipush (v := 200) dX4_init_139 (by decide) ?_
  obtain ⟨a49, e_a49, h⟩ := hq_nm h
  obtain ⟨s50, e_s50, h⟩ := hq_nm h
  refine hv_newa (atype := .int) (ty := 0) (n' := 200) (by decide) rfl q163 (by decide) (by decide) (by decide) dX4_init_142 ?_
  rw [show hk_mk s48 (100 + 0) 200 200 = s50 from e_s50.symm, ← e_a49]
  obtain ⟨s51, e_s51, h⟩ := hq_ob h
  refine hv_putR fp_X4_58 e_s51 (fun _ => rfl) dX4_init_144 ?_
  refine hv_aload_n 0 dX4_init_147 rfl rfl ?_
  refine hv_iconst (v := 4) dX4_init_148 (by decide) ?_
  obtain ⟨a52, e_a52, h⟩ := hq_nm h
  obtain ⟨s53, e_s53, h⟩ := hq_nm h
  refine hv_newa (atype := .int) (ty := 0) (n' := 4) (by decide) rfl q163 (by decide) (by decide) (by decide) dX4_init_149 ?_
  rw [show hk_mk s51 (100 + 0) 4 4 = s53 from e_s53.symm, ← e_a52]
  obtain ⟨s54, e_s54, h⟩ := hq_ob h
  refine hv_putR fp_X4_61 e_s54 (fun _ => rfl) dX4_init_151 ?_
  refine hv_aload_n 0 dX4_init_154 rfl rfl ?_
  refine hv_bipush (v := 40) dX4_init_155 (by decide) ?_
  obtain ⟨a55, e_a55, h⟩ := hq_nm h
  obtain ⟨s56, e_s56, h⟩ := hq_nm h
  refine hv_newa (atype := .int) (ty := 0) (n' := 40) (by decide) rfl q163 (by decide) (by decide) (by decide) dX4_init_157 ?_
  rw [show hk_mk s54 (100 + 0) 40 40 = s56 from e_s56.symm, ← e_a55]
  obtain ⟨s57, e_s57, h⟩ := hq_ob h
  refine hv_putR fp_X4_64 e_s57 (fun _ => rfl) dX4_init_159 ?_
  refine hv_aload_n 0 dX4_init_162 rfl rfl ?_
  refine hv_bipush (v := 40) dX4_init_163 (by decide) ?_
  obtain ⟨a58, e_a58, h⟩ := hq_nm h
  obtain ⟨s59, e_s59, h⟩ := hq_nm h
  refine hv_newa (atype := .int) (ty := 0) (n' := 40) (by decide) rfl q163 (by decide) (by decide) (by decide) dX4_init_165 ?_
  rw [show hk_mk s57 (100 + 0) 40 40 = s59 from e_s59.symm, ← e_a58]
  obtain ⟨s60, e_s60, h⟩ := hq_ob h
  refine hv_putR fp_X4_67 e_s60 (fun _ => rfl) dX4_init_167 ?_
  refine hv_aload_n 0 dX4_init_170 rfl rfl ?_
  refine hv_bipush (v := 40) dX4_init_171 (by decide) ?_
  obtain ⟨a61, e_a61, h⟩ := hq_nm h
  obtain ⟨s62, e_s62, h⟩ := hq_nm h
  refine hv_newa (atype := .int) (ty := 0) (n' := 40) (by decide) rfl q163 (by decide) (by decide) (by decide) dX4_init_173 ?_
  rw [show hk_mk s60 (100 + 0) 40 40 = s62 from e_s62.symm, ← e_a61]
  obtain ⟨s63, e_s63, h⟩ := hq_ob h
  refine hv_putR fp_X4_70 e_s63 (fun _ => rfl) dX4_init_175 ?_
  refine hv_aload_n 0 dX4_init_178 rfl rfl ?_
  refine hv_bipush (v := 8) dX4_init_179 (by decide) ?_
  obtain ⟨a64, e_a64, h⟩ := hq_nm h
  obtain ⟨s65, e_s65, h⟩ := hq_nm h
  refine hv_newa (atype := .int) (ty := 0) (n' := 8) (by decide) rfl q163 (by decide) (by decide) (by decide) dX4_init_181 ?_
  rw [show hk_mk s63 (100 + 0) 8 8 = s65 from e_s65.symm, ← e_a64]
  obtain ⟨s66, e_s66, h⟩ := hq_ob h
  refine hv_putR fp_X4_73 e_s66 (fun _ => rfl) dX4_init_183 ?_
  refine hv_aload_n 0 dX4_init_186 rfl rfl ?_
  refine hv_bipush (v := 60) dX4_init_187 (by decide) ?_
  obtain ⟨a67, e_a67, h⟩ := hq_nm h
  obtain ⟨s68, e_s68, h⟩ := hq_nm h
  refine hv_newa (atype := .int) (ty := 0) (n' := 60) (by decide) rfl q163 (by decide) (by decide) (by decide) dX4_init_189 ?_
  rw [show hk_mk s66 (100 + 0) 60 60 = s68 from e_s68.symm, ← e_a67]
  obtain ⟨s69, e_s69, h⟩ := hq_ob h
  refine hv_putR fp_X4_76 e_s69 (fun _ => rfl) dX4_init_191 ?_
  refine hv_aload_n 0 dX4_init_194 rfl rfl ?_
  refine hv_iconst (v := 5) dX4_init_195 (by decide) ?_
  obtain ⟨a70, e_a70, h⟩ := hq_nm h
  obtain ⟨s71, e_s71, h⟩ := hq_nm h
  refine hv_newa (atype := .int) (ty := 0) (n' := 5) (by decide) rfl q163 (by decide) (by decide) (by decide) dX4_init_196 ?_
  rw [show hk_mk s69 (100 + 0) 5 5 = s71 from e_s71.symm, ← e_a70]
  obtain ⟨s72, e_s72, h⟩ := hq_ob h
  refine hv_putR fp_X4_79 e_s72 (fun _ => rfl) dX4_init_198 ?_
  refine hv_aload_n 0 dX4_init_201 rfl rfl ?_
  refine hv_bipush (v := 50) dX4_init_202 (by decide) ?_
  obtain ⟨a73, e_a73, h⟩ := hq_nm h
  obtain ⟨s74, e_s74, h⟩ := hq_nm h
  refine hv_newa (atype := .int) (ty := 0) (n' := 50) (by decide) rfl q163 (by decide) (by decide) (by decide) dX4_init_204 ?_
  rw [show hk_mk s72 (100 + 0) 50 50 = s74 from e_s74.symm, ← e_a73]
  obtain ⟨s75, e_s75, h⟩ := hq_ob h
  refine hv_putR fp_X4_82 e_s75 (fun _ => rfl) dX4_init_206 ?_
  refine hv_aload_n 0 dX4_init_209 rfl rfl ?_
  refine hv_bipush (v := 24) dX4_init_210 (by decide) ?_
  obtain ⟨a76, e_a76, h⟩ := hq_nm h
  obtain ⟨s77, e_s77, h⟩ := hq_nm h
  refine hv_newa (atype := .int) (ty := 0) (n' := 24) (by decide) rfl q163 (by decide) (by decide) (by decide) dX4_init_212 ?_
  rw [show hk_mk s75 (100 + 0) 24 24 = s77 from e_s77.symm, ← e_a76]
  obtain ⟨s78, e_s78, h⟩ := hq_ob h
  refine hv_putR fp_X4_85 e_s78 (fun _ => rfl) dX4_init_214 ?_
  refine hv_aload_n 0 dX4_init_217 rfl rfl ?_
  refine hv_bipush (v := 6) dX4_init_218 (by decide) ?_
  obtain ⟨a79, e_a79, h⟩ := hq_nm h
  obtain ⟨s80, e_s80, h⟩ := hq_nm h
  refine hv_newa (atype := .int) (ty := 0) (n' := 6) (by decide) rfl q163 (by decide) (by decide) (by decide) dX4_init_220 ?_
  rw [show hk_mk s78 (100 + 0) 6 6 = s80 from e_s80.symm, ← e_a79]
  obtain ⟨s81, e_s81, h⟩ := hq_ob h
  refine hv_putR fp_X4_88 e_s81 (fun _ => rfl) dX4_init_222 ?_
  refine hv_aload_n 0 dX4_init_225 rfl rfl ?_
  refine hv_bipush (v := 6) dX4_init_226 (by decide) ?_
  obtain ⟨a82, e_a82, h⟩ := hq_nm h
  obtain ⟨s83, e_s83, h⟩ := hq_nm h
  refine hv_newa (atype := .int) (ty := 0) (n' := 6) (by decide) rfl q163 (by decide) (by decide) (by decide) dX4_init_228 ?_
  rw [show hk_mk s81 (100 + 0) 6 6 = s83 from e_s83.symm, ← e_a82]
  obtain ⟨s84, e_s84, h⟩ := hq_ob h
  refine hv_putR fp_X4_91 e_s84 (fun _ => rfl) dX4_init_230 ?_
  refine hv_aload_n 0 dX4_init_233 rfl rfl ?_
  refine hv_sipush (v := 360) dX4_init_234 (by decide) ?_
  obtain ⟨a85, e_a85, h⟩ := hq_nm h
  obtain ⟨s86, e_s86, h⟩ := hq_nm h
  refine hv_newa (atype := .long) (ty := 4) (n' := 360) (by decide) rfl q226 (by decide) (by decide) (by decide) dX4_init_237 ?_
  rw [show hk_mk s84 (100 + 4) 360 360 = s86 from e_s86.symm, ← e_a85]
  obtain ⟨s87, e_s87, h⟩ := hq_ob h
  refine hv_putR fp_X4_94 e_s87 (fun _ => rfl) dX4_init_239 ?_
  refine hv_aload_n 0 dX4_init_242 rfl rfl ?_
  refine hv_bipush (v := 60) dX4_init_243 (by decide) ?_
  obtain ⟨a88, e_a88, h⟩ := hq_nm h
  obtain ⟨s89, e_s89, h⟩ := hq_nm h
  refine hv_newa (atype := .long) (ty := 4) (n' := 60) (by decide) rfl q226 (by decide) (by decide) (by decide) dX4_init_245 ?_
  rw [show hk_mk s87 (100 + 4) 60 60 = s89 from e_s89.symm, ← e_a88]
  obtain ⟨s90, e_s90, h⟩ := hq_ob h
  refine hv_putR fp_X4_98 e_s90 (fun _ => rfl) dX4_init_247 ?_
  refine hv_iconst (v := 0) dX4_init_250 (by decide) ?_
  refine hv_istore_n (L' := [(1, .int (0 : Int32)), (0, .ref th)]) dX4_init_251 rfl (Nat.le_of_ble_eq_true rfl) rfl ?_
  refine hv_sub [1, 0] rfl ?_
  refine wk_m_init_L252  ?_ hk_F _ _ h
  · intro s93 h
    refine hv_aload_n 0 dX4_init_271 rfl rfl ?_
    refine hv_iconst (v := -1) dX4_init_272 (by decide) ?_
    obtain ⟨s99, e_s99, h⟩ := hq_ob h
    refine hv_putI fp_X4_101 e_s99 (fun q => by cases q) dX4_init_273 ?_
    have h := Option.some.inj h
    subst h
    exact hv_vret rfl dX4_init_276
