set_option maxRecDepth 100000
def xFacts_init (th : Nat) (s0 : hk_St) : Option hk_St :=
  hk_nm (hk_nx s0) fun a1 =>
  hk_nm (hk_mk s0 100 128 128) fun s2 =>
  (hk_pR [1] 100 s2 th (some a1)).bind fun s3 =>
  some s3
abbrev N_xFacts_init (l : Launch) : hk_N := (l, cX1_init, "HeadReckons$Facts", 1, none, 1, 20, true)
set_option maxHeartbeats 4000000 in
theorem wk_xFacts_init {l : Launch} {Gd : hk_G} {th : Nat} {s0 : hk_St} {fin : hk_St} (h : xFacts_init th s0 = some fin) : hk_Met Gd l yX1_init cX1_init 1 none 1 20 [.ref th] s0 none fin := by
  refine hk_start "HeadReckons$Facts" true (by decide +kernel) rfl (by decide) (Nat.le_of_ble_eq_true rfl) ?_
  show hk_V Gd (N_xFacts_init l) (hk_end Gd s0 none fin) 0 [(0, .ref th)] [] s0
  unfold xFacts_init at h
  refine hv_aload_n 0 dX1_init_0 rfl rfl ?_
  refine hv_objInit q155 q144 q145 dX1_init_1 (Nat.le_of_ble_eq_true rfl) (Nat.le_of_ble_eq_true rfl) ?_
  refine hv_aload_n 0 dX1_init_4 rfl rfl ?_
  refine hv_sipush (v := 128) dX1_init_5 (by decide) ?_
  obtain ⟨a1, e_a1, h⟩ := hq_nm h
  obtain ⟨s2, e_s2, h⟩ := hq_nm h
  refine hv_newa (atype := .int) (ty := 0) (n' := 128) (by decide) rfl q163 (by decide) (by decide) (by decide) dX1_init_8 ?_
  rw [show hk_mk s0 (100 + 0) 128 128 = s2 from e_s2.symm, ← e_a1]
  obtain ⟨s3, e_s3, h⟩ := hq_ob h
  refine hv_putR fp_X1_7 e_s3 (fun _ => rfl) dX1_init_10 ?_
  have h := Option.some.inj h
  subst h
  exact hv_vret rfl dX1_init_13
def xActs_init (th : Nat) (p1 : Nat) (s0 : hk_St) : Option hk_St :=
  (hk_pR [2] 215 s0 th (some p1)).bind fun s1 =>
  hk_nm (hk_nx s1) fun a2 =>
  hk_nm (hk_mk s1 100 120 120) fun s3 =>
  (hk_pR [2] 200 s3 th (some a2)).bind fun s4 =>
  hk_nm (hk_nx s4) fun a5 =>
  hk_nm (hk_mk s4 100 120 120) fun s6 =>
  (hk_pR [2] 201 s6 th (some a5)).bind fun s7 =>
  hk_nm (hk_nx s7) fun a8 =>
  hk_nm (hk_mk s7 100 120 120) fun s9 =>
  (hk_pR [2] 202 s9 th (some a8)).bind fun s10 =>
  hk_nm (hk_nx s10) fun a11 =>
  hk_nm (hk_mk s10 104 120 120) fun s12 =>
  (hk_pR [2] 203 s12 th (some a11)).bind fun s13 =>
  hk_nm (hk_nx s13) fun a14 =>
  hk_nm (hk_mk s13 104 120 120) fun s15 =>
  (hk_pR [2] 204 s15 th (some a14)).bind fun s16 =>
  hk_nm (hk_nx s16) fun a17 =>
  hk_nm (hk_mk s16 104 120 120) fun s18 =>
  (hk_pR [2] 205 s18 th (some a17)).bind fun s19 =>
  hk_nm (hk_nx s19) fun a20 =>
  hk_nm (hk_mk s19 104 6 6) fun s21 =>
  (hk_pR [2] 214 s21 th (some a20)).bind fun s22 =>
  some s22
abbrev N_xActs_init (l : Launch) : hk_N := (l, cX2_init, "HeadReckons$Acts", 2, none, 1, 20, true)
set_option maxHeartbeats 4000000 in
theorem wk_xActs_init {l : Launch} {Gd : hk_G} {th : Nat} {p1 : Nat} {s0 : hk_St} {fin : hk_St} (h : xActs_init th p1 s0 = some fin) : hk_Met Gd l yX2_init cX2_init 2 none 1 20 [.ref th, .ref p1] s0 none fin := by
  refine hk_start "HeadReckons$Acts" true (by decide +kernel) rfl (by decide) (Nat.le_of_ble_eq_true rfl) ?_
  show hk_V Gd (N_xActs_init l) (hk_end Gd s0 none fin) 0 [(0, .ref th), (1, .ref p1)] [] s0
  unfold xActs_init at h
  refine hv_aload_n 0 dX2_init_0 rfl rfl ?_
  refine hv_aload_n 1 dX2_init_1 rfl rfl ?_
  obtain ⟨s1, e_s1, h⟩ := hq_ob h
  refine hv_putR fp_X2_3 e_s1 (fun _ => rfl) dX2_init_2 ?_
  refine hv_aload_n 0 dX2_init_5 rfl rfl ?_
  refine hv_objInit q169 q144 q145 dX2_init_6 (Nat.le_of_ble_eq_true rfl) (Nat.le_of_ble_eq_true rfl) ?_
  refine hv_aload_n 0 dX2_init_9 rfl rfl ?_
  refine hv_bipush (v := 120) dX2_init_10 (by decide) ?_
  obtain ⟨a2, e_a2, h⟩ := hq_nm h
  obtain ⟨s3, e_s3, h⟩ := hq_nm h
  refine hv_newa (atype := .int) (ty := 0) (n' := 120) (by decide) rfl q163 (by decide) (by decide) (by decide) dX2_init_12 ?_
  rw [show hk_mk s1 (100 + 0) 120 120 = s3 from e_s3.symm, ← e_a2]
  obtain ⟨s4, e_s4, h⟩ := hq_ob h
  refine hv_putR fp_X2_15 e_s4 (fun _ => rfl) dX2_init_14 ?_
  refine hv_aload_n 0 dX2_init_17 rfl rfl ?_
  refine hv_bipush (v := 120) dX2_init_18 (by decide) ?_
  obtain ⟨a5, e_a5, h⟩ := hq_nm h
  obtain ⟨s6, e_s6, h⟩ := hq_nm h
  refine hv_newa (atype := .int) (ty := 0) (n' := 120) (by decide) rfl q163 (by decide) (by decide) (by decide) dX2_init_20 ?_
  rw [show hk_mk s4 (100 + 0) 120 120 = s6 from e_s6.symm, ← e_a5]
  obtain ⟨s7, e_s7, h⟩ := hq_ob h
  refine hv_putR fp_X2_19 e_s7 (fun _ => rfl) dX2_init_22 ?_
  refine hv_aload_n 0 dX2_init_25 rfl rfl ?_
  refine hv_bipush (v := 120) dX2_init_26 (by decide) ?_
  obtain ⟨a8, e_a8, h⟩ := hq_nm h
  obtain ⟨s9, e_s9, h⟩ := hq_nm h
  refine hv_newa (atype := .int) (ty := 0) (n' := 120) (by decide) rfl q163 (by decide) (by decide) (by decide) dX2_init_28 ?_
  rw [show hk_mk s7 (100 + 0) 120 120 = s9 from e_s9.symm, ← e_a8]
  obtain ⟨s10, e_s10, h⟩ := hq_ob h
  refine hv_putR fp_X2_22 e_s10 (fun _ => rfl) dX2_init_30 ?_
  refine hv_aload_n 0 dX2_init_33 rfl rfl ?_
  refine hv_bipush (v := 120) dX2_init_34 (by decide) ?_
  obtain ⟨a11, e_a11, h⟩ := hq_nm h
  obtain ⟨s12, e_s12, h⟩ := hq_nm h
  refine hv_newa (atype := .long) (ty := 4) (n' := 120) (by decide) rfl q226 (by decide) (by decide) (by decide) dX2_init_36 ?_
  rw [show hk_mk s10 (100 + 4) 120 120 = s12 from e_s12.symm, ← e_a11]
  obtain ⟨s13, e_s13, h⟩ := hq_ob h
  refine hv_putR fp_X2_25 e_s13 (fun _ => rfl) dX2_init_38 ?_
  refine hv_aload_n 0 dX2_init_41 rfl rfl ?_
  refine hv_bipush (v := 120) dX2_init_42 (by decide) ?_
  obtain ⟨a14, e_a14, h⟩ := hq_nm h
  obtain ⟨s15, e_s15, h⟩ := hq_nm h
  refine hv_newa (atype := .long) (ty := 4) (n' := 120) (by decide) rfl q226 (by decide) (by decide) (by decide) dX2_init_44 ?_
  rw [show hk_mk s13 (100 + 4) 120 120 = s15 from e_s15.symm, ← e_a14]
  obtain ⟨s16, e_s16, h⟩ := hq_ob h
  refine hv_putR fp_X2_29 e_s16 (fun _ => rfl) dX2_init_46 ?_
  refine hv_aload_n 0 dX2_init_49 rfl rfl ?_
  refine hv_bipush (v := 120) dX2_init_50 (by decide) ?_
  obtain ⟨a17, e_a17, h⟩ := hq_nm h
  obtain ⟨s18, e_s18, h⟩ := hq_nm h
  refine hv_newa (atype := .long) (ty := 4) (n' := 120) (by decide) rfl q226 (by decide) (by decide) (by decide) dX2_init_52 ?_
  rw [show hk_mk s16 (100 + 4) 120 120 = s18 from e_s18.symm, ← e_a17]
  obtain ⟨s19, e_s19, h⟩ := hq_ob h
  refine hv_putR fp_X2_32 e_s19 (fun _ => rfl) dX2_init_54 ?_
  refine hv_aload_n 0 dX2_init_57 rfl rfl ?_
  refine hv_bipush (v := 6) dX2_init_58 (by decide) ?_
  obtain ⟨a20, e_a20, h⟩ := hq_nm h
  obtain ⟨s21, e_s21, h⟩ := hq_nm h
  refine hv_newa (atype := .long) (ty := 4) (n' := 6) (by decide) rfl q226 (by decide) (by decide) (by decide) dX2_init_60 ?_
  rw [show hk_mk s19 (100 + 4) 6 6 = s21 from e_s21.symm, ← e_a20]
  obtain ⟨s22, e_s22, h⟩ := hq_ob h
  refine hv_putR fp_X2_35 e_s22 (fun _ => rfl) dX2_init_62 ?_
  have h := Option.some.inj h
  subst h
  exact hv_vret rfl dX2_init_65
def xHead_init (th : Nat) (s0 : hk_St) : Option hk_St :=
  hk_nm (hk_nx s0) fun a1 =>
  hk_nm (hk_mk s0 100 5 5) fun s2 =>
  (hk_pR [3] 300 s2 th (some a1)).bind fun s3 =>
  hk_nm (hk_nx s3) fun a4 =>
  hk_nm (hk_mk s3 105 60 60) fun s5 =>
  (hk_pR [3] 301 s5 th (some a4)).bind fun s6 =>
  some s6
abbrev N_xHead_init (l : Launch) : hk_N := (l, cX3_init, "HeadReckons$Head", 1, none, 1, 20, true)
set_option maxHeartbeats 4000000 in
theorem wk_xHead_init {l : Launch} {Gd : hk_G} {th : Nat} {s0 : hk_St} {fin : hk_St} (h : xHead_init th s0 = some fin) : hk_Met Gd l yX3_init cX3_init 1 none 1 20 [.ref th] s0 none fin := by
  refine hk_start "HeadReckons$Head" true (by decide +kernel) rfl (by decide) (Nat.le_of_ble_eq_true rfl) ?_
  show hk_V Gd (N_xHead_init l) (hk_end Gd s0 none fin) 0 [(0, .ref th)] [] s0
  unfold xHead_init at h
  refine hv_aload_n 0 dX3_init_0 rfl rfl ?_
  refine hv_objInit q233 q144 q145 dX3_init_1 (Nat.le_of_ble_eq_true rfl) (Nat.le_of_ble_eq_true rfl) ?_
  refine hv_aload_n 0 dX3_init_4 rfl rfl ?_
  refine hv_iconst (v := 5) dX3_init_5 (by decide) ?_
  obtain ⟨a1, e_a1, h⟩ := hq_nm h
  obtain ⟨s2, e_s2, h⟩ := hq_nm h
  refine hv_newa (atype := .int) (ty := 0) (n' := 5) (by decide) rfl q163 (by decide) (by decide) (by decide) dX3_init_6 ?_
  rw [show hk_mk s0 (100 + 0) 5 5 = s2 from e_s2.symm, ← e_a1]
  obtain ⟨s3, e_s3, h⟩ := hq_ob h
  refine hv_putR fp_X3_9 e_s3 (fun _ => rfl) dX3_init_8 ?_
  refine hv_aload_n 0 dX3_init_11 rfl rfl ?_
  refine hv_bipush (v := 60) dX3_init_12 (by decide) ?_
  obtain ⟨a4, e_a4, h⟩ := hq_nm h
  obtain ⟨s5, e_s5, h⟩ := hq_nm h
  refine hv_newq (ty := 5) (n' := 60) (by decide) (by decide) rfl q234 q235 (by decide) (by decide) (by decide) dX3_init_14 ?_
  rw [show hk_mk s3 (100 + 5) 60 60 = s5 from e_s5.symm, ← e_a4]
  obtain ⟨s6, e_s6, h⟩ := hq_ob h
  refine hv_putR fp_X3_17 e_s6 (fun _ => rfl) dX3_init_17 ?_
  have h := Option.some.inj h
  subst h
  exact hv_vret rfl dX3_init_20
def x_init (th : Nat) (s0 : hk_St) : Option hk_St :=
  hk_nm (hk_nx s0) fun a1 =>
  hk_nm (hk_mk s0 101 120 120) fun s2 =>
  (hk_pR [0] 0 s2 th (some a1)).bind fun s3 =>
  hk_nm (hk_nx s3) fun a4 =>
  hk_nm (hk_mk s3 106 6 6) fun s5 =>
  (hk_pR [0] 2 s5 th (some a4)).bind fun s6 =>
  hk_nm (hk_nx s6) fun a7 =>
  hk_nm (hk_mk s6 107 40 40) fun s8 =>
  (hk_pR [0] 4 s8 th (some a7)).bind fun s9 =>
  hk_nm (hk_nx s9) fun a10 =>
  hk_nm (hk_mk s9 1 0 1) fun s11 =>
  (xFacts_init a10 s11).bind fun s12 =>
  (hk_pR [0] 8 s12 th (some a10)).bind fun s13 =>
  hk_nm (hk_nx s13) fun a14 =>
  hk_nm (hk_mk s13 2 0 16) fun s15 =>
  (xActs_init a14 th s15).bind fun s16 =>
  (hk_pR [0] 9 s16 th (some a14)).bind fun s17 =>
  hk_nm (hk_nx s17) fun a18 =>
  hk_nm (hk_mk s17 108 40 40) fun s19 =>
  (hk_pR [0] 10 s19 th (some a18)).bind fun s20 =>
  hk_nm (hk_nx s20) fun a21 =>
  hk_nm (hk_mk s20 100 8 8) fun s22 =>
  (hk_pR [0] 12 s22 th (some a21)).bind fun s23 =>
  hk_nm (hk_nx s23) fun a24 =>
  hk_nm (hk_mk s23 3 0 3) fun s25 =>
  (xHead_init a24 s25).bind fun s26 =>
  (hk_pR [0] 14 s26 th (some a24)).bind fun s27 =>
  hk_nm (hk_nx s27) fun a28 =>
  hk_nm (hk_mk s27 101 24 24) fun s29 =>
  (hk_pR [0] 19 s29 th (some a28)).bind fun s30 =>
  hk_nm (hk_nx s30) fun a31 =>
  hk_nm (hk_mk s30 109 50 50) fun s32 =>
  (hk_pR [0] 20 s32 th (some a31)).bind fun s33 =>
  hk_nm (hk_nx s33) fun a34 =>
  hk_nm (hk_mk s33 110 6 6) fun s35 =>
  (hk_pR [0] 22 s35 th (some a34)).bind fun s36 =>
  some s36
abbrev N_x_init (l : Launch) : hk_N := (l, cX0_init, "HeadReckons", 1, none, 2, 41, true)
set_option maxHeartbeats 4000000 in
theorem wk_x_init {l : Launch} {Gd : hk_G} {th : Nat} {s0 : hk_St} {fin : hk_St} (h : x_init th s0 = some fin) : hk_Met Gd l yX0_init cX0_init 1 none 2 41 [.ref th] s0 none fin := by
  refine hk_start "HeadReckons" true (by decide +kernel) rfl (by decide) (Nat.le_of_ble_eq_true rfl) ?_
  show hk_V Gd (N_x_init l) (hk_end Gd s0 none fin) 0 [(0, .ref th)] [] s0
  unfold x_init at h
  refine hv_aload_n 0 dX0_init_0 rfl rfl ?_
  refine hv_objInit q143 q144 q145 dX0_init_1 (Nat.le_of_ble_eq_true rfl) (Nat.le_of_ble_eq_true rfl) ?_
  refine hv_aload_n 0 dX0_init_4 rfl rfl ?_
  refine hv_bipush (v := 120) dX0_init_5 (by decide) ?_
  obtain ⟨a1, e_a1, h⟩ := hq_nm h
  obtain ⟨s2, e_s2, h⟩ := hq_nm h
  refine hv_newa (atype := .byte) (ty := 1) (n' := 120) (by decide) rfl q162 (by decide) (by decide) (by decide) dX0_init_7 ?_
  rw [show hk_mk s0 (100 + 1) 120 120 = s2 from e_s2.symm, ← e_a1]
  obtain ⟨s3, e_s3, h⟩ := hq_ob h
  refine hv_putR fp_X0_9 e_s3 (fun _ => rfl) dX0_init_9 ?_
  refine hv_aload_n 0 dX0_init_12 rfl rfl ?_
  refine hv_bipush (v := 6) dX0_init_13 (by decide) ?_
  obtain ⟨a4, e_a4, h⟩ := hq_nm h
  obtain ⟨s5, e_s5, h⟩ := hq_nm h
  refine hv_newq (ty := 6) (n' := 6) (by decide) (by decide) rfl q146 q147 (by decide) (by decide) (by decide) dX0_init_15 ?_
  rw [show hk_mk s3 (100 + 6) 6 6 = s5 from e_s5.symm, ← e_a4]
  obtain ⟨s6, e_s6, h⟩ := hq_ob h
  refine hv_putR fp_X0_15 e_s6 (fun _ => rfl) dX0_init_18 ?_
  refine hv_aload_n 0 dX0_init_21 rfl rfl ?_
  refine hv_bipush (v := 40) dX0_init_22 (by decide) ?_
  obtain ⟨a7, e_a7, h⟩ := hq_nm h
  obtain ⟨s8, e_s8, h⟩ := hq_nm h
  refine hv_newq (ty := 7) (n' := 40) (by decide) (by decide) rfl q148 q149 (by decide) (by decide) (by decide) dX0_init_24 ?_
  rw [show hk_mk s6 (100 + 7) 40 40 = s8 from e_s8.symm, ← e_a7]
  obtain ⟨s9, e_s9, h⟩ := hq_ob h
  refine hv_putR fp_X0_21 e_s9 (fun _ => rfl) dX0_init_27 ?_
  refine hv_aload_n 0 dX0_init_30 rfl rfl ?_
  obtain ⟨a10, e_a10, h⟩ := hq_nm h
  obtain ⟨s11, e_s11, h⟩ := hq_nm h
  refine hv_new (ci := 1) (r := (RX1, TX1, 1)) rfl hk_ok1 (by decide) q150 q151 q93 dX0_init_31 ?_
  rw [show hk_mk s9 1 0 ((RX1, TX1, 1) : vw_C).2.2 = s11 from e_s11.symm, ← e_a10]
  refine hv_dup dX0_init_34 rfl ?_
  obtain ⟨s12, e_s12, h⟩ := hq_ob h
  refine hv_callIN [] [.ref a10, .ref th] [.ref a10, .ref th] (wk_xFacts_init e_s12) cs_X0_27 rfl ⟨Nat.le_of_ble_eq_true rfl, Nat.le_of_ble_eq_true rfl⟩ rfl (Nat.le_of_ble_eq_true rfl) rfl dX0_init_35 ?_
  obtain ⟨s13, e_s13, h⟩ := hq_ob h
  refine hv_putR fp_X0_28 e_s13 (fun _ => rfl) dX0_init_38 ?_
  refine hv_aload_n 0 dX0_init_41 rfl rfl ?_
  obtain ⟨a14, e_a14, h⟩ := hq_nm h
  obtain ⟨s15, e_s15, h⟩ := hq_nm h
  refine hv_new (ci := 2) (r := (RX2, TX2, 16)) rfl hk_ok2 (by decide) q164 q165 q94 dX0_init_42 ?_
  rw [show hk_mk s13 2 0 ((RX2, TX2, 16) : vw_C).2.2 = s15 from e_s15.symm, ← e_a14]
  refine hv_dup dX0_init_45 rfl ?_
  refine hv_aload_n 0 dX0_init_46 rfl rfl ?_
  obtain ⟨s16, e_s16, h⟩ := hq_ob h
  refine hv_callIN [.ref th] [.ref a14, .ref th] [.ref a14, .ref th] (wk_xActs_init e_s16) cs_X0_34 rfl ⟨Nat.le_of_ble_eq_true rfl, Nat.le_of_ble_eq_true rfl⟩ rfl (Nat.le_of_ble_eq_true rfl) rfl dX0_init_47 ?_
  obtain ⟨s17, e_s17, h⟩ := hq_ob h
  refine hv_putR fp_X0_37 e_s17 (fun _ => rfl) dX0_init_50 ?_
  refine hv_aload_n 0 dX0_init_53 rfl rfl ?_
  refine hv_bipush (v := 40) dX0_init_54 (by decide) ?_
  obtain ⟨a18, e_a18, h⟩ := hq_nm h
  obtain ⟨s19, e_s19, h⟩ := hq_nm h
  refine hv_newq (ty := 8) (n' := 40) (by decide) (by decide) rfl q227 q228 (by decide) (by decide) (by decide) dX0_init_56 ?_
  rw [show hk_mk s17 (100 + 8) 40 40 = s19 from e_s19.symm, ← e_a18]
  obtain ⟨s20, e_s20, h⟩ := hq_ob h
  refine hv_putR fp_X0_43 e_s20 (fun _ => rfl) dX0_init_59 ?_
  refine hv_aload_n 0 dX0_init_62 rfl rfl ?_
  refine hv_bipush (v := 8) dX0_init_63 (by decide) ?_
  obtain ⟨a21, e_a21, h⟩ := hq_nm h
  obtain ⟨s22, e_s22, h⟩ := hq_nm h
  refine hv_newa (atype := .int) (ty := 0) (n' := 8) (by decide) rfl q163 (by decide) (by decide) (by decide) dX0_init_65 ?_
  rw [show hk_mk s20 (100 + 0) 8 8 = s22 from e_s22.symm, ← e_a21]
  obtain ⟨s23, e_s23, h⟩ := hq_ob h
  refine hv_putR fp_X0_47 e_s23 (fun _ => rfl) dX0_init_67 ?_
  refine hv_aload_n 0 dX0_init_70 rfl rfl ?_
  obtain ⟨a24, e_a24, h⟩ := hq_nm h
  obtain ⟨s25, e_s25, h⟩ := hq_nm h
  refine hv_new (ci := 3) (r := (RX3, TX3, 3)) rfl hk_ok3 (by decide) q146 q229 q95 dX0_init_71 ?_
  rw [show hk_mk s23 3 0 ((RX3, TX3, 3) : vw_C).2.2 = s25 from e_s25.symm, ← e_a24]
  refine hv_dup dX0_init_74 rfl ?_
  obtain ⟨s26, e_s26, h⟩ := hq_ob h
  refine hv_callIN [] [.ref a24, .ref th] [.ref a24, .ref th] (wk_xHead_init e_s26) cs_X0_51 rfl ⟨Nat.le_of_ble_eq_true rfl, Nat.le_of_ble_eq_true rfl⟩ rfl (Nat.le_of_ble_eq_true rfl) rfl dX0_init_75 ?_
  obtain ⟨s27, e_s27, h⟩ := hq_ob h
  refine hv_putR fp_X0_52 e_s27 (fun _ => rfl) dX0_init_78 ?_
  refine hv_aload_n 0 dX0_init_81 rfl rfl ?_
  refine hv_bipush (v := 24) dX0_init_82 (by decide) ?_
  obtain ⟨a28, e_a28, h⟩ := hq_nm h
  obtain ⟨s29, e_s29, h⟩ := hq_nm h
  refine hv_newa (atype := .byte) (ty := 1) (n' := 24) (by decide) rfl q162 (by decide) (by decide) (by decide) dX0_init_84 ?_
  rw [show hk_mk s27 (100 + 1) 24 24 = s29 from e_s29.symm, ← e_a28]
  obtain ⟨s30, e_s30, h⟩ := hq_ob h
  refine hv_putR fp_X0_56 e_s30 (fun _ => rfl) dX0_init_86 ?_
  refine hv_aload_n 0 dX0_init_89 rfl rfl ?_
  refine hv_bipush (v := 50) dX0_init_90 (by decide) ?_
  obtain ⟨a31, e_a31, h⟩ := hq_nm h
  obtain ⟨s32, e_s32, h⟩ := hq_nm h
  refine hv_newq (ty := 9) (n' := 50) (by decide) (by decide) rfl q248 q249 (by decide) (by decide) (by decide) dX0_init_92 ?_
  rw [show hk_mk s30 (100 + 9) 50 50 = s32 from e_s32.symm, ← e_a31]
  obtain ⟨s33, e_s33, h⟩ := hq_ob h
  refine hv_putR fp_X0_61 e_s33 (fun _ => rfl) dX0_init_95 ?_
  refine hv_aload_n 0 dX0_init_98 rfl rfl ?_
  refine hv_bipush (v := 6) dX0_init_99 (by decide) ?_
  obtain ⟨a34, e_a34, h⟩ := hq_nm h
  obtain ⟨s35, e_s35, h⟩ := hq_nm h
  refine hv_newq (ty := 10) (n' := 6) (by decide) (by decide) rfl q250 q251 (by decide) (by decide) (by decide) dX0_init_101 ?_
  rw [show hk_mk s33 (100 + 10) 6 6 = s35 from e_s35.symm, ← e_a34]
  obtain ⟨s36, e_s36, h⟩ := hq_ob h
  refine hv_putR fp_X0_67 e_s36 (fun _ => rfl) dX0_init_104 ?_
  have h := Option.some.inj h
  subst h
  exact hv_vret rfl dX0_init_107
def x_in (p1 : Int32) (p2 : Int32) (p3 : Int32) : Int32 :=
  if p1 < p2 then
    (0 : Int32)
  else
  if p3 < p1 then
    (0 : Int32)
  else
  (1 : Int32)
theorem bz_x_in {p1 : Int32} {p2 : Int32} {p3 : Int32} : x_in p1 p2 p3 &&& 1 = x_in p1 p2 p3 := by
  unfold x_in
  try unfold hk_nm
  repeat' split
  all_goals first | rfl
abbrev N_x_in (l : Launch) : hk_N := (l, cX0_in, "HeadReckons", 3, (some .boolean), 0, 0, false)
set_option maxHeartbeats 4000000 in
theorem wk_x_in {l : Launch} {Gd : hk_G} {st : hk_St} {p1 : Int32} {p2 : Int32} {p3 : Int32} {r : Int32} (h : x_in p1 p2 p3 = r) : hk_Met Gd l yX0_in cX0_in 3 (some .boolean) 0 0 [.int p1, .int p2, .int p3] st (some (.int r)) st := by
  refine hk_start "HeadReckons" false (by decide +kernel) rfl (by decide) (Nat.le_of_ble_eq_true rfl) ?_
  show hk_V Gd (N_x_in l) (hk_end Gd st (some (.int r)) st) 0 [(0, .int p1), (1, .int p2), (2, .int p3)] [] st
  unfold x_in at h
  refine hv_iload_n 0 dX0_in_0 rfl rfl ?_
  refine hv_iload_n 1 dX0_in_1 rfl rfl ?_
  refine hv_icmp_lt (tgt := 14) dX0_in_2 (by decide) (fun c1 => ?_) (fun c1 => ?_)
  · replace h := hq_ip c1 h
    refine hv_iconst (v := 0) dX0_in_14 (by decide) ?_
    subst h
    exact hv_zret (ty := .boolean) rfl rfl dX0_in_15
  · replace h := hq_in c1 h
    refine hv_iload_n 0 dX0_in_5 rfl rfl ?_
    refine hv_iload_n 2 dX0_in_6 rfl rfl ?_
    refine hv_icmp_gt (tgt := 14) dX0_in_7 (by decide) (fun c2 => ?_) (fun c2 => ?_)
    · replace h := hq_ip c2 h
      refine hv_iconst (v := 0) dX0_in_14 (by decide) ?_
      subst h
      exact hv_zret (ty := .boolean) rfl rfl dX0_in_15
    · replace h := hq_in c2 h
      refine hv_iconst (v := 1) dX0_in_10 (by decide) ?_
      refine hv_goto (tgt := 15) dX0_in_11 (by decide) ?_
      subst h
      exact hv_zret (ty := .boolean) rfl rfl dX0_in_15
def x_feed_L27b (th : Nat) (p1 : Int32) (p2 : Int32) (e0 : hk_St → Option (Int32 × hk_St)) (rc : Int32 → hk_St → Option (Int32 × hk_St)) (v4 : Int32) (s5 : hk_St) : Option (Int32 × hk_St) :=
  if p1 ≤ v4 then
    e0 s5
  else
  (hk_gR [0] 0 s5 th).bind fun x8 =>
  (hk_gI [0] 1 s5 th).bind fun x9 =>
  hk_nn x8 fun a10 =>
  (hk_tI 1 s5 a10 x9 ((p2 >>> (((8 : Int32) * v4) &&& 31)).toInt8.toInt32)).bind fun s11 =>
  (hk_gI [0] 1 s11 th).bind fun x12 =>
  (hk_pI [0] 1 s11 th (x12 + (1 : Int32))).bind fun s13 =>
  hk_nm (v4 + (1 : Int32)) fun x14 =>
  rc x14 s13
def x_feed_L27 (th : Nat) (p1 : Int32) (p2 : Int32) (e0 : hk_St → Option (Int32 × hk_St)) : Nat → Int32 → hk_St → Option (Int32 × hk_St)
  | 0 => fun _ _ => none
  | n + 1 => x_feed_L27b th p1 p2 e0 (x_feed_L27 th p1 p2 e0 n)
def x_feed (th : Nat) (p1 : Int32) (p2 : Int32) (s0 : hk_St) : Option (Int32 × hk_St) :=
  if (x_in p1 (1 : Int32) (4 : Int32)) = 0 then
    some ((-1 : Int32), s0)
  else
  (hk_gI [0] 1 s0 th).bind fun x2 =>
    if (x2 + p1) ≤ (120 : Int32) then
      x_feed_L27 th p1 p2  (fun (s6 : hk_St) =>
        (hk_gI [0] 1 s6 th).bind fun x15 =>
        some (x15, s6)) hk_F (0 : Int32) s0
    else
    some ((-3 : Int32), s0)
abbrev N_x_feed (l : Launch) : hk_N := (l, cX0_feed, "HeadReckons", 4, (some .int), 1, 22, false)
set_option maxHeartbeats 4000000 in
theorem wk_x_feed_L27b {l : Launch} {Gd : hk_G} {th : Nat} {p1 : Int32} {p2 : Int32} {s0 : hk_St} {r : Int32} {fin : hk_St} {e0 : hk_St → Option (Int32 × hk_St)} {rc : Int32 → hk_St → Option (Int32 × hk_St)} (hrc : ∀ (v4 : Int32) (s5 : hk_St), rc v4 s5 = some (r, fin) → hk_V Gd (N_x_feed l) (hk_end Gd s0 (some (.int r)) fin) 27 [(0, .ref th), (1, .int p1), (2, .int p2), (3, .int v4)] [] s5) (he0 : ∀ (s6 : hk_St), e0 s6 = some (r, fin) → hk_V Gd (N_x_feed l) (hk_end Gd s0 (some (.int r)) fin) 64 [(0, .ref th)] [] s6) {v4 : Int32} {s5 : hk_St} (h : x_feed_L27b th p1 p2 e0 rc v4 s5 = some (r, fin)) : hk_V Gd (N_x_feed l) (hk_end Gd s0 (some (.int r)) fin) 27 [(0, .ref th), (1, .int p1), (2, .int p2), (3, .int v4)] [] s5 := by
  unfold x_feed_L27b at h
  refine hv_iload_n 3 dX0_feed_27 rfl rfl ?_
  refine hv_iload_n 1 dX0_feed_28 rfl rfl ?_
  refine hv_icmp_ge (tgt := 64) dX0_feed_29 (by decide) (fun c7 => ?_) (fun c7 => ?_)
  · replace h := hq_ip c7 h
    refine hv_sub [0] rfl ?_
    exact he0 _ h
  · replace h := hq_in c7 h
    refine hv_aload_n 0 dX0_feed_32 rfl rfl ?_
    obtain ⟨x8, e_x8, h⟩ := hq_ob h
    refine hv_getR fl_X0_9 e_x8 dX0_feed_33 ?_
    refine hv_aload_n 0 dX0_feed_36 rfl rfl ?_
    obtain ⟨x9, e_x9, h⟩ := hq_ob h
    refine hv_getI fl_X0_77 e_x9 dX0_feed_37 ?_
    refine hv_iload_n 2 dX0_feed_40 rfl rfl ?_
    refine hv_bipush (v := 8) dX0_feed_41 (by decide) ?_
    refine hv_iload_n 3 dX0_feed_43 rfl rfl ?_
    refine hv_imul dX0_feed_44 ?_
    refine hv_ishr dX0_feed_45 ?_
    refine hv_i2b dX0_feed_46 ?_
    obtain ⟨a10, e_a10, h⟩ := hq_nn h
    rw [e_a10]
    obtain ⟨s11, e_s11, h⟩ := hq_ob h
    refine hv_bast e_s11 dX0_feed_47 ?_
    refine hv_aload_n 0 dX0_feed_48 rfl rfl ?_
    refine hv_dup dX0_feed_49 rfl ?_
    obtain ⟨x12, e_x12, h⟩ := hq_ob h
    refine hv_getI fl_X0_77 e_x12 dX0_feed_50 ?_
    refine hv_iconst (v := 1) dX0_feed_53 (by decide) ?_
    refine hv_iadd dX0_feed_54 ?_
    obtain ⟨s13, e_s13, h⟩ := hq_ob h
    refine hv_putI fp_X0_77 e_s13 (fun q => by cases q) dX0_feed_55 ?_
    obtain ⟨x14, e_x14, h⟩ := hq_nm h
    refine hv_iinc (v := x14) (L' := [(3, .int x14), (0, .ref th), (1, .int p1), (2, .int p2)]) 3 dX0_feed_58 rfl (by rw [e_x14]; rfl) (Nat.le_of_ble_eq_true rfl) rfl ?_
    refine hv_goto (tgt := 27) dX0_feed_61 (by decide) ?_
    refine hv_sub [1, 2, 3, 0] rfl ?_
    exact hrc _ _ h
theorem wk_x_feed_L27 {l : Launch} {Gd : hk_G} {th : Nat} {p1 : Int32} {p2 : Int32} {s0 : hk_St} {r : Int32} {fin : hk_St} {e0 : hk_St → Option (Int32 × hk_St)} (he0 : ∀ (s6 : hk_St), e0 s6 = some (r, fin) → hk_V Gd (N_x_feed l) (hk_end Gd s0 (some (.int r)) fin) 64 [(0, .ref th)] [] s6) : ∀ (n : Nat) (v4 : Int32) (s5 : hk_St), x_feed_L27 th p1 p2 e0 n v4 s5 = some (r, fin) → hk_V Gd (N_x_feed l) (hk_end Gd s0 (some (.int r)) fin) 27 [(0, .ref th), (1, .int p1), (2, .int p2), (3, .int v4)] [] s5 := by
  intro n
  induction n with
  | zero => intro v4 s5 h; cases h
  | succ n ih => intro v4 s5 h; exact wk_x_feed_L27b  ih he0 h
set_option maxHeartbeats 4000000 in
theorem wk_x_feed {l : Launch} {Gd : hk_G} {th : Nat} {p1 : Int32} {p2 : Int32} {s0 : hk_St} {r : Int32} {fin : hk_St} (h : x_feed th p1 p2 s0 = some (r, fin)) : hk_Met Gd l yX0_feed cX0_feed 4 (some .int) 1 22 [.ref th, .int p1, .int p2] s0 (some (.int r)) fin := by
  refine hk_start "HeadReckons" false (by decide +kernel) rfl (by decide) (Nat.le_of_ble_eq_true rfl) ?_
  show hk_V Gd (N_x_feed l) (hk_end Gd s0 (some (.int r)) fin) 0 [(0, .ref th), (1, .int p1), (2, .int p2)] [] s0
  unfold x_feed at h
  refine hv_iload_n 1 dX0_feed_0 rfl rfl ?_
  refine hv_iconst (v := 1) dX0_feed_1 (by decide) ?_
  refine hv_iconst (v := 4) dX0_feed_2 (by decide) ?_
  refine hv_callS [.int p1, .int (1 : Int32), .int (4 : Int32)] [] [.int (x_in p1 (1 : Int32) (4 : Int32))] (wk_x_in rfl) cs_X0_73 rfl ⟨Nat.le_of_ble_eq_true rfl, Nat.le_of_ble_eq_true rfl⟩ rfl (Nat.le_of_ble_eq_true rfl) rfl dX0_feed_3 ?_
  refine hv_if_ne (tgt := 11) dX0_feed_6 (by decide) (fun c1 => ?_) (fun c1 => ?_)
  · replace h := hq_in c1 h
    refine hv_aload_n 0 dX0_feed_11 rfl rfl ?_
    obtain ⟨x2, e_x2, h⟩ := hq_ob h
    refine hv_getI fl_X0_77 e_x2 dX0_feed_12 ?_
    refine hv_iload_n 1 dX0_feed_15 rfl rfl ?_
    refine hv_iadd dX0_feed_16 ?_
    refine hv_bipush (v := 120) dX0_feed_17 (by decide) ?_
    refine hv_icmp_le (tgt := 25) dX0_feed_19 (by decide) (fun c3 => ?_) (fun c3 => ?_)
    · replace h := hq_ip c3 h
      refine hv_iconst (v := 0) dX0_feed_25 (by decide) ?_
      refine hv_istore_n (L' := [(3, .int (0 : Int32)), (0, .ref th), (1, .int p1), (2, .int p2)]) dX0_feed_26 rfl (Nat.le_of_ble_eq_true rfl) rfl ?_
      refine hv_sub [1, 2, 3, 0] rfl ?_
      refine wk_x_feed_L27  ?_ hk_F _ _ h
      · intro s6 h
        refine hv_aload_n 0 dX0_feed_64 rfl rfl ?_
        obtain ⟨x15, e_x15, h⟩ := hq_ob h
        refine hv_getI fl_X0_77 e_x15 dX0_feed_65 ?_
        obtain ⟨h1, h2⟩ := hq_ret h
        subst h1
        subst h2
        exact hv_iret rfl dX0_feed_68
    · replace h := hq_in c3 h
      refine hv_bipush (v := -3) dX0_feed_22 (by decide) ?_
      obtain ⟨h1, h2⟩ := hq_ret h
      subst h1
      subst h2
      exact hv_iret rfl dX0_feed_24
  · replace h := hq_ip c1 h
    refine hv_iconst (v := -1) dX0_feed_9 (by decide) ?_
    obtain ⟨h1, h2⟩ := hq_ret h
    subst h1
    subst h2
    exact hv_iret rfl dX0_feed_10
def x_isTold (p1 : Int32) (p2 : Int32) : Int32 :=
  if p1 = 0 then
    (x_in p2 (0 : Int32) (99 : Int32))
  else
  if p1 = 1 then
    (x_in p2 (0 : Int32) (99 : Int32))
  else
  if p1 = 2 then
    (x_in p2 (0 : Int32) (99 : Int32))
  else
  if p1 = 3 then
    (x_in p2 (9 : Int32) (99 : Int32))
  else
  if p1 = 4 then
    (x_in p2 (1 : Int32) (40 : Int32))
  else
  (0 : Int32)
theorem bz_x_isTold {p1 : Int32} {p2 : Int32} : x_isTold p1 p2 &&& 1 = x_isTold p1 p2 := by
  unfold x_isTold
  try unfold hk_nm
  repeat' split
  all_goals first | rfl | exact bz_x_in
abbrev N_x_isTold (l : Launch) : hk_N := (l, cX0_isTold, "HeadReckons", 2, (some .boolean), 1, 22, false)
set_option maxHeartbeats 4000000 in
theorem wk_x_isTold {l : Launch} {Gd : hk_G} {st : hk_St} {p1 : Int32} {p2 : Int32} {r : Int32} (h : x_isTold p1 p2 = r) : hk_Met Gd l yX0_isTold cX0_isTold 2 (some .boolean) 1 22 [.int p1, .int p2] st (some (.int r)) st := by
  refine hk_start "HeadReckons" false (by decide +kernel) rfl (by decide) (Nat.le_of_ble_eq_true rfl) ?_
  show hk_V Gd (N_x_isTold l) (hk_end Gd st (some (.int r)) st) 0 [(0, .int p1), (1, .int p2)] [] st
  unfold x_isTold at h
  refine hv_iload_n 0 dX0_isTold_0 rfl rfl ?_
  by_cases c1 : p1 = 0
  · replace h := hq_ip c1 h
    refine hv_tableIn (tgt := 36) (off := 35) dX0_isTold_1 (by rw [c1]; decide) (by rw [c1]; decide) (by rw [c1]; rfl) (by decide) ?_
    refine hv_iload_n 1 dX0_isTold_36 rfl rfl ?_
    refine hv_iconst (v := 0) dX0_isTold_37 (by decide) ?_
    refine hv_bipush (v := 99) dX0_isTold_38 (by decide) ?_
    refine hv_callS [.int p2, .int (0 : Int32), .int (99 : Int32)] [] [.int (x_in p2 (0 : Int32) (99 : Int32))] (wk_x_in rfl) cs_X0_73 rfl ⟨Nat.le_of_ble_eq_true rfl, Nat.le_of_ble_eq_true rfl⟩ rfl (Nat.le_of_ble_eq_true rfl) rfl dX0_isTold_40 ?_
    subst h
    exact hv_zret (ty := .boolean) rfl (hk_nz bz_x_in) dX0_isTold_43
  replace h := hq_in c1 h
  by_cases c2 : p1 = 1
  · replace h := hq_ip c2 h
    refine hv_tableIn (tgt := 36) (off := 35) dX0_isTold_1 (by rw [c2]; decide) (by rw [c2]; decide) (by rw [c2]; rfl) (by decide) ?_
    refine hv_iload_n 1 dX0_isTold_36 rfl rfl ?_
    refine hv_iconst (v := 0) dX0_isTold_37 (by decide) ?_
    refine hv_bipush (v := 99) dX0_isTold_38 (by decide) ?_
    refine hv_callS [.int p2, .int (0 : Int32), .int (99 : Int32)] [] [.int (x_in p2 (0 : Int32) (99 : Int32))] (wk_x_in rfl) cs_X0_73 rfl ⟨Nat.le_of_ble_eq_true rfl, Nat.le_of_ble_eq_true rfl⟩ rfl (Nat.le_of_ble_eq_true rfl) rfl dX0_isTold_40 ?_
    subst h
    exact hv_zret (ty := .boolean) rfl (hk_nz bz_x_in) dX0_isTold_43
  replace h := hq_in c2 h
  by_cases c3 : p1 = 2
  · replace h := hq_ip c3 h
    refine hv_tableIn (tgt := 36) (off := 35) dX0_isTold_1 (by rw [c3]; decide) (by rw [c3]; decide) (by rw [c3]; rfl) (by decide) ?_
    refine hv_iload_n 1 dX0_isTold_36 rfl rfl ?_
    refine hv_iconst (v := 0) dX0_isTold_37 (by decide) ?_
    refine hv_bipush (v := 99) dX0_isTold_38 (by decide) ?_
    refine hv_callS [.int p2, .int (0 : Int32), .int (99 : Int32)] [] [.int (x_in p2 (0 : Int32) (99 : Int32))] (wk_x_in rfl) cs_X0_73 rfl ⟨Nat.le_of_ble_eq_true rfl, Nat.le_of_ble_eq_true rfl⟩ rfl (Nat.le_of_ble_eq_true rfl) rfl dX0_isTold_40 ?_
    subst h
    exact hv_zret (ty := .boolean) rfl (hk_nz bz_x_in) dX0_isTold_43
  replace h := hq_in c3 h
  by_cases c4 : p1 = 3
  · replace h := hq_ip c4 h
    refine hv_tableIn (tgt := 44) (off := 43) dX0_isTold_1 (by rw [c4]; decide) (by rw [c4]; decide) (by rw [c4]; rfl) (by decide) ?_
    refine hv_iload_n 1 dX0_isTold_44 rfl rfl ?_
    refine hv_bipush (v := 9) dX0_isTold_45 (by decide) ?_
    refine hv_bipush (v := 99) dX0_isTold_47 (by decide) ?_
    refine hv_callS [.int p2, .int (9 : Int32), .int (99 : Int32)] [] [.int (x_in p2 (9 : Int32) (99 : Int32))] (wk_x_in rfl) cs_X0_73 rfl ⟨Nat.le_of_ble_eq_true rfl, Nat.le_of_ble_eq_true rfl⟩ rfl (Nat.le_of_ble_eq_true rfl) rfl dX0_isTold_49 ?_
    subst h
    exact hv_zret (ty := .boolean) rfl (hk_nz bz_x_in) dX0_isTold_52
  replace h := hq_in c4 h
  by_cases c5 : p1 = 4
  · replace h := hq_ip c5 h
    refine hv_tableIn (tgt := 53) (off := 52) dX0_isTold_1 (by rw [c5]; decide) (by rw [c5]; decide) (by rw [c5]; rfl) (by decide) ?_
    refine hv_iload_n 1 dX0_isTold_53 rfl rfl ?_
    refine hv_iconst (v := 1) dX0_isTold_54 (by decide) ?_
    refine hv_bipush (v := 40) dX0_isTold_55 (by decide) ?_
    refine hv_callS [.int p2, .int (1 : Int32), .int (40 : Int32)] [] [.int (x_in p2 (1 : Int32) (40 : Int32))] (wk_x_in rfl) cs_X0_73 rfl ⟨Nat.le_of_ble_eq_true rfl, Nat.le_of_ble_eq_true rfl⟩ rfl (Nat.le_of_ble_eq_true rfl) rfl dX0_isTold_57 ?_
    subst h
    exact hv_zret (ty := .boolean) rfl (hk_nz bz_x_in) dX0_isTold_60
  replace h := hq_in c5 h
  refine hv_tableD (tgt := 61) [0, 1, 2, 3, 4] dX0_isTold_1 (by decide) (by decide) (List.forall_mem_cons.mpr ⟨lv_neT c1 (by decide), (List.forall_mem_cons.mpr ⟨lv_neT c2 (by decide), (List.forall_mem_cons.mpr ⟨lv_neT c3 (by decide), (List.forall_mem_cons.mpr ⟨lv_neT c4 (by decide), (List.forall_mem_cons.mpr ⟨lv_neT c5 (by decide), (fun _ q => absurd q List.not_mem_nil)⟩)⟩)⟩)⟩)⟩) (by decide) ?_
  refine hv_iconst (v := 0) dX0_isTold_61 (by decide) ?_
  subst h
  exact hv_zret (ty := .boolean) rfl rfl dX0_isTold_62
def x_head_L117b (th : Nat) (v47 : Nat) (v48 : Int32) (v50 : Int32) (v51 : Int32) (e0 : Int32 → Int32 → hk_St → Option (Int32 × hk_St)) (rc : Int32 → Int32 → hk_St → Option (Int32 × hk_St)) (v49 : Int32) (v52 : Int32) (s53 : hk_St) : Option (Int32 × hk_St) :=
  (hk_gI [0] 1 s53 th).bind fun x57 =>
  if x57 ≤ v49 then
    e0 v49 v52 s53
  else
  if (v51 + (2 : Int32)) ≤ v49 then
    e0 v49 v52 s53
  else
  (hk_gR [0] 0 s53 th).bind fun x60 =>
  hk_nn x60 fun a61 =>
  (hk_lI 1 s53 a61 v49).bind fun x62 =>
  if (x_in x62 (48 : Int32) (57 : Int32)) = 0 then
    e0 v49 v52 s53
  else
  (hk_gR [0] 0 s53 th).bind fun x64 =>
  hk_nn x64 fun a65 =>
  (hk_lI 1 s53 a65 v49).bind fun x66 =>
  hk_nm ((((10 : Int32) * v52) + x66) - (48 : Int32)) fun x67 =>
  hk_nm (v49 + (1 : Int32)) fun x68 =>
  rc x68 x67 s53
def x_head_L117 (th : Nat) (v47 : Nat) (v48 : Int32) (v50 : Int32) (v51 : Int32) (e0 : Int32 → Int32 → hk_St → Option (Int32 × hk_St)) : Nat → Int32 → Int32 → hk_St → Option (Int32 × hk_St)
  | 0 => fun _ _ _ => none
  | n + 1 => x_head_L117b th v47 v48 v50 v51 e0 (x_head_L117 th v47 v48 v50 v51 e0 n)
def x_head_L27b (th : Nat) (v18 : Nat) (e0 : Int32 → Int32 → hk_St → Option (Int32 × hk_St)) (rc : Int32 → Int32 → Int32 → hk_St → Option (Int32 × hk_St)) (v19 : Int32) (v20 : Int32) (v21 : Int32) (s22 : hk_St) : Option (Int32 × hk_St) :=
  hk_nm (fun (v26 : Int32) (v27 : Int32) (v28 : Int32) (v29 : Int32) (s30 : hk_St) =>
    (hk_gR [3] 300 s30 v18).bind fun x31 =>
    hk_nn x31 fun a32 =>
    (hk_tI 0 s30 a32 v27 v29).bind fun s33 =>
    hk_nm (v27 + (1 : Int32)) fun x34 =>
    rc v28 v26 x34 s33) fun k188 =>
  hk_nm (fun (v35 : Int32) (v36 : Int32) (v37 : Int32) (v38 : Int32) (s39 : hk_St) =>
    (hk_gI [0] 1 s39 th).bind fun x40 =>
    if x40 ≤ v36 then
      e0 v36 v36 s39
    else
    (hk_gR [0] 0 s39 th).bind fun x42 =>
    hk_nn x42 fun a43 =>
    (hk_lI 1 s39 a43 v36).bind fun x44 =>
    if x44 = v38 then
      hk_nm (v36 + (1 : Int32)) fun x46 =>
      x_head_L117 th v18 v35 v37 x46 (fun (v54 : Int32) (v55 : Int32) (s56 : hk_St) =>
        if v54 = x46 then
          k188 v54 v37 x46 v55 s56
        else
        if (x_isTold v37 v55) = 0 then
          k188 v54 v37 x46 v55 s56
        else
        (hk_gR [3] 300 s56 v18).bind fun x71 =>
          hk_nn x71 fun a72 =>
          (hk_tI 0 s56 a72 v37 v55).bind fun s73 =>
          hk_nm (v37 + (1 : Int32)) fun x74 =>
          rc v35 v54 x74 s73) hk_F x46 (0 : Int32) s39
    else
    e0 v36 v36 s39) fun k82 =>
  if (5 : Int32) ≤ v21 then
    e0 v19 v20 s22
  else
  if 0 ≤ v19 then
    e0 v19 v20 s22
  else
  if v21 = 0 then
    k82 v19 v20 v21 (108 : Int32) s22
  else
  if v21 = (1 : Int32) then
      k82 v19 v20 v21 (97 : Int32) s22
    else
    if v21 = (2 : Int32) then
        k82 v19 v20 v21 (104 : Int32) s22
      else
      if v21 = (3 : Int32) then
          k82 v19 v20 v21 (116 : Int32) s22
        else
        k82 v19 v20 v21 (99 : Int32) s22
def x_head_L27 (th : Nat) (v18 : Nat) (e0 : Int32 → Int32 → hk_St → Option (Int32 × hk_St)) : Nat → Int32 → Int32 → Int32 → hk_St → Option (Int32 × hk_St)
  | 0 => fun _ _ _ _ => none
  | n + 1 => x_head_L27b th v18 e0 (x_head_L27 th v18 e0 n)
def x_head (th : Nat) (s0 : hk_St) : Option (Int32 × hk_St) :=
  hk_nm (fun (v1 : Nat) (v2 : Int32) (s3 : hk_St) =>
    (hk_pI [0] 1 s3 th (0 : Int32)).bind fun s4 =>
    if v2 < 0 then
      (hk_gR [0] 2 s4 th).bind fun x6 =>
      (hk_gI [0] 3 s4 th).bind fun x7 =>
      hk_nn x6 fun a8 =>
      (hk_tR 6 [3] s4 a8 x7 (some v1)).bind fun s9 =>
      (hk_gI [0] 3 s9 th).bind fun x10 =>
      (hk_pI [0] 3 s9 th (x10 + (1 : Int32))).bind fun s11 =>
      (hk_gI [0] 3 s11 th).bind fun x12 =>
      some (x12 - (1 : Int32), s11)
    else
    some ((-100 : Int32) - v2, s4)) fun k220 =>
  (hk_gI [0] 3 s0 th).bind fun x13 =>
  if x13 = (6 : Int32) then
    some ((-3 : Int32), s0)
  else
  hk_nm (hk_nx s0) fun a15 =>
    hk_nm (hk_mk s0 3 0 3) fun s16 =>
    (xHead_init a15 s16).bind fun s17 =>
    x_head_L27 th a15 (fun (v23 : Int32) (v24 : Int32) (s25 : hk_St) =>
      if 0 ≤ v23 then
        k220 a15 v23 s25
      else
      (hk_gI [0] 1 s25 th).bind fun x82 =>
      if x82 ≤ v24 then
        k220 a15 v23 s25
      else
      k220 a15 v24 s25) hk_F (-1 : Int32) (0 : Int32) (0 : Int32) s17
abbrev N_x_head (l : Launch) : hk_N := (l, cX0_head, "HeadReckons", 8, (some .int), 2, 43, false)
set_option maxHeartbeats 4000000 in
theorem wk_x_head_L117b {l : Launch} {Gd : hk_G} {th : Nat} {s0 : hk_St} {r : Int32} {fin : hk_St} {v47 : Nat} {v48 : Int32} {v50 : Int32} {v51 : Int32} {e0 : Int32 → Int32 → hk_St → Option (Int32 × hk_St)} {rc : Int32 → Int32 → hk_St → Option (Int32 × hk_St)} (hrc : ∀ (v49 : Int32) (v52 : Int32) (s53 : hk_St), rc v49 v52 s53 = some (r, fin) → hk_V Gd (N_x_head l) (hk_end Gd s0 (some (.int r)) fin) 117 [(0, .ref th), (1, .ref v47), (2, .int v48), (3, .int v49), (4, .int v50), (6, .int v51), (7, .int v52)] [] s53) (he0 : ∀ (v54 : Int32) (v55 : Int32) (s56 : hk_St), e0 v54 v55 s56 = some (r, fin) → hk_V Gd (N_x_head l) (hk_end Gd s0 (some (.int r)) fin) 172 [(0, .ref th), (1, .ref v47), (2, .int v48), (3, .int v54), (4, .int v50), (6, .int v51), (7, .int v55)] [] s56) {v49 : Int32} {v52 : Int32} {s53 : hk_St} (h : x_head_L117b th v47 v48 v50 v51 e0 rc v49 v52 s53 = some (r, fin)) : hk_V Gd (N_x_head l) (hk_end Gd s0 (some (.int r)) fin) 117 [(0, .ref th), (1, .ref v47), (2, .int v48), (3, .int v49), (4, .int v50), (6, .int v51), (7, .int v52)] [] s53 := by
  unfold x_head_L117b at h
  refine hv_iload_n 3 dX0_head_117 rfl rfl ?_
  refine hv_aload_n 0 dX0_head_118 rfl rfl ?_
  obtain ⟨x57, e_x57, h⟩ := hq_ob h
  refine hv_getI fl_X0_77 e_x57 dX0_head_119 ?_
  refine hv_icmp_ge (tgt := 172) dX0_head_122 (by decide) (fun c58 => ?_) (fun c58 => ?_)
  · replace h := hq_ip c58 h
    exact he0 _ _ _ h
  · replace h := hq_in c58 h
    refine hv_iload_n 3 dX0_head_125 rfl rfl ?_
    refine hv_iload 5 dX0_head_126 rfl ?_
    refine hv_iconst (v := 2) dX0_head_128 (by decide) ?_
    refine hv_iadd dX0_head_129 ?_
    refine hv_icmp_ge (tgt := 172) dX0_head_130 (by decide) (fun c59 => ?_) (fun c59 => ?_)
    · replace h := hq_ip c59 h
      exact he0 _ _ _ h
    · replace h := hq_in c59 h
      refine hv_aload_n 0 dX0_head_133 rfl rfl ?_
      obtain ⟨x60, e_x60, h⟩ := hq_ob h
      refine hv_getR fl_X0_9 e_x60 dX0_head_134 ?_
      refine hv_iload_n 3 dX0_head_137 rfl rfl ?_
      obtain ⟨a61, e_a61, h⟩ := hq_nn h
      rw [e_a61]
      obtain ⟨x62, e_x62, h⟩ := hq_ob h
      refine hv_bald e_x62 dX0_head_138 ?_
      refine hv_bipush (v := 48) dX0_head_139 (by decide) ?_
      refine hv_bipush (v := 57) dX0_head_141 (by decide) ?_
      refine hv_callS [.int x62, .int (48 : Int32), .int (57 : Int32)] [] [.int (x_in x62 (48 : Int32) (57 : Int32))] (wk_x_in rfl) cs_X0_73 rfl ⟨Nat.le_of_ble_eq_true rfl, Nat.le_of_ble_eq_true rfl⟩ rfl (Nat.le_of_ble_eq_true rfl) rfl dX0_head_143 ?_
      refine hv_if_eq (tgt := 172) dX0_head_146 (by decide) (fun c63 => ?_) (fun c63 => ?_)
      · replace h := hq_ip c63 h
        exact he0 _ _ _ h
      · replace h := hq_in c63 h
        refine hv_bipush (v := 10) dX0_head_149 (by decide) ?_
        refine hv_iload 6 dX0_head_151 rfl ?_
        refine hv_imul dX0_head_153 ?_
        refine hv_aload_n 0 dX0_head_154 rfl rfl ?_
        obtain ⟨x64, e_x64, h⟩ := hq_ob h
        refine hv_getR fl_X0_9 e_x64 dX0_head_155 ?_
        refine hv_iload_n 3 dX0_head_158 rfl rfl ?_
        obtain ⟨a65, e_a65, h⟩ := hq_nn h
        rw [e_a65]
        obtain ⟨x66, e_x66, h⟩ := hq_ob h
        refine hv_bald e_x66 dX0_head_159 ?_
        refine hv_iadd dX0_head_160 ?_
        refine hv_bipush (v := 48) dX0_head_161 (by decide) ?_
        refine hv_isub dX0_head_163 ?_
        obtain ⟨x67, e_x67, h⟩ := hq_nm h
        rw [← e_x67]
        refine hv_istore (L' := [(7, .int x67), (0, .ref th), (1, .ref v47), (2, .int v48), (3, .int v49), (4, .int v50), (6, .int v51)]) dX0_head_164 (Nat.le_of_ble_eq_true rfl) rfl ?_
        obtain ⟨x68, e_x68, h⟩ := hq_nm h
        refine hv_iinc (v := x68) (L' := [(3, .int x68), (7, .int x67), (0, .ref th), (1, .ref v47), (2, .int v48), (4, .int v50), (6, .int v51)]) 4 dX0_head_166 rfl (by rw [e_x68]; rfl) (Nat.le_of_ble_eq_true rfl) rfl ?_
        refine hv_goto (tgt := 117) dX0_head_169 (by decide) ?_
        refine hv_sub [2, 3, 4, 0, 5, 6, 1] rfl ?_
        exact hrc _ _ _ h
theorem wk_x_head_L117 {l : Launch} {Gd : hk_G} {th : Nat} {s0 : hk_St} {r : Int32} {fin : hk_St} {v47 : Nat} {v48 : Int32} {v50 : Int32} {v51 : Int32} {e0 : Int32 → Int32 → hk_St → Option (Int32 × hk_St)} (he0 : ∀ (v54 : Int32) (v55 : Int32) (s56 : hk_St), e0 v54 v55 s56 = some (r, fin) → hk_V Gd (N_x_head l) (hk_end Gd s0 (some (.int r)) fin) 172 [(0, .ref th), (1, .ref v47), (2, .int v48), (3, .int v54), (4, .int v50), (6, .int v51), (7, .int v55)] [] s56) : ∀ (n : Nat) (v49 : Int32) (v52 : Int32) (s53 : hk_St), x_head_L117 th v47 v48 v50 v51 e0 n v49 v52 s53 = some (r, fin) → hk_V Gd (N_x_head l) (hk_end Gd s0 (some (.int r)) fin) 117 [(0, .ref th), (1, .ref v47), (2, .int v48), (3, .int v49), (4, .int v50), (6, .int v51), (7, .int v52)] [] s53 := by
  intro n
  induction n with
  | zero => intro v49 v52 s53 h; cases h
  | succ n ih => intro v49 v52 s53 h; exact wk_x_head_L117b  ih he0 h
set_option maxHeartbeats 4000000 in
theorem wk_x_head_L27b {l : Launch} {Gd : hk_G} {th : Nat} {s0 : hk_St} {r : Int32} {fin : hk_St} {v18 : Nat} {e0 : Int32 → Int32 → hk_St → Option (Int32 × hk_St)} {rc : Int32 → Int32 → Int32 → hk_St → Option (Int32 × hk_St)} (hrc : ∀ (v19 : Int32) (v20 : Int32) (v21 : Int32) (s22 : hk_St), rc v19 v20 v21 s22 = some (r, fin) → hk_V Gd (N_x_head l) (hk_end Gd s0 (some (.int r)) fin) 27 [(0, .ref th), (1, .ref v18), (2, .int v19), (3, .int v20), (4, .int v21)] [] s22) (he0 : ∀ (v23 : Int32) (v24 : Int32) (s25 : hk_St), e0 v23 v24 s25 = some (r, fin) → hk_V Gd (N_x_head l) (hk_end Gd s0 (some (.int r)) fin) 206 [(0, .ref th), (1, .ref v18), (2, .int v23), (3, .int v24)] [] s25) {v19 : Int32} {v20 : Int32} {v21 : Int32} {s22 : hk_St} (h : x_head_L27b th v18 e0 rc v19 v20 v21 s22 = some (r, fin)) : hk_V Gd (N_x_head l) (hk_end Gd s0 (some (.int r)) fin) 27 [(0, .ref th), (1, .ref v18), (2, .int v19), (3, .int v20), (4, .int v21)] [] s22 := by
  unfold x_head_L27b at h
  obtain ⟨k188, e_k188, h⟩ := hq_nm h
  have wk188 : ∀ (v26 : Int32) (v27 : Int32) (v28 : Int32) (v29 : Int32) (s30 : hk_St), k188 v26 v27 v28 v29 s30 = some (r, fin) → hk_V Gd (N_x_head l) (hk_end Gd s0 (some (.int r)) fin) 188 [(0, .ref th), (1, .ref v18), (3, .int v26), (4, .int v27), (6, .int v28), (7, .int v29)] [] s30 := by
    intro v26 v27 v28 v29 s30 h
    rw [e_k188] at h
    refine hv_iload 4 dX0_head_188 rfl ?_
    refine hv_istore_n (L' := [(2, .int v28), (0, .ref th), (1, .ref v18), (3, .int v26), (4, .int v27), (6, .int v28), (7, .int v29)]) dX0_head_190 rfl (Nat.le_of_ble_eq_true rfl) rfl ?_
    refine hv_aload_n 2 dX0_head_191 rfl rfl ?_
    obtain ⟨x31, e_x31, h⟩ := hq_ob h
    refine hv_getR fl_X0_88 e_x31 dX0_head_192 ?_
    refine hv_iload 4 dX0_head_195 rfl ?_
    refine hv_iload 6 dX0_head_197 rfl ?_
    obtain ⟨a32, e_a32, h⟩ := hq_nn h
    rw [e_a32]
    obtain ⟨s33, e_s33, h⟩ := hq_ob h
    refine hv_iast e_s33 dX0_head_199 ?_
    obtain ⟨x34, e_x34, h⟩ := hq_nm h
    refine hv_iinc (v := x34) (L' := [(4, .int x34), (2, .int v28), (0, .ref th), (1, .ref v18), (3, .int v26), (6, .int v28), (7, .int v29)]) 4 dX0_head_200 rfl (by rw [e_x34]; rfl) (Nat.le_of_ble_eq_true rfl) rfl ?_
    refine hv_goto (tgt := 27) dX0_head_203 (by decide) ?_
    refine hv_sub [2, 3, 1, 4, 0] rfl ?_
    exact hrc _ _ _ _ h
  clear e_k188
  obtain ⟨k82, e_k82, h⟩ := hq_nm h
  have wk82 : ∀ (v35 : Int32) (v36 : Int32) (v37 : Int32) (v38 : Int32) (s39 : hk_St), k82 v35 v36 v37 v38 s39 = some (r, fin) → hk_V Gd (N_x_head l) (hk_end Gd s0 (some (.int r)) fin) 82 [(0, .ref th), (1, .ref v18), (2, .int v35), (3, .int v36), (4, .int v37)] [.int v38] s39 := by
    intro v35 v36 v37 v38 s39 h
    rw [e_k82] at h
    refine hv_istore (L' := [(5, .int v38), (0, .ref th), (1, .ref v18), (2, .int v35), (3, .int v36), (4, .int v37)]) dX0_head_82 (Nat.le_of_ble_eq_true rfl) rfl ?_
    refine hv_iload_n 4 dX0_head_84 rfl rfl ?_
    refine hv_aload_n 1 dX0_head_85 rfl rfl ?_
    obtain ⟨x40, e_x40, h⟩ := hq_ob h
    refine hv_getI fl_X0_77 e_x40 dX0_head_86 ?_
    refine hv_icmp_ge (tgt := 103) dX0_head_89 (by decide) (fun c41 => ?_) (fun c41 => ?_)
    · replace h := hq_ip c41 h
      refine hv_iload_n 4 dX0_head_103 rfl rfl ?_
      refine hv_istore_n (L' := [(2, .int v36), (5, .int v38), (0, .ref th), (1, .ref v18), (3, .int v36), (4, .int v37)]) dX0_head_104 rfl (Nat.le_of_ble_eq_true rfl) rfl ?_
      refine hv_goto (tgt := 206) dX0_head_105 (by decide) ?_
      refine hv_sub [2, 3, 0, 4] rfl ?_
      exact he0 _ _ _ h
    · replace h := hq_in c41 h
      refine hv_aload_n 1 dX0_head_92 rfl rfl ?_
      obtain ⟨x42, e_x42, h⟩ := hq_ob h
      refine hv_getR fl_X0_9 e_x42 dX0_head_93 ?_
      refine hv_iload_n 4 dX0_head_96 rfl rfl ?_
      obtain ⟨a43, e_a43, h⟩ := hq_nn h
      rw [e_a43]
      obtain ⟨x44, e_x44, h⟩ := hq_ob h
      refine hv_bald e_x44 dX0_head_97 ?_
      refine hv_iload 0 dX0_head_98 rfl ?_
      refine hv_icmp_eq (tgt := 108) dX0_head_100 (by decide) (fun c45 => ?_) (fun c45 => ?_)
      · replace h := hq_ip c45 h
        obtain ⟨x46, e_x46, h⟩ := hq_nm h
        refine hv_iinc (v := x46) (L' := [(3, .int x46), (5, .int v38), (0, .ref th), (1, .ref v18), (2, .int v35), (4, .int v37)]) 4 dX0_head_108 rfl (by rw [e_x46]; rfl) (Nat.le_of_ble_eq_true rfl) rfl ?_
        refine hv_iload_n 0 dX0_head_111 rfl rfl ?_
        refine hv_istore (L' := [(6, .int x46), (3, .int x46), (5, .int v38), (0, .ref th), (1, .ref v18), (2, .int v35), (4, .int v37)]) dX0_head_112 (Nat.le_of_ble_eq_true rfl) rfl ?_
        refine hv_iconst (v := 0) dX0_head_114 (by decide) ?_
        refine hv_istore (L' := [(7, .int (0 : Int32)), (6, .int x46), (3, .int x46), (5, .int v38), (0, .ref th), (1, .ref v18), (2, .int v35), (4, .int v37)]) dX0_head_115 (Nat.le_of_ble_eq_true rfl) rfl ?_
        refine hv_sub [4, 5, 6, 2, 7, 1, 0] rfl ?_
        refine wk_x_head_L117  ?_ hk_F _ _ _ h
        · intro v54 v55 s56 h
          refine hv_iload_n 3 dX0_head_172 rfl rfl ?_
          refine hv_iload 5 dX0_head_173 rfl ?_
          refine hv_icmp_eq (tgt := 188) dX0_head_175 (by decide) (fun c69 => ?_) (fun c69 => ?_)
          · replace h := hq_ip c69 h
            refine hv_sub [0, 1, 3, 4, 5, 6] rfl ?_
            exact wk188 _ _ _ _ _ h
          · replace h := hq_in c69 h
            refine hv_iload 4 dX0_head_178 rfl ?_
            refine hv_iload 6 dX0_head_180 rfl ?_
            refine hv_callS [.int v37, .int v55] [] [.int (x_isTold v37 v55)] (wk_x_isTold rfl) cs_X0_84 rfl ⟨Nat.le_of_ble_eq_true rfl, Nat.le_of_ble_eq_true rfl⟩ rfl (Nat.le_of_ble_eq_true rfl) rfl dX0_head_182 ?_
            refine hv_if_ne (tgt := 191) dX0_head_185 (by decide) (fun c70 => ?_) (fun c70 => ?_)
            · replace h := hq_in c70 h
              refine hv_aload_n 1 dX0_head_191 rfl rfl ?_
              obtain ⟨x71, e_x71, h⟩ := hq_ob h
              refine hv_getR fl_X0_88 e_x71 dX0_head_192 ?_
              refine hv_iload 4 dX0_head_195 rfl ?_
              refine hv_iload 6 dX0_head_197 rfl ?_
              obtain ⟨a72, e_a72, h⟩ := hq_nn h
              rw [e_a72]
              obtain ⟨s73, e_s73, h⟩ := hq_ob h
              refine hv_iast e_s73 dX0_head_199 ?_
              obtain ⟨x74, e_x74, h⟩ := hq_nm h
              refine hv_iinc (v := x74) (L' := [(4, .int x74), (0, .ref th), (1, .ref v18), (2, .int v35), (3, .int v54), (6, .int x46), (7, .int v55)]) 4 dX0_head_200 rfl (by rw [e_x74]; rfl) (Nat.le_of_ble_eq_true rfl) rfl ?_
              refine hv_goto (tgt := 27) dX0_head_203 (by decide) ?_
              refine hv_sub [1, 2, 3, 4, 0] rfl ?_
              exact hrc _ _ _ _ h
            · replace h := hq_ip c70 h
              refine hv_sub [0, 1, 3, 4, 5, 6] rfl ?_
              exact wk188 _ _ _ _ _ h
      · replace h := hq_in c45 h
        refine hv_iload_n 4 dX0_head_103 rfl rfl ?_
        refine hv_istore_n (L' := [(2, .int v36), (5, .int v38), (0, .ref th), (1, .ref v18), (3, .int v36), (4, .int v37)]) dX0_head_104 rfl (Nat.le_of_ble_eq_true rfl) rfl ?_
        refine hv_goto (tgt := 206) dX0_head_105 (by decide) ?_
        refine hv_sub [2, 3, 0, 4] rfl ?_
        exact he0 _ _ _ h
  clear e_k82
  refine hv_iload 4 dX0_head_27 rfl ?_
  refine hv_iconst (v := 5) dX0_head_29 (by decide) ?_
  refine hv_icmp_ge (tgt := 206) dX0_head_30 (by decide) (fun c75 => ?_) (fun c75 => ?_)
  · replace h := hq_ip c75 h
    refine hv_sub [0, 1, 2, 3] rfl ?_
    exact he0 _ _ _ h
  · replace h := hq_in c75 h
    refine hv_iload_n 2 dX0_head_33 rfl rfl ?_
    refine hv_if_ge (tgt := 206) dX0_head_34 (by decide) (fun c76 => ?_) (fun c76 => ?_)
    · replace h := hq_ip c76 h
      refine hv_sub [0, 1, 2, 3] rfl ?_
      exact he0 _ _ _ h
    · replace h := hq_in c76 h
      refine hv_iload 4 dX0_head_37 rfl ?_
      refine hv_if_ne (tgt := 47) dX0_head_39 (by decide) (fun c77 => ?_) (fun c77 => ?_)
      · replace h := hq_in c77 h
        refine hv_iload 4 dX0_head_47 rfl ?_
        refine hv_iconst (v := 1) dX0_head_49 (by decide) ?_
        refine hv_icmp_ne (tgt := 58) dX0_head_50 (by decide) (fun c78 => ?_) (fun c78 => ?_)
        · replace h := hq_in c78 h
          refine hv_iload 4 dX0_head_58 rfl ?_
          refine hv_iconst (v := 2) dX0_head_60 (by decide) ?_
          refine hv_icmp_ne (tgt := 69) dX0_head_61 (by decide) (fun c79 => ?_) (fun c79 => ?_)
          · replace h := hq_in c79 h
            refine hv_iload 4 dX0_head_69 rfl ?_
            refine hv_iconst (v := 3) dX0_head_71 (by decide) ?_
            refine hv_icmp_ne (tgt := 80) dX0_head_72 (by decide) (fun c80 => ?_) (fun c80 => ?_)
            · replace h := hq_in c80 h
              refine hv_bipush (v := 99) dX0_head_80 (by decide) ?_
              exact wk82 _ _ _ _ _ h
            · replace h := hq_ip c80 h
              refine hv_bipush (v := 116) dX0_head_75 (by decide) ?_
              refine hv_goto (tgt := 82) dX0_head_77 (by decide) ?_
              exact wk82 _ _ _ _ _ h
          · replace h := hq_ip c79 h
            refine hv_bipush (v := 104) dX0_head_64 (by decide) ?_
            refine hv_goto (tgt := 82) dX0_head_66 (by decide) ?_
            exact wk82 _ _ _ _ _ h
        · replace h := hq_ip c78 h
          refine hv_bipush (v := 97) dX0_head_53 (by decide) ?_
          refine hv_goto (tgt := 82) dX0_head_55 (by decide) ?_
          exact wk82 _ _ _ _ _ h
      · replace h := hq_ip c77 h
        refine hv_bipush (v := 108) dX0_head_42 (by decide) ?_
        refine hv_goto (tgt := 82) dX0_head_44 (by decide) ?_
        exact wk82 _ _ _ _ _ h
theorem wk_x_head_L27 {l : Launch} {Gd : hk_G} {th : Nat} {s0 : hk_St} {r : Int32} {fin : hk_St} {v18 : Nat} {e0 : Int32 → Int32 → hk_St → Option (Int32 × hk_St)} (he0 : ∀ (v23 : Int32) (v24 : Int32) (s25 : hk_St), e0 v23 v24 s25 = some (r, fin) → hk_V Gd (N_x_head l) (hk_end Gd s0 (some (.int r)) fin) 206 [(0, .ref th), (1, .ref v18), (2, .int v23), (3, .int v24)] [] s25) : ∀ (n : Nat) (v19 : Int32) (v20 : Int32) (v21 : Int32) (s22 : hk_St), x_head_L27 th v18 e0 n v19 v20 v21 s22 = some (r, fin) → hk_V Gd (N_x_head l) (hk_end Gd s0 (some (.int r)) fin) 27 [(0, .ref th), (1, .ref v18), (2, .int v19), (3, .int v20), (4, .int v21)] [] s22 := by
  intro n
  induction n with
  | zero => intro v19 v20 v21 s22 h; cases h
  | succ n ih => intro v19 v20 v21 s22 h; exact wk_x_head_L27b  ih he0 h
set_option maxHeartbeats 4000000 in
theorem wk_x_head {l : Launch} {Gd : hk_G} {th : Nat} {s0 : hk_St} {r : Int32} {fin : hk_St} (h : x_head th s0 = some (r, fin)) : hk_Met Gd l yX0_head cX0_head 8 (some .int) 2 43 [.ref th] s0 (some (.int r)) fin := by
  refine hk_start "HeadReckons" false (by decide +kernel) rfl (by decide) (Nat.le_of_ble_eq_true rfl) ?_
  show hk_V Gd (N_x_head l) (hk_end Gd s0 (some (.int r)) fin) 0 [(0, .ref th)] [] s0
  unfold x_head at h
  obtain ⟨k220, e_k220, h⟩ := hq_nm h
  have wk220 : ∀ (v1 : Nat) (v2 : Int32) (s3 : hk_St), k220 v1 v2 s3 = some (r, fin) → hk_V Gd (N_x_head l) (hk_end Gd s0 (some (.int r)) fin) 220 [(0, .ref th), (1, .ref v1), (2, .int v2)] [] s3 := by
    intro v1 v2 s3 h
    rw [e_k220] at h
    refine hv_aload_n 0 dX0_head_220 rfl rfl ?_
    refine hv_iconst (v := 0) dX0_head_221 (by decide) ?_
    obtain ⟨s4, e_s4, h⟩ := hq_ob h
    refine hv_putI fp_X0_77 e_s4 (fun q => by cases q) dX0_head_222 ?_
    refine hv_iload_n 2 dX0_head_225 rfl rfl ?_
    refine hv_if_lt (tgt := 234) dX0_head_226 (by decide) (fun c5 => ?_) (fun c5 => ?_)
    · replace h := hq_ip c5 h
      refine hv_aload_n 0 dX0_head_234 rfl rfl ?_
      obtain ⟨x6, e_x6, h⟩ := hq_ob h
      refine hv_getR fl_X0_15 e_x6 dX0_head_235 ?_
      refine hv_aload_n 0 dX0_head_238 rfl rfl ?_
      obtain ⟨x7, e_x7, h⟩ := hq_ob h
      refine hv_getI fl_X0_81 e_x7 dX0_head_239 ?_
      refine hv_aload_n 1 dX0_head_242 rfl rfl ?_
      obtain ⟨a8, e_a8, h⟩ := hq_nn h
      rw [e_a8]
      obtain ⟨s9, e_s9, h⟩ := hq_ob h
      refine hv_aast (by decide) (by decide) rfl hk_as6 e_s9 dX0_head_243 ?_
      refine hv_aload_n 0 dX0_head_244 rfl rfl ?_
      refine hv_dup dX0_head_245 rfl ?_
      obtain ⟨x10, e_x10, h⟩ := hq_ob h
      refine hv_getI fl_X0_81 e_x10 dX0_head_246 ?_
      refine hv_iconst (v := 1) dX0_head_249 (by decide) ?_
      refine hv_iadd dX0_head_250 ?_
      obtain ⟨s11, e_s11, h⟩ := hq_ob h
      refine hv_putI fp_X0_81 e_s11 (fun q => by cases q) dX0_head_251 ?_
      refine hv_aload_n 0 dX0_head_254 rfl rfl ?_
      obtain ⟨x12, e_x12, h⟩ := hq_ob h
      refine hv_getI fl_X0_81 e_x12 dX0_head_255 ?_
      refine hv_iconst (v := 1) dX0_head_258 (by decide) ?_
      refine hv_isub dX0_head_259 ?_
      obtain ⟨h1, h2⟩ := hq_ret h
      subst h1
      subst h2
      exact hv_iret rfl dX0_head_260
    · replace h := hq_in c5 h
      refine hv_bipush (v := -100) dX0_head_229 (by decide) ?_
      refine hv_iload_n 2 dX0_head_231 rfl rfl ?_
      refine hv_isub dX0_head_232 ?_
      obtain ⟨h1, h2⟩ := hq_ret h
      subst h1
      subst h2
      exact hv_iret rfl dX0_head_233
  clear e_k220
  refine hv_aload_n 0 dX0_head_0 rfl rfl ?_
  obtain ⟨x13, e_x13, h⟩ := hq_ob h
  refine hv_getI fl_X0_81 e_x13 dX0_head_1 ?_
  refine hv_bipush (v := 6) dX0_head_4 (by decide) ?_
  refine hv_icmp_ne (tgt := 12) dX0_head_6 (by decide) (fun c14 => ?_) (fun c14 => ?_)
  · replace h := hq_in c14 h
    obtain ⟨a15, e_a15, h⟩ := hq_nm h
    obtain ⟨s16, e_s16, h⟩ := hq_nm h
    refine hv_new (ci := 3) (r := (RX3, TX3, 3)) rfl hk_ok3 (by decide) q146 q229 q95 dX0_head_12 ?_
    rw [show hk_mk s0 3 0 ((RX3, TX3, 3) : vw_C).2.2 = s16 from e_s16.symm, ← e_a15]
    refine hv_dup dX0_head_15 rfl ?_
    obtain ⟨s17, e_s17, h⟩ := hq_ob h
    refine hv_callIN [] [.ref a15] [.ref a15] (wk_xHead_init e_s17) cs_X0_51 rfl ⟨Nat.le_of_ble_eq_true rfl, Nat.le_of_ble_eq_true rfl⟩ rfl (Nat.le_of_ble_eq_true rfl) rfl dX0_head_16 ?_
    refine hv_astore_n (L' := [(1, .ref a15), (0, .ref th)]) dX0_head_19 rfl (Nat.le_of_ble_eq_true rfl) rfl ?_
    refine hv_iconst (v := -1) dX0_head_20 (by decide) ?_
    refine hv_istore_n (L' := [(2, .int (-1 : Int32)), (1, .ref a15), (0, .ref th)]) dX0_head_21 rfl (Nat.le_of_ble_eq_true rfl) rfl ?_
    refine hv_iconst (v := 0) dX0_head_22 (by decide) ?_
    refine hv_istore_n (L' := [(3, .int (0 : Int32)), (2, .int (-1 : Int32)), (1, .ref a15), (0, .ref th)]) dX0_head_23 rfl (Nat.le_of_ble_eq_true rfl) rfl ?_
    refine hv_iconst (v := 0) dX0_head_24 (by decide) ?_
    refine hv_istore (L' := [(4, .int (0 : Int32)), (3, .int (0 : Int32)), (2, .int (-1 : Int32)), (1, .ref a15), (0, .ref th)]) dX0_head_25 (Nat.le_of_ble_eq_true rfl) rfl ?_
    refine hv_sub [4, 3, 2, 1, 0] rfl ?_
    refine wk_x_head_L27  ?_ hk_F _ _ _ _ h
    · intro v23 v24 s25 h
      refine hv_iload_n 2 dX0_head_206 rfl rfl ?_
      refine hv_if_ge (tgt := 220) dX0_head_207 (by decide) (fun c81 => ?_) (fun c81 => ?_)
      · replace h := hq_ip c81 h
        refine hv_sub [0, 1, 2] rfl ?_
        exact wk220 _ _ _ h
      · replace h := hq_in c81 h
        refine hv_iload_n 3 dX0_head_210 rfl rfl ?_
        refine hv_aload_n 0 dX0_head_211 rfl rfl ?_
        obtain ⟨x82, e_x82, h⟩ := hq_ob h
        refine hv_getI fl_X0_77 e_x82 dX0_head_212 ?_
        refine hv_icmp_ge (tgt := 220) dX0_head_215 (by decide) (fun c83 => ?_) (fun c83 => ?_)
        · replace h := hq_ip c83 h
          refine hv_sub [0, 1, 2] rfl ?_
          exact wk220 _ _ _ h
        · replace h := hq_in c83 h
          refine hv_iload_n 3 dX0_head_218 rfl rfl ?_
          refine hv_istore_n (L' := [(2, .int v24), (0, .ref th), (1, .ref a15), (3, .int v24)]) dX0_head_219 rfl (Nat.le_of_ble_eq_true rfl) rfl ?_
          refine hv_sub [1, 2, 0] rfl ?_
          exact wk220 _ _ _ h
  · replace h := hq_ip c14 h
    refine hv_bipush (v := -3) dX0_head_9 (by decide) ?_
    obtain ⟨h1, h2⟩ := hq_ret h
    subst h1
    subst h2
    exact hv_iret rfl dX0_head_11
def x_isHead (th : Nat) (p1 : Int32) (s0 : hk_St) : Option (Int32) :=
  (hk_gI [0] 3 s0 th).bind fun x1 =>
  some (x_in p1 (0 : Int32) (x1 - (1 : Int32)))
abbrev N_x_isHead (l : Launch) : hk_N := (l, cX0_isHead, "HeadReckons", 2, (some .boolean), 1, 22, false)
set_option maxHeartbeats 4000000 in
theorem wk_x_isHead {l : Launch} {Gd : hk_G} {th : Nat} {p1 : Int32} {s0 : hk_St} {r : Int32} (h : x_isHead th p1 s0 = some r) : hk_Met Gd l yX0_isHead cX0_isHead 2 (some .boolean) 1 22 [.ref th, .int p1] s0 (some (.int r)) s0 := by
  refine hk_start "HeadReckons" false (by decide +kernel) rfl (by decide) (Nat.le_of_ble_eq_true rfl) ?_
  show hk_V Gd (N_x_isHead l) (hk_end Gd s0 (some (.int r)) s0) 0 [(0, .ref th), (1, .int p1)] [] s0
  unfold x_isHead at h
  refine hv_iload_n 1 dX0_isHead_0 rfl rfl ?_
  refine hv_iconst (v := 0) dX0_isHead_1 (by decide) ?_
  refine hv_aload_n 0 dX0_isHead_2 rfl rfl ?_
  obtain ⟨x1, e_x1, h⟩ := hq_ob h
  refine hv_getI fl_X0_81 e_x1 dX0_isHead_3 ?_
  refine hv_iconst (v := 1) dX0_isHead_6 (by decide) ?_
  refine hv_isub dX0_isHead_7 ?_
  refine hv_callS [.int p1, .int (0 : Int32), .int (x1 - (1 : Int32))] [] [.int (x_in p1 (0 : Int32) (x1 - (1 : Int32)))] (wk_x_in rfl) cs_X0_73 rfl ⟨Nat.le_of_ble_eq_true rfl, Nat.le_of_ble_eq_true rfl⟩ rfl (Nat.le_of_ble_eq_true rfl) rfl dX0_isHead_8 ?_
  have h := Option.some.inj h
  subst h
  exact hv_zret (ty := .boolean) rfl (hk_nz bz_x_in) dX0_isHead_11
def xHead_learnt_L4b (th : Nat) (s0 : hk_St) (e0 : Int32 → Option (Int32)) (rc : Int32 → Int32 → Option (Int32)) (v1 : Int32) (v2 : Int32) : Option (Int32) :=
  (hk_gI [3] 302 s0 th).bind fun x4 =>
  if x4 ≤ v2 then
    e0 v1
  else
  (hk_gR [3] 301 s0 th).bind fun x6 =>
  hk_nn x6 fun a7 =>
  (hk_lR 5 s0 a7 v2).bind fun x8 =>
  hk_nn x8 fun a9 =>
  (hk_gI [14] 1402 s0 a9).bind fun x10 =>
  if x10 < (3 : Int32) then
    hk_nm (v1 + (0 : Int32)) fun x12 =>
    hk_nm (v2 + (1 : Int32)) fun x13 =>
    rc x12 x13
  else
  hk_nm (v1 + (1 : Int32)) fun x14 =>
  hk_nm (v2 + (1 : Int32)) fun x15 =>
  rc x14 x15
def xHead_learnt_L4 (th : Nat) (s0 : hk_St) (e0 : Int32 → Option (Int32)) : Nat → Int32 → Int32 → Option (Int32)
  | 0 => fun _ _ => none
  | n + 1 => xHead_learnt_L4b th s0 e0 (xHead_learnt_L4 th s0 e0 n)
def xHead_learnt (th : Nat) (s0 : hk_St) : Option (Int32) :=
  xHead_learnt_L4 th s0  (fun (v3 : Int32) =>
    some v3) hk_F (0 : Int32) (0 : Int32) 
abbrev N_xHead_learnt (l : Launch) : hk_N := (l, cX3_learnt, "HeadReckons$Head", 3, (some .int), 0, 0, false)
set_option maxHeartbeats 4000000 in
theorem wk_xHead_learnt_L4b {l : Launch} {Gd : hk_G} {th : Nat} {s0 : hk_St} {r : Int32} {e0 : Int32 → Option (Int32)} {rc : Int32 → Int32 → Option (Int32)} (hrc : ∀ (v1 : Int32) (v2 : Int32), rc v1 v2 = some r → hk_V Gd (N_xHead_learnt l) (hk_end Gd s0 (some (.int r)) s0) 4 [(0, .ref th), (1, .int v1), (2, .int v2)] [] s0) (he0 : ∀ (v3 : Int32), e0 v3 = some r → hk_V Gd (N_xHead_learnt l) (hk_end Gd s0 (some (.int r)) s0) 39 [(1, .int v3)] [] s0) {v1 : Int32} {v2 : Int32} (h : xHead_learnt_L4b th s0 e0 rc v1 v2 = some r) : hk_V Gd (N_xHead_learnt l) (hk_end Gd s0 (some (.int r)) s0) 4 [(0, .ref th), (1, .int v1), (2, .int v2)] [] s0 := by
  unfold xHead_learnt_L4b at h
  refine hv_iload_n 2 dX3_learnt_4 rfl rfl ?_
  refine hv_aload_n 0 dX3_learnt_5 rfl rfl ?_
  obtain ⟨x4, e_x4, h⟩ := hq_ob h
  refine hv_getI fl_X3_21 e_x4 dX3_learnt_6 ?_
  refine hv_icmp_ge (tgt := 39) dX3_learnt_9 (by decide) (fun c5 => ?_) (fun c5 => ?_)
  · replace h := hq_ip c5 h
    refine hv_sub [1] rfl ?_
    exact he0 _ h
  · replace h := hq_in c5 h
    refine hv_iload_n 1 dX3_learnt_12 rfl rfl ?_
    refine hv_aload_n 0 dX3_learnt_13 rfl rfl ?_
    obtain ⟨x6, e_x6, h⟩ := hq_ob h
    refine hv_getR fl_X3_17 e_x6 dX3_learnt_14 ?_
    refine hv_iload_n 2 dX3_learnt_17 rfl rfl ?_
    obtain ⟨a7, e_a7, h⟩ := hq_nn h
    rw [e_a7]
    obtain ⟨x8, e_x8, h⟩ := hq_ob h
    refine hv_aald (by decide) (by decide) rfl e_x8 dX3_learnt_18 ?_
    obtain ⟨a9, e_a9, h⟩ := hq_nn h
    rw [e_a9]
    obtain ⟨x10, e_x10, h⟩ := hq_ob h
    refine hv_getI fl_X3_33 e_x10 dX3_learnt_19 ?_
    refine hv_iconst (v := 3) dX3_learnt_22 (by decide) ?_
    refine hv_icmp_lt (tgt := 30) dX3_learnt_23 (by decide) (fun c11 => ?_) (fun c11 => ?_)
    · replace h := hq_ip c11 h
      refine hv_iconst (v := 0) dX3_learnt_30 (by decide) ?_
      refine hv_iadd dX3_learnt_31 ?_
      obtain ⟨x12, e_x12, h⟩ := hq_nm h
      rw [← e_x12]
      refine hv_istore_n (L' := [(1, .int x12), (0, .ref th), (2, .int v2)]) dX3_learnt_32 rfl (Nat.le_of_ble_eq_true rfl) rfl ?_
      obtain ⟨x13, e_x13, h⟩ := hq_nm h
      refine hv_iinc (v := x13) (L' := [(2, .int x13), (1, .int x12), (0, .ref th)]) 2 dX3_learnt_33 rfl (by rw [e_x13]; rfl) (Nat.le_of_ble_eq_true rfl) rfl ?_
      refine hv_goto (tgt := 4) dX3_learnt_36 (by decide) ?_
      refine hv_sub [2, 1, 0] rfl ?_
      exact hrc _ _ h
    · replace h := hq_in c11 h
      refine hv_iconst (v := 1) dX3_learnt_26 (by decide) ?_
      refine hv_goto (tgt := 31) dX3_learnt_27 (by decide) ?_
      refine hv_iadd dX3_learnt_31 ?_
      obtain ⟨x14, e_x14, h⟩ := hq_nm h
      rw [← e_x14]
      refine hv_istore_n (L' := [(1, .int x14), (0, .ref th), (2, .int v2)]) dX3_learnt_32 rfl (Nat.le_of_ble_eq_true rfl) rfl ?_
      obtain ⟨x15, e_x15, h⟩ := hq_nm h
      refine hv_iinc (v := x15) (L' := [(2, .int x15), (1, .int x14), (0, .ref th)]) 2 dX3_learnt_33 rfl (by rw [e_x15]; rfl) (Nat.le_of_ble_eq_true rfl) rfl ?_
      refine hv_goto (tgt := 4) dX3_learnt_36 (by decide) ?_
      refine hv_sub [2, 1, 0] rfl ?_
      exact hrc _ _ h
theorem wk_xHead_learnt_L4 {l : Launch} {Gd : hk_G} {th : Nat} {s0 : hk_St} {r : Int32} {e0 : Int32 → Option (Int32)} (he0 : ∀ (v3 : Int32), e0 v3 = some r → hk_V Gd (N_xHead_learnt l) (hk_end Gd s0 (some (.int r)) s0) 39 [(1, .int v3)] [] s0) : ∀ (n : Nat) (v1 : Int32) (v2 : Int32), xHead_learnt_L4 th s0 e0 n v1 v2 = some r → hk_V Gd (N_xHead_learnt l) (hk_end Gd s0 (some (.int r)) s0) 4 [(0, .ref th), (1, .int v1), (2, .int v2)] [] s0 := by
  intro n
  induction n with
  | zero => intro v1 v2 h; cases h
  | succ n ih => intro v1 v2 h; exact wk_xHead_learnt_L4b  ih he0 h
set_option maxHeartbeats 4000000 in
theorem wk_xHead_learnt {l : Launch} {Gd : hk_G} {th : Nat} {s0 : hk_St} {r : Int32} (h : xHead_learnt th s0 = some r) : hk_Met Gd l yX3_learnt cX3_learnt 3 (some .int) 0 0 [.ref th] s0 (some (.int r)) s0 := by
  refine hk_start "HeadReckons$Head" false (by decide +kernel) rfl (by decide) (Nat.le_of_ble_eq_true rfl) ?_
  show hk_V Gd (N_xHead_learnt l) (hk_end Gd s0 (some (.int r)) s0) 0 [(0, .ref th)] [] s0
  unfold xHead_learnt at h
  refine hv_iconst (v := 0) dX3_learnt_0 (by decide) ?_
  refine hv_istore_n (L' := [(1, .int (0 : Int32)), (0, .ref th)]) dX3_learnt_1 rfl (Nat.le_of_ble_eq_true rfl) rfl ?_
  refine hv_iconst (v := 0) dX3_learnt_2 (by decide) ?_
  refine hv_istore_n (L' := [(2, .int (0 : Int32)), (1, .int (0 : Int32)), (0, .ref th)]) dX3_learnt_3 rfl (Nat.le_of_ble_eq_true rfl) rfl ?_
  refine hv_sub [2, 1, 0] rfl ?_
  refine wk_xHead_learnt_L4  ?_ hk_F _ _ h
  · intro v3 h
    refine hv_iload_n 0 dX3_learnt_39 rfl rfl ?_
    have h := Option.some.inj h
    subst h
    exact hv_iret rfl dX3_learnt_40
def x_of (th : Nat) (p1 : Int32) (p2 : Int32) (s0 : hk_St) : Option (Int32) :=
  (x_isHead th p1 s0).bind fun x1 =>
  hk_gd (hk_bf [0] s0 th) <|
  if x1 = 0 then
    some (-1 : Int32)
  else
  if (x_in p2 (0 : Int32) (4 : Int32)) = 0 then
      if p2 = (5 : Int32) then
        (hk_gR [0] 2 s0 th).bind fun x6 =>
      hk_nn x6 fun a7 =>
      (hk_lR 6 s0 a7 p1).bind fun x8 =>
      hk_nn x8 fun a9 =>
      (xHead_learnt a9 s0).bind fun x10 =>
      hk_gd (hk_bf [3] s0 a9) <|
      some x10
      else
      some (-1 : Int32)
    else
    (hk_gR [0] 2 s0 th).bind fun x12 =>
    hk_nn x12 fun a13 =>
    (hk_lR 6 s0 a13 p1).bind fun x14 =>
    hk_nn x14 fun a15 =>
    (hk_gR [3] 300 s0 a15).bind fun x16 =>
    hk_nn x16 fun a17 =>
    (hk_lI 0 s0 a17 p2).bind fun x18 =>
    some x18
abbrev N_x_of (l : Launch) : hk_N := (l, cX0_of, "HeadReckons", 3, (some .int), 2, 43, false)
set_option maxHeartbeats 4000000 in
theorem wk_x_of {l : Launch} {Gd : hk_G} {th : Nat} {p1 : Int32} {p2 : Int32} {s0 : hk_St} {r : Int32} (h : x_of th p1 p2 s0 = some r) : hk_Met Gd l yX0_of cX0_of 3 (some .int) 2 43 [.ref th, .int p1, .int p2] s0 (some (.int r)) s0 := by
  refine hk_start "HeadReckons" false (by decide +kernel) rfl (by decide) (Nat.le_of_ble_eq_true rfl) ?_
  show hk_V Gd (N_x_of l) (hk_end Gd s0 (some (.int r)) s0) 0 [(0, .ref th), (1, .int p1), (2, .int p2)] [] s0
  unfold x_of at h
  refine hv_aload_n 0 dX0_of_0 rfl rfl ?_
  refine hv_iload_n 1 dX0_of_1 rfl rfl ?_
  obtain ⟨x1, e_x1, h⟩ := hq_ob h
  obtain ⟨g2, h⟩ := hq_gd h
  refine hv_callV [.int p1] [] [.int x1] (wk_x_isHead e_x1) cs_X0_89 g2 rfl ⟨Nat.le_of_ble_eq_true rfl, Nat.le_of_ble_eq_true rfl⟩ rfl (Nat.le_of_ble_eq_true rfl) rfl dX0_of_2 ?_
  refine hv_if_ne (tgt := 12) dX0_of_5 (by decide) (fun c3 => ?_) (fun c3 => ?_)
  · replace h := hq_in c3 h
    refine hv_iload_n 2 dX0_of_12 rfl rfl ?_
    refine hv_iconst (v := 0) dX0_of_13 (by decide) ?_
    refine hv_iconst (v := 4) dX0_of_14 (by decide) ?_
    refine hv_callS [.int p2, .int (0 : Int32), .int (4 : Int32)] [] [.int (x_in p2 (0 : Int32) (4 : Int32))] (wk_x_in rfl) cs_X0_73 rfl ⟨Nat.le_of_ble_eq_true rfl, Nat.le_of_ble_eq_true rfl⟩ rfl (Nat.le_of_ble_eq_true rfl) rfl dX0_of_15 ?_
    refine hv_if_eq (tgt := 35) dX0_of_18 (by decide) (fun c4 => ?_) (fun c4 => ?_)
    · replace h := hq_ip c4 h
      refine hv_iload_n 2 dX0_of_35 rfl rfl ?_
      refine hv_iconst (v := 5) dX0_of_36 (by decide) ?_
      refine hv_icmp_ne (tgt := 52) dX0_of_37 (by decide) (fun c5 => ?_) (fun c5 => ?_)
      · replace h := hq_in c5 h
        refine hv_iconst (v := -1) dX0_of_52 (by decide) ?_
        have h := Option.some.inj h
        subst h
        exact hv_iret rfl dX0_of_53
      · replace h := hq_ip c5 h
        refine hv_aload_n 0 dX0_of_40 rfl rfl ?_
        obtain ⟨x6, e_x6, h⟩ := hq_ob h
        refine hv_getR fl_X0_15 e_x6 dX0_of_41 ?_
        refine hv_iload_n 1 dX0_of_44 rfl rfl ?_
        obtain ⟨a7, e_a7, h⟩ := hq_nn h
        rw [e_a7]
        obtain ⟨x8, e_x8, h⟩ := hq_ob h
        refine hv_aald (by decide) (by decide) rfl e_x8 dX0_of_45 ?_
        obtain ⟨a9, e_a9, h⟩ := hq_nn h
        rw [e_a9]
        obtain ⟨x10, e_x10, h⟩ := hq_ob h
        obtain ⟨g11, h⟩ := hq_gd h
        refine hv_callV [] [] [.int x10] (wk_xHead_learnt e_x10) cs_X0_93 g11 rfl ⟨Nat.le_of_ble_eq_true rfl, Nat.le_of_ble_eq_true rfl⟩ rfl (Nat.le_of_ble_eq_true rfl) rfl dX0_of_46 ?_
        refine hv_goto (tgt := 53) dX0_of_49 (by decide) ?_
        have h := Option.some.inj h
        subst h
        exact hv_iret rfl dX0_of_53
    · replace h := hq_in c4 h
      refine hv_aload_n 0 dX0_of_21 rfl rfl ?_
      obtain ⟨x12, e_x12, h⟩ := hq_ob h
      refine hv_getR fl_X0_15 e_x12 dX0_of_22 ?_
      refine hv_iload_n 1 dX0_of_25 rfl rfl ?_
      obtain ⟨a13, e_a13, h⟩ := hq_nn h
      rw [e_a13]
      obtain ⟨x14, e_x14, h⟩ := hq_ob h
      refine hv_aald (by decide) (by decide) rfl e_x14 dX0_of_26 ?_
      obtain ⟨a15, e_a15, h⟩ := hq_nn h
      rw [e_a15]
      obtain ⟨x16, e_x16, h⟩ := hq_ob h
      refine hv_getR fl_X0_88 e_x16 dX0_of_27 ?_
      refine hv_iload_n 2 dX0_of_30 rfl rfl ?_
      obtain ⟨a17, e_a17, h⟩ := hq_nn h
      rw [e_a17]
      obtain ⟨x18, e_x18, h⟩ := hq_ob h
      refine hv_iald e_x18 dX0_of_31 ?_
      refine hv_goto (tgt := 53) dX0_of_32 (by decide) ?_
      have h := Option.some.inj h
      subst h
      exact hv_iret rfl dX0_of_53
  · replace h := hq_ip c3 h
    refine hv_iconst (v := -1) dX0_of_8 (by decide) ?_
    refine hv_goto (tgt := 53) dX0_of_9 (by decide) ?_
    have h := Option.some.inj h
    subst h
    exact hv_iret rfl dX0_of_53
def xChange_init (th : Nat) (p1 : Nat) (p2 : Int32) (p3 : Int32) (p4 : Int32) (s0 : hk_St) : Option hk_St :=
  (hk_pR [5] 500 s0 th (some p1)).bind fun s1 =>
  (hk_pI [5] 501 s1 th p2).bind fun s2 =>
  (hk_pI [5] 502 s2 th p3).bind fun s3 =>
  (hk_pI [5] 503 s3 th p4).bind fun s4 =>
  some s4
abbrev N_xChange_init (l : Launch) : hk_N := (l, cX5_init, "HeadReckons$Change", 5, none, 1, 20, true)
set_option maxHeartbeats 4000000 in
theorem wk_xChange_init {l : Launch} {Gd : hk_G} {th : Nat} {p1 : Nat} {p2 : Int32} {p3 : Int32} {p4 : Int32} {s0 : hk_St} {fin : hk_St} (h : xChange_init th p1 p2 p3 p4 s0 = some fin) : hk_Met Gd l yX5_init cX5_init 5 none 1 20 [.ref th, .ref p1, .int p2, .int p3, .int p4] s0 none fin := by
  refine hk_start "HeadReckons$Change" true (by decide +kernel) rfl (by decide) (Nat.le_of_ble_eq_true rfl) ?_
  show hk_V Gd (N_xChange_init l) (hk_end Gd s0 none fin) 0 [(0, .ref th), (1, .ref p1), (2, .int p2), (3, .int p3), (4, .int p4)] [] s0
  unfold xChange_init at h
  refine hv_aload_n 0 dX5_init_0 rfl rfl ?_
  refine hv_objInit q358 q144 q145 dX5_init_1 (Nat.le_of_ble_eq_true rfl) (Nat.le_of_ble_eq_true rfl) ?_
  refine hv_aload_n 0 dX5_init_4 rfl rfl ?_
  refine hv_aload_n 1 dX5_init_5 rfl rfl ?_
  obtain ⟨s1, e_s1, h⟩ := hq_ob h
  refine hv_putR fp_X5_7 e_s1 (fun _ => rfl) dX5_init_6 ?_
  refine hv_aload_n 0 dX5_init_9 rfl rfl ?_
  refine hv_iload_n 2 dX5_init_10 rfl rfl ?_
  obtain ⟨s2, e_s2, h⟩ := hq_ob h
  refine hv_putI fp_X5_13 e_s2 (fun _ => rfl) dX5_init_11 ?_
  refine hv_aload_n 0 dX5_init_14 rfl rfl ?_
  refine hv_iload_n 3 dX5_init_15 rfl rfl ?_
  obtain ⟨s3, e_s3, h⟩ := hq_ob h
  refine hv_putI fp_X5_17 e_s3 (fun _ => rfl) dX5_init_16 ?_
  refine hv_aload_n 0 dX5_init_19 rfl rfl ?_
  refine hv_iload 4 dX5_init_20 rfl ?_
  obtain ⟨s4, e_s4, h⟩ := hq_ob h
  refine hv_putI fp_X5_20 e_s4 (fun _ => rfl) dX5_init_22 ?_
  have h := Option.some.inj h
  subst h
  exact hv_vret rfl dX5_init_25
def x_turn_L61b (th : Nat) (p1 : Int32) (p2 : Int32) (p3 : Int32) (v31 : Nat) (v32 : Int32) (e0 : hk_St → Option (Int32 × hk_St)) (rc : Int32 → hk_St → Option (Int32 × hk_St)) (v33 : Int32) (s34 : hk_St) : Option (Int32 × hk_St) :=
  if (40 : Int32) ≤ v33 then
    e0 s34
  else
  (hk_gR [0] 4 s34 th).bind fun x37 =>
  (hk_gR [0] 4 s34 th).bind fun x38 =>
  hk_nn x38 fun a39 =>
  (hk_lR 7 s34 a39 v33).bind fun x40 =>
  hk_nn x37 fun a41 =>
  (hk_tR 7 [5] s34 a41 (v33 - (1 : Int32)) x40).bind fun s42 =>
  hk_nm (v33 + (1 : Int32)) fun x43 =>
  rc x43 s42
def x_turn_L61 (th : Nat) (p1 : Int32) (p2 : Int32) (p3 : Int32) (v31 : Nat) (v32 : Int32) (e0 : hk_St → Option (Int32 × hk_St)) : Nat → Int32 → hk_St → Option (Int32 × hk_St)
  | 0 => fun _ _ => none
  | n + 1 => x_turn_L61b th p1 p2 p3 v31 v32 e0 (x_turn_L61 th p1 p2 p3 v31 v32 e0 n)
def x_turn (th : Nat) (p1 : Int32) (p2 : Int32) (p3 : Int32) (s0 : hk_St) : Option (Int32 × hk_St) :=
  hk_nm (fun (v1 : Nat) (v2 : Int32) (s3 : hk_St) =>
    (hk_gR [0] 4 s3 th).bind fun x4 =>
    (hk_gI [0] 5 s3 th).bind fun x5 =>
    hk_nm (hk_nx s3) fun a6 =>
    hk_nm (hk_mk s3 5 0 4) fun s7 =>
    (xChange_init a6 v1 p2 v2 p3 s7).bind fun s8 =>
    hk_nn x4 fun a9 =>
    (hk_tR 7 [5] s8 a9 x5 (some a6)).bind fun s10 =>
    (hk_gI [0] 5 s10 th).bind fun x11 =>
    (hk_pI [0] 5 s10 th (x11 + (1 : Int32))).bind fun s12 =>
    (hk_gR [3] 300 s12 v1).bind fun x13 =>
    hk_nn x13 fun a14 =>
    (hk_tI 0 s12 a14 p2 p3).bind fun s15 =>
    some (v2, s15)) fun k100 =>
  (x_isHead th p1 s0).bind fun x16 =>
  hk_gd (hk_bf [0] s0 th) <|
  if x16 = 0 then
    some ((-1 : Int32), s0)
  else
  if (x_isTold p2 p3) = 0 then
    some ((-1 : Int32), s0)
  else
  (hk_gR [0] 2 s0 th).bind fun x20 =>
    hk_nn x20 fun a21 =>
    (hk_lR 6 s0 a21 p1).bind fun x22 =>
    hk_nn x22 fun a23 =>
    (hk_gR [3] 300 s0 a23).bind fun x24 =>
    hk_nn x24 fun a25 =>
    (hk_lI 0 s0 a25 p2).bind fun x26 =>
    if x26 = p3 then
      some (x26, s0)
    else
    (hk_pI [0] 6 s0 th (0 : Int32)).bind fun s28 =>
      (hk_gI [0] 5 s28 th).bind fun x29 =>
      if x29 = (40 : Int32) then
        x_turn_L61 th p1 p2 p3 a23 x26 (fun (s35 : hk_St) =>
        (hk_gI [0] 5 s35 th).bind fun x44 =>
        (hk_pI [0] 5 s35 th (x44 - (1 : Int32))).bind fun s45 =>
        k100 a23 x26 s45) hk_F (1 : Int32) s28
      else
      k100 a23 x26 s28
abbrev N_x_turn (l : Launch) : hk_N := (l, cX0_turn, "HeadReckons", 7, (some .int), 2, 44, false)
set_option maxHeartbeats 4000000 in
theorem wk_x_turn_L61b {l : Launch} {Gd : hk_G} {th : Nat} {p1 : Int32} {p2 : Int32} {p3 : Int32} {s0 : hk_St} {r : Int32} {fin : hk_St} {v31 : Nat} {v32 : Int32} {e0 : hk_St → Option (Int32 × hk_St)} {rc : Int32 → hk_St → Option (Int32 × hk_St)} (hrc : ∀ (v33 : Int32) (s34 : hk_St), rc v33 s34 = some (r, fin) → hk_V Gd (N_x_turn l) (hk_end Gd s0 (some (.int r)) fin) 61 [(0, .ref th), (2, .int p2), (3, .int p3), (4, .ref v31), (5, .int v32), (6, .int v33)] [] s34) (he0 : ∀ (s35 : hk_St), e0 s35 = some (r, fin) → hk_V Gd (N_x_turn l) (hk_end Gd s0 (some (.int r)) fin) 90 [(0, .ref th), (2, .int p2), (3, .int p3), (4, .ref v31), (5, .int v32)] [] s35) {v33 : Int32} {s34 : hk_St} (h : x_turn_L61b th p1 p2 p3 v31 v32 e0 rc v33 s34 = some (r, fin)) : hk_V Gd (N_x_turn l) (hk_end Gd s0 (some (.int r)) fin) 61 [(0, .ref th), (2, .int p2), (3, .int p3), (4, .ref v31), (5, .int v32), (6, .int v33)] [] s34 := by
  unfold x_turn_L61b at h
  refine hv_iload 5 dX0_turn_61 rfl ?_
  refine hv_bipush (v := 40) dX0_turn_63 (by decide) ?_
  refine hv_icmp_ge (tgt := 90) dX0_turn_65 (by decide) (fun c36 => ?_) (fun c36 => ?_)
  · replace h := hq_ip c36 h
    refine hv_sub [0, 1, 2, 3, 4] rfl ?_
    exact he0 _ h
  · replace h := hq_in c36 h
    refine hv_aload_n 0 dX0_turn_68 rfl rfl ?_
    obtain ⟨x37, e_x37, h⟩ := hq_ob h
    refine hv_getR fl_X0_21 e_x37 dX0_turn_69 ?_
    refine hv_iload 5 dX0_turn_72 rfl ?_
    refine hv_iconst (v := 1) dX0_turn_74 (by decide) ?_
    refine hv_isub dX0_turn_75 ?_
    refine hv_aload_n 0 dX0_turn_76 rfl rfl ?_
    obtain ⟨x38, e_x38, h⟩ := hq_ob h
    refine hv_getR fl_X0_21 e_x38 dX0_turn_77 ?_
    refine hv_iload 5 dX0_turn_80 rfl ?_
    obtain ⟨a39, e_a39, h⟩ := hq_nn h
    rw [e_a39]
    obtain ⟨x40, e_x40, h⟩ := hq_ob h
    refine hv_aald (by decide) (by decide) rfl e_x40 dX0_turn_82 ?_
    obtain ⟨a41, e_a41, h⟩ := hq_nn h
    rw [e_a41]
    obtain ⟨s42, e_s42, h⟩ := hq_ob h
    refine hv_aast (by decide) (by decide) rfl hk_as7 e_s42 dX0_turn_83 ?_
    obtain ⟨x43, e_x43, h⟩ := hq_nm h
    refine hv_iinc (v := x43) (L' := [(6, .int x43), (0, .ref th), (2, .int p2), (3, .int p3), (4, .ref v31), (5, .int v32)]) 5 dX0_turn_84 rfl (by rw [e_x43]; rfl) (Nat.le_of_ble_eq_true rfl) rfl ?_
    refine hv_goto (tgt := 61) dX0_turn_87 (by decide) ?_
    refine hv_sub [1, 2, 3, 4, 5, 0] rfl ?_
    exact hrc _ _ h
theorem wk_x_turn_L61 {l : Launch} {Gd : hk_G} {th : Nat} {p1 : Int32} {p2 : Int32} {p3 : Int32} {s0 : hk_St} {r : Int32} {fin : hk_St} {v31 : Nat} {v32 : Int32} {e0 : hk_St → Option (Int32 × hk_St)} (he0 : ∀ (s35 : hk_St), e0 s35 = some (r, fin) → hk_V Gd (N_x_turn l) (hk_end Gd s0 (some (.int r)) fin) 90 [(0, .ref th), (2, .int p2), (3, .int p3), (4, .ref v31), (5, .int v32)] [] s35) : ∀ (n : Nat) (v33 : Int32) (s34 : hk_St), x_turn_L61 th p1 p2 p3 v31 v32 e0 n v33 s34 = some (r, fin) → hk_V Gd (N_x_turn l) (hk_end Gd s0 (some (.int r)) fin) 61 [(0, .ref th), (2, .int p2), (3, .int p3), (4, .ref v31), (5, .int v32), (6, .int v33)] [] s34 := by
  intro n
  induction n with
  | zero => intro v33 s34 h; cases h
  | succ n ih => intro v33 s34 h; exact wk_x_turn_L61b  ih he0 h
set_option maxHeartbeats 4000000 in
theorem wk_x_turn {l : Launch} {Gd : hk_G} {th : Nat} {p1 : Int32} {p2 : Int32} {p3 : Int32} {s0 : hk_St} {r : Int32} {fin : hk_St} (h : x_turn th p1 p2 p3 s0 = some (r, fin)) : hk_Met Gd l yX0_turn cX0_turn 7 (some .int) 2 44 [.ref th, .int p1, .int p2, .int p3] s0 (some (.int r)) fin := by
  refine hk_start "HeadReckons" false (by decide +kernel) rfl (by decide) (Nat.le_of_ble_eq_true rfl) ?_
  show hk_V Gd (N_x_turn l) (hk_end Gd s0 (some (.int r)) fin) 0 [(0, .ref th), (1, .int p1), (2, .int p2), (3, .int p3)] [] s0
  unfold x_turn at h
  obtain ⟨k100, e_k100, h⟩ := hq_nm h
  have wk100 : ∀ (v1 : Nat) (v2 : Int32) (s3 : hk_St), k100 v1 v2 s3 = some (r, fin) → hk_V Gd (N_x_turn l) (hk_end Gd s0 (some (.int r)) fin) 100 [(0, .ref th), (2, .int p2), (3, .int p3), (4, .ref v1), (5, .int v2)] [] s3 := by
    intro v1 v2 s3 h
    rw [e_k100] at h
    refine hv_aload_n 0 dX0_turn_100 rfl rfl ?_
    obtain ⟨x4, e_x4, h⟩ := hq_ob h
    refine hv_getR fl_X0_21 e_x4 dX0_turn_101 ?_
    refine hv_aload_n 0 dX0_turn_104 rfl rfl ?_
    obtain ⟨x5, e_x5, h⟩ := hq_ob h
    refine hv_getI fl_X0_100 e_x5 dX0_turn_105 ?_
    obtain ⟨a6, e_a6, h⟩ := hq_nm h
    obtain ⟨s7, e_s7, h⟩ := hq_nm h
    refine hv_new (ci := 5) (r := (RX5, TX5, 4)) rfl hk_ok5 (by decide) q148 q354 q97 dX0_turn_108 ?_
    rw [show hk_mk s3 5 0 ((RX5, TX5, 4) : vw_C).2.2 = s7 from e_s7.symm, ← e_a6]
    refine hv_dup dX0_turn_111 rfl ?_
    refine hv_aload 3 dX0_turn_112 rfl ?_
    refine hv_iload_n 1 dX0_turn_114 rfl rfl ?_
    refine hv_iload 4 dX0_turn_115 rfl ?_
    refine hv_iload_n 2 dX0_turn_117 rfl rfl ?_
    obtain ⟨s8, e_s8, h⟩ := hq_ob h
    refine hv_callI [.ref v1, .int p2, .int v2, .int p3] [.ref a6, .int x5, va_rf x4] [.ref a6, .int x5, va_rf x4] (wk_xChange_init e_s8) cs_X0_103 rfl ⟨Nat.le_of_ble_eq_true rfl, Nat.le_of_ble_eq_true rfl⟩ rfl (by simp only [List.map, hk_cat]; exact Nat.le_of_ble_eq_true rfl) rfl dX0_turn_118 ?_
    obtain ⟨a9, e_a9, h⟩ := hq_nn h
    rw [e_a9]
    obtain ⟨s10, e_s10, h⟩ := hq_ob h
    refine hv_aast (by decide) (by decide) rfl hk_as7 e_s10 dX0_turn_121 ?_
    refine hv_aload_n 0 dX0_turn_122 rfl rfl ?_
    refine hv_dup dX0_turn_123 rfl ?_
    obtain ⟨x11, e_x11, h⟩ := hq_ob h
    refine hv_getI fl_X0_100 e_x11 dX0_turn_124 ?_
    refine hv_iconst (v := 1) dX0_turn_127 (by decide) ?_
    refine hv_iadd dX0_turn_128 ?_
    obtain ⟨s12, e_s12, h⟩ := hq_ob h
    refine hv_putI fp_X0_100 e_s12 (fun q => by cases q) dX0_turn_129 ?_
    refine hv_aload 3 dX0_turn_132 rfl ?_
    obtain ⟨x13, e_x13, h⟩ := hq_ob h
    refine hv_getR fl_X0_88 e_x13 dX0_turn_134 ?_
    refine hv_iload_n 1 dX0_turn_137 rfl rfl ?_
    refine hv_iload_n 2 dX0_turn_138 rfl rfl ?_
    obtain ⟨a14, e_a14, h⟩ := hq_nn h
    rw [e_a14]
    obtain ⟨s15, e_s15, h⟩ := hq_ob h
    refine hv_iast e_s15 dX0_turn_139 ?_
    refine hv_iload 4 dX0_turn_140 rfl ?_
    obtain ⟨h1, h2⟩ := hq_ret h
    subst h1
    subst h2
    exact hv_iret rfl dX0_turn_142
  clear e_k100
  refine hv_aload_n 0 dX0_turn_0 rfl rfl ?_
  refine hv_iload_n 1 dX0_turn_1 rfl rfl ?_
  obtain ⟨x16, e_x16, h⟩ := hq_ob h
  obtain ⟨g17, h⟩ := hq_gd h
  refine hv_callV [.int p1] [] [.int x16] (wk_x_isHead e_x16) cs_X0_89 g17 rfl ⟨Nat.le_of_ble_eq_true rfl, Nat.le_of_ble_eq_true rfl⟩ rfl (Nat.le_of_ble_eq_true rfl) rfl dX0_turn_2 ?_
  refine hv_if_eq (tgt := 16) dX0_turn_5 (by decide) (fun c18 => ?_) (fun c18 => ?_)
  · replace h := hq_ip c18 h
    refine hv_iconst (v := -1) dX0_turn_16 (by decide) ?_
    obtain ⟨h1, h2⟩ := hq_ret h
    subst h1
    subst h2
    exact hv_iret rfl dX0_turn_17
  · replace h := hq_in c18 h
    refine hv_iload_n 2 dX0_turn_8 rfl rfl ?_
    refine hv_iload_n 3 dX0_turn_9 rfl rfl ?_
    refine hv_callS [.int p2, .int p3] [] [.int (x_isTold p2 p3)] (wk_x_isTold rfl) cs_X0_84 rfl ⟨Nat.le_of_ble_eq_true rfl, Nat.le_of_ble_eq_true rfl⟩ rfl (Nat.le_of_ble_eq_true rfl) rfl dX0_turn_10 ?_
    refine hv_if_ne (tgt := 18) dX0_turn_13 (by decide) (fun c19 => ?_) (fun c19 => ?_)
    · replace h := hq_in c19 h
      refine hv_aload_n 0 dX0_turn_18 rfl rfl ?_
      obtain ⟨x20, e_x20, h⟩ := hq_ob h
      refine hv_getR fl_X0_15 e_x20 dX0_turn_19 ?_
      refine hv_iload_n 1 dX0_turn_22 rfl rfl ?_
      obtain ⟨a21, e_a21, h⟩ := hq_nn h
      rw [e_a21]
      obtain ⟨x22, e_x22, h⟩ := hq_ob h
      refine hv_aald (by decide) (by decide) rfl e_x22 dX0_turn_23 ?_
      refine hv_astoreq (L' := [(4, va_rf x22), (0, .ref th), (1, .int p1), (2, .int p2), (3, .int p3)]) dX0_turn_24 (Nat.le_of_ble_eq_true rfl) rfl ?_
      refine hv_aloadq 0 dX0_turn_26 rfl ?_
      obtain ⟨a23, e_a23, h⟩ := hq_nn h
      rw [e_a23]
      obtain ⟨x24, e_x24, h⟩ := hq_ob h
      refine hv_getR fl_X0_88 e_x24 dX0_turn_28 ?_
      refine hv_iload_n 3 dX0_turn_31 rfl rfl ?_
      obtain ⟨a25, e_a25, h⟩ := hq_nn h
      rw [e_a25]
      obtain ⟨x26, e_x26, h⟩ := hq_ob h
      refine hv_iald e_x26 dX0_turn_32 ?_
      refine hv_istore (L' := [(5, .int x26), (4, .ref a23), (0, .ref th), (1, .int p1), (2, .int p2), (3, .int p3)]) dX0_turn_33 (Nat.le_of_ble_eq_true rfl) rfl ?_
      refine hv_iload 0 dX0_turn_35 rfl ?_
      refine hv_iload_n 5 dX0_turn_37 rfl rfl ?_
      refine hv_icmp_ne (tgt := 44) dX0_turn_38 (by decide) (fun c27 => ?_) (fun c27 => ?_)
      · replace h := hq_in c27 h
        refine hv_aload_n 2 dX0_turn_44 rfl rfl ?_
        refine hv_iconst (v := 0) dX0_turn_45 (by decide) ?_
        obtain ⟨s28, e_s28, h⟩ := hq_ob h
        refine hv_putI fp_X0_97 e_s28 (fun q => by cases q) dX0_turn_46 ?_
        refine hv_aload_n 2 dX0_turn_49 rfl rfl ?_
        obtain ⟨x29, e_x29, h⟩ := hq_ob h
        refine hv_getI fl_X0_100 e_x29 dX0_turn_50 ?_
        refine hv_bipush (v := 40) dX0_turn_53 (by decide) ?_
        refine hv_icmp_ne (tgt := 100) dX0_turn_55 (by decide) (fun c30 => ?_) (fun c30 => ?_)
        · replace h := hq_in c30 h
          refine hv_sub [2, 4, 5, 1, 0] rfl ?_
          exact wk100 _ _ _ h
        · replace h := hq_ip c30 h
          refine hv_iconst (v := 1) dX0_turn_58 (by decide) ?_
          refine hv_istore (L' := [(6, .int (1 : Int32)), (5, .int x26), (4, .ref a23), (0, .ref th), (1, .int p1), (2, .int p2), (3, .int p3)]) dX0_turn_59 (Nat.le_of_ble_eq_true rfl) rfl ?_
          refine hv_sub [3, 5, 6, 2, 1, 0] rfl ?_
          refine wk_x_turn_L61  ?_ hk_F _ _ h
          · intro s35 h
            refine hv_aload_n 0 dX0_turn_90 rfl rfl ?_
            refine hv_dup dX0_turn_91 rfl ?_
            obtain ⟨x44, e_x44, h⟩ := hq_ob h
            refine hv_getI fl_X0_100 e_x44 dX0_turn_92 ?_
            refine hv_iconst (v := 1) dX0_turn_95 (by decide) ?_
            refine hv_isub dX0_turn_96 ?_
            obtain ⟨s45, e_s45, h⟩ := hq_ob h
            refine hv_putI fp_X0_100 e_s45 (fun q => by cases q) dX0_turn_97 ?_
            exact wk100 _ _ _ h
      · replace h := hq_ip c27 h
        refine hv_iload 0 dX0_turn_41 rfl ?_
        obtain ⟨h1, h2⟩ := hq_ret h
        subst h1
        subst h2
        exact hv_iret rfl dX0_turn_43
    · replace h := hq_ip c19 h
      refine hv_iconst (v := -1) dX0_turn_16 (by decide) ?_
      obtain ⟨h1, h2⟩ := hq_ret h
      subst h1
      subst h2
      exact hv_iret rfl dX0_turn_17
def x_undo (th : Nat) (s0 : hk_St) : Option (Int32 × hk_St) :=
  (hk_gI [0] 5 s0 th).bind fun x1 =>
  if x1 = 0 then
    some ((-5 : Int32), s0)
  else
  (hk_gI [0] 5 s0 th).bind fun x3 =>
    (hk_pI [0] 5 s0 th (x3 - (1 : Int32))).bind fun s4 =>
    (hk_gI [0] 6 s4 th).bind fun x5 =>
    (hk_pI [0] 6 s4 th (x5 + (1 : Int32))).bind fun s6 =>
    (hk_gR [0] 4 s6 th).bind fun x7 =>
    (hk_gI [0] 5 s6 th).bind fun x8 =>
    hk_nn x7 fun a9 =>
    (hk_lR 7 s6 a9 x8).bind fun x10 =>
    hk_nn x10 fun a11 =>
    (hk_gR [5] 500 s6 a11).bind fun x12 =>
    hk_nn x12 fun a13 =>
    (hk_gR [3] 300 s6 a13).bind fun x14 =>
    (hk_gR [0] 4 s6 th).bind fun x15 =>
    (hk_gI [0] 5 s6 th).bind fun x16 =>
    hk_nn x15 fun a17 =>
    (hk_lR 7 s6 a17 x16).bind fun x18 =>
    hk_nn x18 fun a19 =>
    (hk_gI [5] 501 s6 a19).bind fun x20 =>
    (hk_gR [0] 4 s6 th).bind fun x21 =>
    (hk_gI [0] 5 s6 th).bind fun x22 =>
    hk_nn x21 fun a23 =>
    (hk_lR 7 s6 a23 x22).bind fun x24 =>
    hk_nn x24 fun a25 =>
    (hk_gI [5] 502 s6 a25).bind fun x26 =>
    hk_nn x14 fun a27 =>
    (hk_tI 0 s6 a27 x20 x26).bind fun s28 =>
    (hk_gI [0] 5 s28 th).bind fun x29 =>
    some (x29, s28)
abbrev N_x_undo (l : Launch) : hk_N := (l, cX0_undo, "HeadReckons", 1, (some .int), 0, 0, false)
set_option maxHeartbeats 4000000 in
theorem wk_x_undo {l : Launch} {Gd : hk_G} {th : Nat} {s0 : hk_St} {r : Int32} {fin : hk_St} (h : x_undo th s0 = some (r, fin)) : hk_Met Gd l yX0_undo cX0_undo 1 (some .int) 0 0 [.ref th] s0 (some (.int r)) fin := by
  refine hk_start "HeadReckons" false (by decide +kernel) rfl (by decide) (Nat.le_of_ble_eq_true rfl) ?_
  show hk_V Gd (N_x_undo l) (hk_end Gd s0 (some (.int r)) fin) 0 [(0, .ref th)] [] s0
  unfold x_undo at h
  refine hv_aload_n 0 dX0_undo_0 rfl rfl ?_
  obtain ⟨x1, e_x1, h⟩ := hq_ob h
  refine hv_getI fl_X0_100 e_x1 dX0_undo_1 ?_
  refine hv_if_ne (tgt := 10) dX0_undo_4 (by decide) (fun c2 => ?_) (fun c2 => ?_)
  · replace h := hq_in c2 h
    refine hv_aload_n 0 dX0_undo_10 rfl rfl ?_
    refine hv_dup dX0_undo_11 rfl ?_
    obtain ⟨x3, e_x3, h⟩ := hq_ob h
    refine hv_getI fl_X0_100 e_x3 dX0_undo_12 ?_
    refine hv_iconst (v := 1) dX0_undo_15 (by decide) ?_
    refine hv_isub dX0_undo_16 ?_
    obtain ⟨s4, e_s4, h⟩ := hq_ob h
    refine hv_putI fp_X0_100 e_s4 (fun q => by cases q) dX0_undo_17 ?_
    refine hv_aload_n 0 dX0_undo_20 rfl rfl ?_
    refine hv_dup dX0_undo_21 rfl ?_
    obtain ⟨x5, e_x5, h⟩ := hq_ob h
    refine hv_getI fl_X0_97 e_x5 dX0_undo_22 ?_
    refine hv_iconst (v := 1) dX0_undo_25 (by decide) ?_
    refine hv_iadd dX0_undo_26 ?_
    obtain ⟨s6, e_s6, h⟩ := hq_ob h
    refine hv_putI fp_X0_97 e_s6 (fun q => by cases q) dX0_undo_27 ?_
    refine hv_aload_n 0 dX0_undo_30 rfl rfl ?_
    obtain ⟨x7, e_x7, h⟩ := hq_ob h
    refine hv_getR fl_X0_21 e_x7 dX0_undo_31 ?_
    refine hv_aload_n 0 dX0_undo_34 rfl rfl ?_
    obtain ⟨x8, e_x8, h⟩ := hq_ob h
    refine hv_getI fl_X0_100 e_x8 dX0_undo_35 ?_
    obtain ⟨a9, e_a9, h⟩ := hq_nn h
    rw [e_a9]
    obtain ⟨x10, e_x10, h⟩ := hq_ob h
    refine hv_aald (by decide) (by decide) rfl e_x10 dX0_undo_38 ?_
    obtain ⟨a11, e_a11, h⟩ := hq_nn h
    rw [e_a11]
    obtain ⟨x12, e_x12, h⟩ := hq_ob h
    refine hv_getR fl_X0_106 e_x12 dX0_undo_39 ?_
    obtain ⟨a13, e_a13, h⟩ := hq_nn h
    rw [e_a13]
    obtain ⟨x14, e_x14, h⟩ := hq_ob h
    refine hv_getR fl_X0_88 e_x14 dX0_undo_42 ?_
    refine hv_aload_n 0 dX0_undo_45 rfl rfl ?_
    obtain ⟨x15, e_x15, h⟩ := hq_ob h
    refine hv_getR fl_X0_21 e_x15 dX0_undo_46 ?_
    refine hv_aload_n 0 dX0_undo_49 rfl rfl ?_
    obtain ⟨x16, e_x16, h⟩ := hq_ob h
    refine hv_getI fl_X0_100 e_x16 dX0_undo_50 ?_
    obtain ⟨a17, e_a17, h⟩ := hq_nn h
    rw [e_a17]
    obtain ⟨x18, e_x18, h⟩ := hq_ob h
    refine hv_aald (by decide) (by decide) rfl e_x18 dX0_undo_53 ?_
    obtain ⟨a19, e_a19, h⟩ := hq_nn h
    rw [e_a19]
    obtain ⟨x20, e_x20, h⟩ := hq_ob h
    refine hv_getI fl_X0_109 e_x20 dX0_undo_54 ?_
    refine hv_aload_n 0 dX0_undo_57 rfl rfl ?_
    obtain ⟨x21, e_x21, h⟩ := hq_ob h
    refine hv_getR fl_X0_21 e_x21 dX0_undo_58 ?_
    refine hv_aload_n 0 dX0_undo_61 rfl rfl ?_
    obtain ⟨x22, e_x22, h⟩ := hq_ob h
    refine hv_getI fl_X0_100 e_x22 dX0_undo_62 ?_
    obtain ⟨a23, e_a23, h⟩ := hq_nn h
    rw [e_a23]
    obtain ⟨x24, e_x24, h⟩ := hq_ob h
    refine hv_aald (by decide) (by decide) rfl e_x24 dX0_undo_65 ?_
    obtain ⟨a25, e_a25, h⟩ := hq_nn h
    rw [e_a25]
    obtain ⟨x26, e_x26, h⟩ := hq_ob h
    refine hv_getI fl_X0_112 e_x26 dX0_undo_66 ?_
    obtain ⟨a27, e_a27, h⟩ := hq_nn h
    rw [e_a27]
    obtain ⟨s28, e_s28, h⟩ := hq_ob h
    refine hv_iast e_s28 dX0_undo_69 ?_
    refine hv_aload_n 0 dX0_undo_70 rfl rfl ?_
    obtain ⟨x29, e_x29, h⟩ := hq_ob h
    refine hv_getI fl_X0_100 e_x29 dX0_undo_71 ?_
    obtain ⟨h1, h2⟩ := hq_ret h
    subst h1
    subst h2
    exact hv_iret rfl dX0_undo_74
  · replace h := hq_ip c2 h
    refine hv_bipush (v := -5) dX0_undo_7 (by decide) ?_
    obtain ⟨h1, h2⟩ := hq_ret h
    subst h1
    subst h2
    exact hv_iret rfl dX0_undo_9
def x_redo (th : Nat) (s0 : hk_St) : Option (Int32 × hk_St) :=
  (hk_gI [0] 6 s0 th).bind fun x1 =>
  if x1 = 0 then
    some ((-5 : Int32), s0)
  else
  (hk_gR [0] 4 s0 th).bind fun x3 =>
    (hk_gI [0] 5 s0 th).bind fun x4 =>
    hk_nn x3 fun a5 =>
    (hk_lR 7 s0 a5 x4).bind fun x6 =>
    hk_nn x6 fun a7 =>
    (hk_gR [5] 500 s0 a7).bind fun x8 =>
    hk_nn x8 fun a9 =>
    (hk_gR [3] 300 s0 a9).bind fun x10 =>
    (hk_gR [0] 4 s0 th).bind fun x11 =>
    (hk_gI [0] 5 s0 th).bind fun x12 =>
    hk_nn x11 fun a13 =>
    (hk_lR 7 s0 a13 x12).bind fun x14 =>
    hk_nn x14 fun a15 =>
    (hk_gI [5] 501 s0 a15).bind fun x16 =>
    (hk_gR [0] 4 s0 th).bind fun x17 =>
    (hk_gI [0] 5 s0 th).bind fun x18 =>
    hk_nn x17 fun a19 =>
    (hk_lR 7 s0 a19 x18).bind fun x20 =>
    hk_nn x20 fun a21 =>
    (hk_gI [5] 503 s0 a21).bind fun x22 =>
    hk_nn x10 fun a23 =>
    (hk_tI 0 s0 a23 x16 x22).bind fun s24 =>
    (hk_gI [0] 5 s24 th).bind fun x25 =>
    (hk_pI [0] 5 s24 th (x25 + (1 : Int32))).bind fun s26 =>
    (hk_gI [0] 6 s26 th).bind fun x27 =>
    (hk_pI [0] 6 s26 th (x27 - (1 : Int32))).bind fun s28 =>
    (hk_gI [0] 6 s28 th).bind fun x29 =>
    some (x29, s28)
abbrev N_x_redo (l : Launch) : hk_N := (l, cX0_redo, "HeadReckons", 1, (some .int), 0, 0, false)
set_option maxHeartbeats 4000000 in
theorem wk_x_redo {l : Launch} {Gd : hk_G} {th : Nat} {s0 : hk_St} {r : Int32} {fin : hk_St} (h : x_redo th s0 = some (r, fin)) : hk_Met Gd l yX0_redo cX0_redo 1 (some .int) 0 0 [.ref th] s0 (some (.int r)) fin := by
  refine hk_start "HeadReckons" false (by decide +kernel) rfl (by decide) (Nat.le_of_ble_eq_true rfl) ?_
  show hk_V Gd (N_x_redo l) (hk_end Gd s0 (some (.int r)) fin) 0 [(0, .ref th)] [] s0
  unfold x_redo at h
  refine hv_aload_n 0 dX0_redo_0 rfl rfl ?_
  obtain ⟨x1, e_x1, h⟩ := hq_ob h
  refine hv_getI fl_X0_97 e_x1 dX0_redo_1 ?_
  refine hv_if_ne (tgt := 10) dX0_redo_4 (by decide) (fun c2 => ?_) (fun c2 => ?_)
  · replace h := hq_in c2 h
    refine hv_aload_n 0 dX0_redo_10 rfl rfl ?_
    obtain ⟨x3, e_x3, h⟩ := hq_ob h
    refine hv_getR fl_X0_21 e_x3 dX0_redo_11 ?_
    refine hv_aload_n 0 dX0_redo_14 rfl rfl ?_
    obtain ⟨x4, e_x4, h⟩ := hq_ob h
    refine hv_getI fl_X0_100 e_x4 dX0_redo_15 ?_
    obtain ⟨a5, e_a5, h⟩ := hq_nn h
    rw [e_a5]
    obtain ⟨x6, e_x6, h⟩ := hq_ob h
    refine hv_aald (by decide) (by decide) rfl e_x6 dX0_redo_18 ?_
    obtain ⟨a7, e_a7, h⟩ := hq_nn h
    rw [e_a7]
    obtain ⟨x8, e_x8, h⟩ := hq_ob h
    refine hv_getR fl_X0_106 e_x8 dX0_redo_19 ?_
    obtain ⟨a9, e_a9, h⟩ := hq_nn h
    rw [e_a9]
    obtain ⟨x10, e_x10, h⟩ := hq_ob h
    refine hv_getR fl_X0_88 e_x10 dX0_redo_22 ?_
    refine hv_aload_n 0 dX0_redo_25 rfl rfl ?_
    obtain ⟨x11, e_x11, h⟩ := hq_ob h
    refine hv_getR fl_X0_21 e_x11 dX0_redo_26 ?_
    refine hv_aload_n 0 dX0_redo_29 rfl rfl ?_
    obtain ⟨x12, e_x12, h⟩ := hq_ob h
    refine hv_getI fl_X0_100 e_x12 dX0_redo_30 ?_
    obtain ⟨a13, e_a13, h⟩ := hq_nn h
    rw [e_a13]
    obtain ⟨x14, e_x14, h⟩ := hq_ob h
    refine hv_aald (by decide) (by decide) rfl e_x14 dX0_redo_33 ?_
    obtain ⟨a15, e_a15, h⟩ := hq_nn h
    rw [e_a15]
    obtain ⟨x16, e_x16, h⟩ := hq_ob h
    refine hv_getI fl_X0_109 e_x16 dX0_redo_34 ?_
    refine hv_aload_n 0 dX0_redo_37 rfl rfl ?_
    obtain ⟨x17, e_x17, h⟩ := hq_ob h
    refine hv_getR fl_X0_21 e_x17 dX0_redo_38 ?_
    refine hv_aload_n 0 dX0_redo_41 rfl rfl ?_
    obtain ⟨x18, e_x18, h⟩ := hq_ob h
    refine hv_getI fl_X0_100 e_x18 dX0_redo_42 ?_
    obtain ⟨a19, e_a19, h⟩ := hq_nn h
    rw [e_a19]
    obtain ⟨x20, e_x20, h⟩ := hq_ob h
    refine hv_aald (by decide) (by decide) rfl e_x20 dX0_redo_45 ?_
    obtain ⟨a21, e_a21, h⟩ := hq_nn h
    rw [e_a21]
    obtain ⟨x22, e_x22, h⟩ := hq_ob h
    refine hv_getI fl_X0_115 e_x22 dX0_redo_46 ?_
    obtain ⟨a23, e_a23, h⟩ := hq_nn h
    rw [e_a23]
    obtain ⟨s24, e_s24, h⟩ := hq_ob h
    refine hv_iast e_s24 dX0_redo_49 ?_
    refine hv_aload_n 0 dX0_redo_50 rfl rfl ?_
    refine hv_dup dX0_redo_51 rfl ?_
    obtain ⟨x25, e_x25, h⟩ := hq_ob h
    refine hv_getI fl_X0_100 e_x25 dX0_redo_52 ?_
    refine hv_iconst (v := 1) dX0_redo_55 (by decide) ?_
    refine hv_iadd dX0_redo_56 ?_
    obtain ⟨s26, e_s26, h⟩ := hq_ob h
    refine hv_putI fp_X0_100 e_s26 (fun q => by cases q) dX0_redo_57 ?_
    refine hv_aload_n 0 dX0_redo_60 rfl rfl ?_
    refine hv_dup dX0_redo_61 rfl ?_
    obtain ⟨x27, e_x27, h⟩ := hq_ob h
    refine hv_getI fl_X0_97 e_x27 dX0_redo_62 ?_
    refine hv_iconst (v := 1) dX0_redo_65 (by decide) ?_
    refine hv_isub dX0_redo_66 ?_
    obtain ⟨s28, e_s28, h⟩ := hq_ob h
    refine hv_putI fp_X0_97 e_s28 (fun q => by cases q) dX0_redo_67 ?_
    refine hv_aload_n 0 dX0_redo_70 rfl rfl ?_
    obtain ⟨x29, e_x29, h⟩ := hq_ob h
    refine hv_getI fl_X0_97 e_x29 dX0_redo_71 ?_
    obtain ⟨h1, h2⟩ := hq_ret h
    subst h1
    subst h2
    exact hv_iret rfl dX0_redo_74
  · replace h := hq_ip c2 h
    refine hv_bipush (v := -5) dX0_redo_7 (by decide) ?_
    obtain ⟨h1, h2⟩ := hq_ret h
    subst h1
    subst h2
    exact hv_iret rfl dX0_redo_9
