set_option maxRecDepth 100000
def x_chosenOf (th : Nat) (p1 : Nat) (p2 : Int32) (p3 : Int32) (s0 : hk_St) : Option (Int32 × hk_St) :=
  (hk_gR [0] 7 s0 th).bind fun x1 =>
  hk_oc x1 (some ((1 : Int32), s0)) fun a2 =>
  (hk_gR [0] 8 s0 th).bind fun x3 =>
  hk_nn x3 fun a4 =>
  (xFacts_clear a4 s0).bind fun s5 =>
  hk_gd (hk_bf [1] s0 a4) <|
  (hk_gR [0] 8 s5 th).bind fun x7 =>
  hk_nn x7 fun a8 =>
  (hk_gR [1] 100 s5 a8).bind fun x9 =>
  (x_sizeOf p2.toInt64).bind fun x10 =>
  hk_nn x9 fun a11 =>
  (hk_tI 0 s5 a11 (109 : Int32) x10).bind fun s12 =>
  (hk_gR [0] 8 s12 th).bind fun x13 =>
  hk_nn x13 fun a14 =>
  (hk_gR [1] 100 s12 a14).bind fun x15 =>
  (x_sizeOf p3.toInt64).bind fun x16 =>
  hk_nn x15 fun a17 =>
  (hk_tI 0 s12 a17 (110 : Int32) x16).bind fun s18 =>
  (hk_gR [0] 8 s18 th).bind fun x19 =>
  hk_nn x19 fun a20 =>
  (hk_gR [1] 100 s18 a20).bind fun x21 =>
  hk_nn x21 fun a22 =>
  (hk_tI 0 s18 a22 (120 : Int32) (p2 - p2 / (10 : Int32) * (10 : Int32))).bind fun s23 =>
  (hk_gR [0] 8 s23 th).bind fun x24 =>
  hk_nn x24 fun a25 =>
  (hk_gR [1] 100 s23 a25).bind fun x26 =>
  hk_nn x26 fun a27 =>
  (hk_tI 0 s23 a27 (121 : Int32) (p3 - p3 / (10 : Int32) * (10 : Int32))).bind fun s28 =>
  (hk_gR [0] 8 s28 th).bind fun x29 =>
  hk_nn x29 fun a30 =>
  (hk_gR [1] 100 s28 a30).bind fun x31 =>
  hk_nn x31 fun a32 =>
  (hk_tI 0 s28 a32 (100 : Int32) (j_abs_i (p2 - p3))).bind fun s33 =>
  (hk_gR [0] 8 s33 th).bind fun x34 =>
  hk_nn x34 fun a35 =>
  (hk_gR [1] 100 s33 a35).bind fun x36 =>
  (x_noughts p2).bind fun x37 =>
  (x_noughts p3).bind fun x38 =>
  hk_nn x36 fun a39 =>
  (hk_tI 0 s33 a39 (122 : Int32) (x37 + x38)).bind fun s40 =>
  (hk_gR [0] 8 s40 th).bind fun x41 =>
  hk_nn x41 fun a42 =>
  (hk_gR [1] 100 s40 a42).bind fun x43 =>
  (hk_gR [3] 300 s40 p1).bind fun x44 =>
  hk_nn x44 fun a45 =>
  (hk_lI 0 s40 a45 (3 : Int32)).bind fun x46 =>
  hk_nn x43 fun a47 =>
  (hk_tI 0 s40 a47 (116 : Int32) x46).bind fun s48 =>
  (hk_gR [0] 8 s48 th).bind fun x49 =>
  hk_nn x49 fun a50 =>
  (hk_gR [1] 100 s48 a50).bind fun x51 =>
  (hk_gR [3] 300 s48 p1).bind fun x52 =>
  hk_nn x52 fun a53 =>
  (hk_lI 0 s48 a53 (4 : Int32)).bind fun x54 =>
  hk_nn x51 fun a55 =>
  (hk_tI 0 s48 a55 (99 : Int32) x54).bind fun s56 =>
  (x_gives th s56).bind fun x57 =>
  hk_gd (hk_bf [0] s56 th) <|
  if (x_in x57 (0 : Int32) (6 : Int32)) = 0 then
    some ((1 : Int32), s56)
  else
  (hk_gR [0] 9 s56 th).bind fun x60 =>
  hk_nn x60 fun a61 =>
  (xActs_lay a61 p1 x57 p2 p3 s56).bind fun q62 =>
  hk_gd (hk_bf [2] s56 a61) <|
  if q62.1 = 0 then
    some ((1 : Int32), q62.2)
  else
  some (x57, q62.2)
abbrev N_x_chosenOf (l : Launch) : hk_N := (l, cX0_chosenOf, "HeadReckons", 5, (some .int), 222, 12240, false)
set_option maxHeartbeats 4000000 in
theorem wk_x_chosenOf {l : Launch} {Gd : hk_G} {th : Nat} {p1 : Nat} {p2 : Int32} {p3 : Int32} {s0 : hk_St} {r : Int32} {fin : hk_St} (h : x_chosenOf th p1 p2 p3 s0 = some (r, fin)) : hk_Met Gd l yX0_chosenOf cX0_chosenOf 5 (some .int) 222 12240 [.ref th, .ref p1, .int p2, .int p3] s0 (some (.int r)) fin := by
  refine hk_start "HeadReckons" false (by decide +kernel) rfl (by decide) (Nat.le_of_ble_eq_true rfl) ?_
  show hk_V Gd (N_x_chosenOf l) (hk_end Gd s0 (some (.int r)) fin) 0 [(0, .ref th), (1, .ref p1), (2, .int p2), (3, .int p3)] [] s0
  unfold x_chosenOf at h
  refine hv_aload_n 0 dX0_chosenOf_0 rfl rfl ?_
  obtain ⟨x1, e_x1, h⟩ := hq_ob h
  refine hv_getR fl_X0_128 e_x1 dX0_chosenOf_1 ?_
  refine hv_ifnonnull (tgt := 9) dX0_chosenOf_4 (by decide) (fun a2 e65 => ?_) (fun e65 => ?_)
  · rw [e65] at h
    try rw [e65]
    refine hv_aload_n 0 dX0_chosenOf_9 rfl rfl ?_
    obtain ⟨x3, e_x3, h⟩ := hq_ob h
    refine hv_getR fl_X0_28 e_x3 dX0_chosenOf_10 ?_
    obtain ⟨a4, e_a4, h⟩ := hq_nn h
    rw [e_a4]
    obtain ⟨s5, e_s5, h⟩ := hq_ob h
    obtain ⟨g6, h⟩ := hq_gd h
    refine hv_callV [] [] [] (wk_xFacts_clear e_s5) cs_X0_186 g6 rfl ⟨Nat.le_of_ble_eq_true rfl, Nat.le_of_ble_eq_true rfl⟩ rfl (Nat.le_of_ble_eq_true rfl) rfl dX0_chosenOf_13 ?_
    refine hv_aload_n 0 dX0_chosenOf_16 rfl rfl ?_
    obtain ⟨x7, e_x7, h⟩ := hq_ob h
    refine hv_getR fl_X0_28 e_x7 dX0_chosenOf_17 ?_
    obtain ⟨a8, e_a8, h⟩ := hq_nn h
    rw [e_a8]
    obtain ⟨x9, e_x9, h⟩ := hq_ob h
    refine hv_getR fl_X0_189 e_x9 dX0_chosenOf_20 ?_
    refine hv_bipush (v := 109) dX0_chosenOf_23 (by decide) ?_
    refine hv_iload_n 2 dX0_chosenOf_25 rfl rfl ?_
    refine hv_i2l dX0_chosenOf_26 ?_
    obtain ⟨x10, e_x10, h⟩ := hq_ob h
    refine hv_callS [.long p2.toInt64] [.int (109 : Int32), va_rf x9] [.int x10, .int (109 : Int32), va_rf x9] (wk_x_sizeOf e_x10) cs_X0_192 rfl ⟨Nat.le_of_ble_eq_true rfl, Nat.le_of_ble_eq_true rfl⟩ rfl (by simp only [List.map, hk_cat]; exact Nat.le_of_ble_eq_true rfl) rfl dX0_chosenOf_27 ?_
    obtain ⟨a11, e_a11, h⟩ := hq_nn h
    rw [e_a11]
    obtain ⟨s12, e_s12, h⟩ := hq_ob h
    refine hv_iast e_s12 dX0_chosenOf_30 ?_
    refine hv_aload_n 0 dX0_chosenOf_31 rfl rfl ?_
    obtain ⟨x13, e_x13, h⟩ := hq_ob h
    refine hv_getR fl_X0_28 e_x13 dX0_chosenOf_32 ?_
    obtain ⟨a14, e_a14, h⟩ := hq_nn h
    rw [e_a14]
    obtain ⟨x15, e_x15, h⟩ := hq_ob h
    refine hv_getR fl_X0_189 e_x15 dX0_chosenOf_35 ?_
    refine hv_bipush (v := 110) dX0_chosenOf_38 (by decide) ?_
    refine hv_iload_n 3 dX0_chosenOf_40 rfl rfl ?_
    refine hv_i2l dX0_chosenOf_41 ?_
    obtain ⟨x16, e_x16, h⟩ := hq_ob h
    refine hv_callS [.long p3.toInt64] [.int (110 : Int32), va_rf x15] [.int x16, .int (110 : Int32), va_rf x15] (wk_x_sizeOf e_x16) cs_X0_192 rfl ⟨Nat.le_of_ble_eq_true rfl, Nat.le_of_ble_eq_true rfl⟩ rfl (by simp only [List.map, hk_cat]; exact Nat.le_of_ble_eq_true rfl) rfl dX0_chosenOf_42 ?_
    obtain ⟨a17, e_a17, h⟩ := hq_nn h
    rw [e_a17]
    obtain ⟨s18, e_s18, h⟩ := hq_ob h
    refine hv_iast e_s18 dX0_chosenOf_45 ?_
    refine hv_aload_n 0 dX0_chosenOf_46 rfl rfl ?_
    obtain ⟨x19, e_x19, h⟩ := hq_ob h
    refine hv_getR fl_X0_28 e_x19 dX0_chosenOf_47 ?_
    obtain ⟨a20, e_a20, h⟩ := hq_nn h
    rw [e_a20]
    obtain ⟨x21, e_x21, h⟩ := hq_ob h
    refine hv_getR fl_X0_189 e_x21 dX0_chosenOf_50 ?_
    refine hv_bipush (v := 120) dX0_chosenOf_53 (by decide) ?_
    refine hv_iload_n 2 dX0_chosenOf_55 rfl rfl ?_
    refine hv_bipush (v := 10) dX0_chosenOf_56 (by decide) ?_
    refine hv_irem (by decide) dX0_chosenOf_58 ?_
    obtain ⟨a22, e_a22, h⟩ := hq_nn h
    rw [e_a22]
    obtain ⟨s23, e_s23, h⟩ := hq_ob h
    refine hv_iast e_s23 dX0_chosenOf_59 ?_
    refine hv_aload_n 0 dX0_chosenOf_60 rfl rfl ?_
    obtain ⟨x24, e_x24, h⟩ := hq_ob h
    refine hv_getR fl_X0_28 e_x24 dX0_chosenOf_61 ?_
    obtain ⟨a25, e_a25, h⟩ := hq_nn h
    rw [e_a25]
    obtain ⟨x26, e_x26, h⟩ := hq_ob h
    refine hv_getR fl_X0_189 e_x26 dX0_chosenOf_64 ?_
    refine hv_bipush (v := 121) dX0_chosenOf_67 (by decide) ?_
    refine hv_iload_n 3 dX0_chosenOf_69 rfl rfl ?_
    refine hv_bipush (v := 10) dX0_chosenOf_70 (by decide) ?_
    refine hv_irem (by decide) dX0_chosenOf_72 ?_
    obtain ⟨a27, e_a27, h⟩ := hq_nn h
    rw [e_a27]
    obtain ⟨s28, e_s28, h⟩ := hq_ob h
    refine hv_iast e_s28 dX0_chosenOf_73 ?_
    refine hv_aload_n 0 dX0_chosenOf_74 rfl rfl ?_
    obtain ⟨x29, e_x29, h⟩ := hq_ob h
    refine hv_getR fl_X0_28 e_x29 dX0_chosenOf_75 ?_
    obtain ⟨a30, e_a30, h⟩ := hq_nn h
    rw [e_a30]
    obtain ⟨x31, e_x31, h⟩ := hq_ob h
    refine hv_getR fl_X0_189 e_x31 dX0_chosenOf_78 ?_
    refine hv_bipush (v := 100) dX0_chosenOf_81 (by decide) ?_
    refine hv_iload_n 2 dX0_chosenOf_83 rfl rfl ?_
    refine hv_iload_n 3 dX0_chosenOf_84 rfl rfl ?_
    refine hv_isub dX0_chosenOf_85 ?_
    refine hv_callS [.int (p2 - p3)] [.int (100 : Int32), va_rf x31] [.int (j_abs_i (p2 - p3)), .int (100 : Int32), va_rf x31] (wk_j_abs_i rfl) cs_X0_196 rfl ⟨Nat.le_of_ble_eq_true rfl, Nat.le_of_ble_eq_true rfl⟩ rfl (by simp only [List.map, hk_cat]; exact Nat.le_of_ble_eq_true rfl) rfl dX0_chosenOf_86 ?_
    obtain ⟨a32, e_a32, h⟩ := hq_nn h
    rw [e_a32]
    obtain ⟨s33, e_s33, h⟩ := hq_ob h
    refine hv_iast e_s33 dX0_chosenOf_89 ?_
    refine hv_aload_n 0 dX0_chosenOf_90 rfl rfl ?_
    obtain ⟨x34, e_x34, h⟩ := hq_ob h
    refine hv_getR fl_X0_28 e_x34 dX0_chosenOf_91 ?_
    obtain ⟨a35, e_a35, h⟩ := hq_nn h
    rw [e_a35]
    obtain ⟨x36, e_x36, h⟩ := hq_ob h
    refine hv_getR fl_X0_189 e_x36 dX0_chosenOf_94 ?_
    refine hv_bipush (v := 122) dX0_chosenOf_97 (by decide) ?_
    refine hv_iload_n 2 dX0_chosenOf_99 rfl rfl ?_
    obtain ⟨x37, e_x37, h⟩ := hq_ob h
    refine hv_callS [.int p2] [.int (122 : Int32), va_rf x36] [.int x37, .int (122 : Int32), va_rf x36] (wk_x_noughts e_x37) cs_X0_202 rfl ⟨Nat.le_of_ble_eq_true rfl, Nat.le_of_ble_eq_true rfl⟩ rfl (by simp only [List.map, hk_cat]; exact Nat.le_of_ble_eq_true rfl) rfl dX0_chosenOf_100 ?_
    refine hv_iload_n 3 dX0_chosenOf_103 rfl rfl ?_
    obtain ⟨x38, e_x38, h⟩ := hq_ob h
    refine hv_callS [.int p3] [.int x37, .int (122 : Int32), va_rf x36] [.int x38, .int x37, .int (122 : Int32), va_rf x36] (wk_x_noughts e_x38) cs_X0_202 rfl ⟨Nat.le_of_ble_eq_true rfl, Nat.le_of_ble_eq_true rfl⟩ rfl (by simp only [List.map, hk_cat]; exact Nat.le_of_ble_eq_true rfl) rfl dX0_chosenOf_104 ?_
    refine hv_iadd dX0_chosenOf_107 ?_
    obtain ⟨a39, e_a39, h⟩ := hq_nn h
    rw [e_a39]
    obtain ⟨s40, e_s40, h⟩ := hq_ob h
    refine hv_iast e_s40 dX0_chosenOf_108 ?_
    refine hv_aload_n 0 dX0_chosenOf_109 rfl rfl ?_
    obtain ⟨x41, e_x41, h⟩ := hq_ob h
    refine hv_getR fl_X0_28 e_x41 dX0_chosenOf_110 ?_
    obtain ⟨a42, e_a42, h⟩ := hq_nn h
    rw [e_a42]
    obtain ⟨x43, e_x43, h⟩ := hq_ob h
    refine hv_getR fl_X0_189 e_x43 dX0_chosenOf_113 ?_
    refine hv_bipush (v := 116) dX0_chosenOf_116 (by decide) ?_
    refine hv_aload_n 1 dX0_chosenOf_118 rfl rfl ?_
    obtain ⟨x44, e_x44, h⟩ := hq_ob h
    refine hv_getR fl_X0_88 e_x44 dX0_chosenOf_119 ?_
    refine hv_iconst (v := 3) dX0_chosenOf_122 (by decide) ?_
    obtain ⟨a45, e_a45, h⟩ := hq_nn h
    rw [e_a45]
    obtain ⟨x46, e_x46, h⟩ := hq_ob h
    refine hv_iald e_x46 dX0_chosenOf_123 ?_
    obtain ⟨a47, e_a47, h⟩ := hq_nn h
    rw [e_a47]
    obtain ⟨s48, e_s48, h⟩ := hq_ob h
    refine hv_iast e_s48 dX0_chosenOf_124 ?_
    refine hv_aload_n 0 dX0_chosenOf_125 rfl rfl ?_
    obtain ⟨x49, e_x49, h⟩ := hq_ob h
    refine hv_getR fl_X0_28 e_x49 dX0_chosenOf_126 ?_
    obtain ⟨a50, e_a50, h⟩ := hq_nn h
    rw [e_a50]
    obtain ⟨x51, e_x51, h⟩ := hq_ob h
    refine hv_getR fl_X0_189 e_x51 dX0_chosenOf_129 ?_
    refine hv_bipush (v := 99) dX0_chosenOf_132 (by decide) ?_
    refine hv_aload_n 1 dX0_chosenOf_134 rfl rfl ?_
    obtain ⟨x52, e_x52, h⟩ := hq_ob h
    refine hv_getR fl_X0_88 e_x52 dX0_chosenOf_135 ?_
    refine hv_iconst (v := 4) dX0_chosenOf_138 (by decide) ?_
    obtain ⟨a53, e_a53, h⟩ := hq_nn h
    rw [e_a53]
    obtain ⟨x54, e_x54, h⟩ := hq_ob h
    refine hv_iald e_x54 dX0_chosenOf_139 ?_
    obtain ⟨a55, e_a55, h⟩ := hq_nn h
    rw [e_a55]
    obtain ⟨s56, e_s56, h⟩ := hq_ob h
    refine hv_iast e_s56 dX0_chosenOf_140 ?_
    refine hv_aload_n 0 dX0_chosenOf_141 rfl rfl ?_
    obtain ⟨x57, e_x57, h⟩ := hq_ob h
    obtain ⟨g58, h⟩ := hq_gd h
    refine hv_callV [] [] [.int x57] (wk_x_gives e_x57) cs_X0_205 g58 rfl ⟨Nat.le_of_ble_eq_true rfl, Nat.le_of_ble_eq_true rfl⟩ rfl (Nat.le_of_ble_eq_true rfl) rfl dX0_chosenOf_142 ?_
    refine hv_istore (L' := [(4, .int x57), (0, .ref th), (1, .ref p1), (2, .int p2), (3, .int p3)]) dX0_chosenOf_145 (Nat.le_of_ble_eq_true rfl) rfl ?_
    refine hv_iload 0 dX0_chosenOf_147 rfl ?_
    refine hv_iconst (v := 0) dX0_chosenOf_149 (by decide) ?_
    refine hv_bipush (v := 6) dX0_chosenOf_150 (by decide) ?_
    refine hv_callS [.int x57, .int (0 : Int32), .int (6 : Int32)] [] [.int (x_in x57 (0 : Int32) (6 : Int32))] (wk_x_in rfl) cs_X0_73 rfl ⟨Nat.le_of_ble_eq_true rfl, Nat.le_of_ble_eq_true rfl⟩ rfl (Nat.le_of_ble_eq_true rfl) rfl dX0_chosenOf_152 ?_
    refine hv_if_eq (tgt := 178) dX0_chosenOf_155 (by decide) (fun c59 => ?_) (fun c59 => ?_)
    · replace h := hq_ip c59 h
      refine hv_iconst (v := 1) dX0_chosenOf_178 (by decide) ?_
      obtain ⟨h1, h2⟩ := hq_ret h
      subst h1
      subst h2
      exact hv_iret rfl dX0_chosenOf_179
    · replace h := hq_in c59 h
      refine hv_aload_n 1 dX0_chosenOf_158 rfl rfl ?_
      obtain ⟨x60, e_x60, h⟩ := hq_ob h
      refine hv_getR fl_X0_37 e_x60 dX0_chosenOf_159 ?_
      refine hv_aload_n 2 dX0_chosenOf_162 rfl rfl ?_
      refine hv_iload 0 dX0_chosenOf_163 rfl ?_
      refine hv_iload_n 3 dX0_chosenOf_165 rfl rfl ?_
      refine hv_iload_n 4 dX0_chosenOf_166 rfl rfl ?_
      obtain ⟨a61, e_a61, h⟩ := hq_nn h
      rw [e_a61]
      obtain ⟨q62, e_q62, h⟩ := hq_ob h
      obtain ⟨g63, h⟩ := hq_gd h
      refine hv_callV [.ref p1, .int x57, .int p2, .int p3] [] [.int q62.1] (wk_xActs_lay e_q62) cs_X0_150 g63 rfl ⟨Nat.le_of_ble_eq_true rfl, Nat.le_of_ble_eq_true rfl⟩ rfl (Nat.le_of_ble_eq_true rfl) rfl dX0_chosenOf_167 ?_
      refine hv_if_eq (tgt := 178) dX0_chosenOf_170 (by decide) (fun c64 => ?_) (fun c64 => ?_)
      · replace h := hq_ip c64 h
        refine hv_iconst (v := 1) dX0_chosenOf_178 (by decide) ?_
        obtain ⟨h1, h2⟩ := hq_ret h
        subst h1
        subst h2
        exact hv_iret rfl dX0_chosenOf_179
      · replace h := hq_in c64 h
        refine hv_iload 0 dX0_chosenOf_173 rfl ?_
        refine hv_goto (tgt := 179) dX0_chosenOf_175 (by decide) ?_
        obtain ⟨h1, h2⟩ := hq_ret h
        subst h1
        subst h2
        exact hv_iret rfl dX0_chosenOf_179
  · rw [e65] at h
    try rw [e65]
    refine hv_iconst (v := 1) dX0_chosenOf_7 (by decide) ?_
    obtain ⟨h1, h2⟩ := hq_ret h
    subst h1
    subst h2
    exact hv_iret rfl dX0_chosenOf_8
def x_chosen (th : Nat) (p1 : Int32) (p2 : Int32) (s0 : hk_St) : Option (Int32 × hk_St) :=
  (x_isHead th p1 s0).bind fun x1 =>
  hk_gd (hk_bf [0] s0 th) <|
  if x1 = 0 then
    some ((-1 : Int32), s0)
  else
  if (x_isPair p2) = 0 then
    some ((-1 : Int32), s0)
  else
  (hk_gR [0] 2 s0 th).bind fun x5 =>
  hk_nn x5 fun a6 =>
  (hk_lR 6 s0 a6 p1).bind fun x7 =>
  hk_nn x7 fun a8 =>
  (x_chosenOf th a8 (p2 / (10000 : Int32)) (p2 - p2 / (10000 : Int32) * (10000 : Int32)) s0).bind fun q9 =>
  hk_gd (hk_bf [0] s0 th) <|
  some (q9.1, q9.2)
abbrev N_x_chosen (l : Launch) : hk_N := (l, cX0_chosen, "HeadReckons", 3, (some .int), 223, 12264, false)
set_option maxHeartbeats 4000000 in
theorem wk_x_chosen {l : Launch} {Gd : hk_G} {th : Nat} {p1 : Int32} {p2 : Int32} {s0 : hk_St} {r : Int32} {fin : hk_St} (h : x_chosen th p1 p2 s0 = some (r, fin)) : hk_Met Gd l yX0_chosen cX0_chosen 3 (some .int) 223 12264 [.ref th, .int p1, .int p2] s0 (some (.int r)) fin := by
  refine hk_start "HeadReckons" false (by decide +kernel) rfl (by decide) (Nat.le_of_ble_eq_true rfl) ?_
  show hk_V Gd (N_x_chosen l) (hk_end Gd s0 (some (.int r)) fin) 0 [(0, .ref th), (1, .int p1), (2, .int p2)] [] s0
  unfold x_chosen at h
  refine hv_aload_n 0 dX0_chosen_0 rfl rfl ?_
  refine hv_iload_n 1 dX0_chosen_1 rfl rfl ?_
  obtain ⟨x1, e_x1, h⟩ := hq_ob h
  obtain ⟨g2, h⟩ := hq_gd h
  refine hv_callV [.int p1] [] [.int x1] (wk_x_isHead e_x1) cs_X0_89 g2 rfl ⟨Nat.le_of_ble_eq_true rfl, Nat.le_of_ble_eq_true rfl⟩ rfl (Nat.le_of_ble_eq_true rfl) rfl dX0_chosen_2 ?_
  refine hv_if_eq (tgt := 38) dX0_chosen_5 (by decide) (fun c3 => ?_) (fun c3 => ?_)
  · replace h := hq_ip c3 h
    refine hv_iconst (v := -1) dX0_chosen_38 (by decide) ?_
    obtain ⟨h1, h2⟩ := hq_ret h
    subst h1
    subst h2
    exact hv_iret rfl dX0_chosen_39
  · replace h := hq_in c3 h
    refine hv_iload_n 2 dX0_chosen_8 rfl rfl ?_
    refine hv_callS [.int p2] [] [.int (x_isPair p2)] (wk_x_isPair rfl) cs_X0_157 rfl ⟨Nat.le_of_ble_eq_true rfl, Nat.le_of_ble_eq_true rfl⟩ rfl (Nat.le_of_ble_eq_true rfl) rfl dX0_chosen_9 ?_
    refine hv_if_eq (tgt := 38) dX0_chosen_12 (by decide) (fun c4 => ?_) (fun c4 => ?_)
    · replace h := hq_ip c4 h
      refine hv_iconst (v := -1) dX0_chosen_38 (by decide) ?_
      obtain ⟨h1, h2⟩ := hq_ret h
      subst h1
      subst h2
      exact hv_iret rfl dX0_chosen_39
    · replace h := hq_in c4 h
      refine hv_aload_n 0 dX0_chosen_15 rfl rfl ?_
      refine hv_aload_n 0 dX0_chosen_16 rfl rfl ?_
      obtain ⟨x5, e_x5, h⟩ := hq_ob h
      refine hv_getR fl_X0_15 e_x5 dX0_chosen_17 ?_
      refine hv_iload_n 1 dX0_chosen_20 rfl rfl ?_
      obtain ⟨a6, e_a6, h⟩ := hq_nn h
      rw [e_a6]
      obtain ⟨x7, e_x7, h⟩ := hq_ob h
      refine hv_aald (by decide) (by decide) rfl e_x7 dX0_chosen_21 ?_
      refine hv_iload_n 2 dX0_chosen_22 rfl rfl ?_
      refine hv_sipush (v := 10000) dX0_chosen_23 (by decide) ?_
      refine hv_idiv (by decide) dX0_chosen_26 ?_
      refine hv_iload_n 2 dX0_chosen_27 rfl rfl ?_
      refine hv_sipush (v := 10000) dX0_chosen_28 (by decide) ?_
      refine hv_irem (by decide) dX0_chosen_31 ?_
      obtain ⟨a8, e_a8, h⟩ := hq_nn h
      rw [e_a8]
      obtain ⟨q9, e_q9, h⟩ := hq_ob h
      obtain ⟨g10, h⟩ := hq_gd h
      refine hv_callV [.ref a8, .int (p2 / (10000 : Int32)), .int (p2 - p2 / (10000 : Int32) * (10000 : Int32))] [] [.int q9.1] (wk_x_chosenOf e_q9) cs_X0_207 g10 rfl ⟨Nat.le_of_ble_eq_true rfl, Nat.le_of_ble_eq_true rfl⟩ rfl (Nat.le_of_ble_eq_true rfl) rfl dX0_chosen_32 ?_
      refine hv_goto (tgt := 39) dX0_chosen_35 (by decide) ?_
      obtain ⟨h1, h2⟩ := hq_ret h
      subst h1
      subst h2
      exact hv_iret rfl dX0_chosen_39
def xActs_slipWays (th : Nat) (p1 : Int32) (s0 : hk_St) : Option (Int32) :=
  (hk_gR [2] 200 s0 th).bind fun x1 =>
  hk_nn x1 fun a2 =>
  (hk_lI 0 s0 a2 p1).bind fun x3 =>
  if x3 = 0 then
    some (2 : Int32)
  else
  (hk_gR [2] 200 s0 th).bind fun x5 =>
    hk_nn x5 fun a6 =>
    (hk_lI 0 s0 a6 p1).bind fun x7 =>
    if x7 = (1 : Int32) then
      (hk_gR [2] 203 s0 th).bind fun x9 =>
    hk_nn x9 fun a10 =>
    (hk_lL s0 a10 p1).bind fun x11 =>
    (x_sizeOf x11).bind fun x12 =>
    some x12
    else
    some (0 : Int32)
abbrev N_xActs_slipWays (l : Launch) : hk_N := (l, cX2_slipWays, "HeadReckons$Acts", 2, (some .int), 1, 24, false)
set_option maxHeartbeats 4000000 in
theorem wk_xActs_slipWays {l : Launch} {Gd : hk_G} {th : Nat} {p1 : Int32} {s0 : hk_St} {r : Int32} (h : xActs_slipWays th p1 s0 = some r) : hk_Met Gd l yX2_slipWays cX2_slipWays 2 (some .int) 1 24 [.ref th, .int p1] s0 (some (.int r)) s0 := by
  refine hk_start "HeadReckons$Acts" false (by decide +kernel) rfl (by decide) (Nat.le_of_ble_eq_true rfl) ?_
  show hk_V Gd (N_xActs_slipWays l) (hk_end Gd s0 (some (.int r)) s0) 0 [(0, .ref th), (1, .int p1)] [] s0
  unfold xActs_slipWays at h
  refine hv_aload_n 0 dX2_slipWays_0 rfl rfl ?_
  obtain ⟨x1, e_x1, h⟩ := hq_ob h
  refine hv_getR fl_X2_15 e_x1 dX2_slipWays_1 ?_
  refine hv_iload_n 1 dX2_slipWays_4 rfl rfl ?_
  obtain ⟨a2, e_a2, h⟩ := hq_nn h
  rw [e_a2]
  obtain ⟨x3, e_x3, h⟩ := hq_ob h
  refine hv_iald e_x3 dX2_slipWays_5 ?_
  refine hv_if_ne (tgt := 13) dX2_slipWays_6 (by decide) (fun c4 => ?_) (fun c4 => ?_)
  · replace h := hq_in c4 h
    refine hv_aload_n 0 dX2_slipWays_13 rfl rfl ?_
    obtain ⟨x5, e_x5, h⟩ := hq_ob h
    refine hv_getR fl_X2_15 e_x5 dX2_slipWays_14 ?_
    refine hv_iload_n 1 dX2_slipWays_17 rfl rfl ?_
    obtain ⟨a6, e_a6, h⟩ := hq_nn h
    rw [e_a6]
    obtain ⟨x7, e_x7, h⟩ := hq_ob h
    refine hv_iald e_x7 dX2_slipWays_18 ?_
    refine hv_iconst (v := 1) dX2_slipWays_19 (by decide) ?_
    refine hv_icmp_ne (tgt := 35) dX2_slipWays_20 (by decide) (fun c8 => ?_) (fun c8 => ?_)
    · replace h := hq_in c8 h
      refine hv_iconst (v := 0) dX2_slipWays_35 (by decide) ?_
      have h := Option.some.inj h
      subst h
      exact hv_iret rfl dX2_slipWays_36
    · replace h := hq_ip c8 h
      refine hv_aload_n 0 dX2_slipWays_23 rfl rfl ?_
      obtain ⟨x9, e_x9, h⟩ := hq_ob h
      refine hv_getR fl_X2_25 e_x9 dX2_slipWays_24 ?_
      refine hv_iload_n 1 dX2_slipWays_27 rfl rfl ?_
      obtain ⟨a10, e_a10, h⟩ := hq_nn h
      rw [e_a10]
      obtain ⟨x11, e_x11, h⟩ := hq_ob h
      refine hv_lald e_x11 dX2_slipWays_28 ?_
      obtain ⟨x12, e_x12, h⟩ := hq_ob h
      refine hv_callSN [.long x11] [] [.int x12] (wk_x_sizeOf e_x12) cs_X2_96 rfl ⟨Nat.le_of_ble_eq_true rfl, Nat.le_of_ble_eq_true rfl⟩ rfl (Nat.le_of_ble_eq_true rfl) rfl dX2_slipWays_29 ?_
      refine hv_goto (tgt := 36) dX2_slipWays_32 (by decide) ?_
      have h := Option.some.inj h
      subst h
      exact hv_iret rfl dX2_slipWays_36
  · replace h := hq_ip c4 h
    refine hv_iconst (v := 2) dX2_slipWays_9 (by decide) ?_
    refine hv_goto (tgt := 36) dX2_slipWays_10 (by decide) ?_
    have h := Option.some.inj h
    subst h
    exact hv_iret rfl dX2_slipWays_36
def xActs_slip (th : Nat) (p1 : Int32) (p2 : Int32) (s0 : hk_St) : Option (Int64) :=
  (hk_gR [2] 205 s0 th).bind fun x1 =>
  hk_nn x1 fun a2 =>
  (hk_lL s0 a2 p1).bind fun x3 =>
  (hk_gR [2] 200 s0 th).bind fun x4 =>
  hk_nn x4 fun a5 =>
  (hk_lI 0 s0 a5 p1).bind fun x6 =>
  if x6 = 0 then
    if p2 = (1 : Int32) then
    (hk_gR [2] 204 s0 th).bind fun x13 =>
  hk_nn x13 fun a14 =>
  (hk_lL s0 a14 p1).bind fun x15 =>
  some (x3 * x15)
  else
  (hk_gR [2] 204 s0 th).bind fun x10 =>
    hk_nn x10 fun a11 =>
    (hk_lL s0 a11 p1).bind fun x12 =>
    some (x3 * (-x12))
  else
  (x_tenTo p2).bind fun x8 =>
    some (x3 * (-x8))
abbrev N_xActs_slip (l : Launch) : hk_N := (l, cX2_slip, "HeadReckons$Acts", 3, (some .long), 1, 23, false)
set_option maxHeartbeats 4000000 in
theorem wk_xActs_slip {l : Launch} {Gd : hk_G} {th : Nat} {p1 : Int32} {p2 : Int32} {s0 : hk_St} {r : Int64} (h : xActs_slip th p1 p2 s0 = some r) : hk_Met Gd l yX2_slip cX2_slip 3 (some .long) 1 23 [.ref th, .int p1, .int p2] s0 (some (.long r)) s0 := by
  refine hk_start "HeadReckons$Acts" false (by decide +kernel) rfl (by decide) (Nat.le_of_ble_eq_true rfl) ?_
  show hk_V Gd (N_xActs_slip l) (hk_end Gd s0 (some (.long r)) s0) 0 [(0, .ref th), (1, .int p1), (2, .int p2)] [] s0
  unfold xActs_slip at h
  refine hv_aload_n 0 dX2_slip_0 rfl rfl ?_
  obtain ⟨x1, e_x1, h⟩ := hq_ob h
  refine hv_getR fl_X2_32 e_x1 dX2_slip_1 ?_
  refine hv_iload_n 1 dX2_slip_4 rfl rfl ?_
  obtain ⟨a2, e_a2, h⟩ := hq_nn h
  rw [e_a2]
  obtain ⟨x3, e_x3, h⟩ := hq_ob h
  refine hv_lald e_x3 dX2_slip_5 ?_
  refine hv_aload_n 0 dX2_slip_6 rfl rfl ?_
  obtain ⟨x4, e_x4, h⟩ := hq_ob h
  refine hv_getR fl_X2_15 e_x4 dX2_slip_7 ?_
  refine hv_iload_n 1 dX2_slip_10 rfl rfl ?_
  obtain ⟨a5, e_a5, h⟩ := hq_nn h
  rw [e_a5]
  obtain ⟨x6, e_x6, h⟩ := hq_ob h
  refine hv_iald e_x6 dX2_slip_11 ?_
  refine hv_if_ne (tgt := 39) dX2_slip_12 (by decide) (fun c7 => ?_) (fun c7 => ?_)
  · replace h := hq_in c7 h
    refine hv_iload_n 2 dX2_slip_39 rfl rfl ?_
    obtain ⟨x8, e_x8, h⟩ := hq_ob h
    refine hv_callSN [.int p2] [.long x3] [.long x8, .long x3] (wk_x_tenTo e_x8) cs_X2_117 rfl ⟨Nat.le_of_ble_eq_true rfl, Nat.le_of_ble_eq_true rfl⟩ rfl (Nat.le_of_ble_eq_true rfl) rfl dX2_slip_40 ?_
    refine hv_lneg dX2_slip_43 ?_
    refine hv_lmul dX2_slip_44 ?_
    have h := Option.some.inj h
    subst h
    exact hv_lret rfl dX2_slip_45
  · replace h := hq_ip c7 h
    refine hv_iload_n 2 dX2_slip_15 rfl rfl ?_
    refine hv_iconst (v := 1) dX2_slip_16 (by decide) ?_
    refine hv_icmp_ne (tgt := 29) dX2_slip_17 (by decide) (fun c9 => ?_) (fun c9 => ?_)
    · replace h := hq_in c9 h
      refine hv_aload_n 0 dX2_slip_29 rfl rfl ?_
      obtain ⟨x10, e_x10, h⟩ := hq_ob h
      refine hv_getR fl_X2_29 e_x10 dX2_slip_30 ?_
      refine hv_iload_n 1 dX2_slip_33 rfl rfl ?_
      obtain ⟨a11, e_a11, h⟩ := hq_nn h
      rw [e_a11]
      obtain ⟨x12, e_x12, h⟩ := hq_ob h
      refine hv_lald e_x12 dX2_slip_34 ?_
      refine hv_lneg dX2_slip_35 ?_
      refine hv_goto (tgt := 44) dX2_slip_36 (by decide) ?_
      refine hv_lmul dX2_slip_44 ?_
      have h := Option.some.inj h
      subst h
      exact hv_lret rfl dX2_slip_45
    · replace h := hq_ip c9 h
      refine hv_aload_n 0 dX2_slip_20 rfl rfl ?_
      obtain ⟨x13, e_x13, h⟩ := hq_ob h
      refine hv_getR fl_X2_29 e_x13 dX2_slip_21 ?_
      refine hv_iload_n 1 dX2_slip_24 rfl rfl ?_
      obtain ⟨a14, e_a14, h⟩ := hq_nn h
      rw [e_a14]
      obtain ⟨x15, e_x15, h⟩ := hq_ob h
      refine hv_lald e_x15 dX2_slip_25 ?_
      refine hv_goto (tgt := 44) dX2_slip_26 (by decide) ?_
      refine hv_lmul dX2_slip_44 ?_
      have h := Option.some.inj h
      subst h
      exact hv_lret rfl dX2_slip_45
def x_answer_L48b (th : Nat) (p1 : Int32) (p2 : Int32) (p3 : Int32) (e0 : Int64 → hk_St → Option (Int32 × hk_St)) (rc : Int64 → Int32 → Int32 → hk_St → Option (Int32 × hk_St)) (v9 : Int64) (v10 : Int32) (v11 : Int32) (s12 : hk_St) : Option (Int32 × hk_St) :=
  (hk_gR [0] 9 s12 th).bind fun x15 =>
  hk_nn x15 fun a16 =>
  (hk_gI [2] 206 s12 a16).bind fun x17 =>
  if x17 ≤ v11 then
    e0 v9 s12
  else
  (hk_gR [0] 9 s12 th).bind fun x19 =>
  hk_nn x19 fun a20 =>
  (hk_gR [2] 202 s12 a20).bind fun x21 =>
  hk_nn x21 fun a22 =>
  (hk_lI 0 s12 a22 v11).bind fun x23 =>
  (hk_gR [0] 2 s12 th).bind fun x24 =>
  hk_nn x24 fun a25 =>
  (hk_lR 6 s12 a25 (p1 / (10 : Int32))).bind fun x26 =>
  hk_nn x26 fun a27 =>
  (hk_gR [3] 300 s12 a27).bind fun x28 =>
  hk_nn x28 fun a29 =>
  (hk_lI 0 s12 a29 (4 : Int32)).bind fun x30 =>
  hk_nm (x23 - x30) fun x31 =>
  if 0 < x31 then
    hk_nm ((v10 * (1103515245 : Int32)) + (12345 : Int32)) fun x33 =>
    if (j_min_i (95 : Int32) ((5 : Int32) * x31)) ≤ (((x33.toUInt32 >>> ((8 : Int32).toUInt32 &&& Int32.toUInt32 31)).toInt32) - ((x33.toUInt32 >>> ((8 : Int32).toUInt32 &&& Int32.toUInt32 31)).toInt32) / (100 : Int32) * (100 : Int32)) then
      hk_nm (v11 + (1 : Int32)) fun x35 =>
      rc v9 x33 x35 s12
    else
    (hk_gR [0] 9 s12 th).bind fun x36 =>
    hk_nn x36 fun a37 =>
    (hk_gR [2] 200 s12 a37).bind fun x38 =>
    hk_nn x38 fun a39 =>
    (hk_lI 0 s12 a39 v11).bind fun x40 =>
    if x40 = (2 : Int32) then
      hk_nm (v11 + (1 : Int32)) fun x53 =>
    rc v9 x33 x53 s12
    else
    (hk_gR [0] 9 s12 th).bind fun x42 =>
      (hk_gR [0] 9 s12 th).bind fun x43 =>
      hk_nn x43 fun a44 =>
      (xActs_slipWays a44 v11 s12).bind fun x45 =>
      hk_gd (hk_bf [2] s12 a44) <|
      hk_gd (decide (¬ x45 = 0)) <|
      hk_nn x42 fun a48 =>
      (xActs_slip a48 v11 (((x33.toUInt32 >>> ((20 : Int32).toUInt32 &&& Int32.toUInt32 31)).toInt32) - ((x33.toUInt32 >>> ((20 : Int32).toUInt32 &&& Int32.toUInt32 31)).toInt32) / x45 * x45) s12).bind fun x49 =>
      hk_gd (hk_bf [2] s12 a48) <|
      hk_nm (v9 + x49) fun x51 =>
      hk_nm (v11 + (1 : Int32)) fun x52 =>
      rc x51 x33 x52 s12
  else
  hk_nm (v11 + (1 : Int32)) fun x54 =>
  rc v9 v10 x54 s12
def x_answer_L48 (th : Nat) (p1 : Int32) (p2 : Int32) (p3 : Int32) (e0 : Int64 → hk_St → Option (Int32 × hk_St)) : Nat → Int64 → Int32 → Int32 → hk_St → Option (Int32 × hk_St)
  | 0 => fun _ _ _ _ => none
  | n + 1 => x_answer_L48b th p1 p2 p3 e0 (x_answer_L48 th p1 p2 p3 e0 n)
def x_answer (th : Nat) (p1 : Int32) (p2 : Int32) (p3 : Int32) (s0 : hk_St) : Option (Int32 × hk_St) :=
  (x_isBy th p1 s0).bind fun x1 =>
  hk_gd (hk_bf [0] s0 th) <|
  if x1 = 0 then
    some ((-2000000000 : Int32), s0)
  else
  if (x_isPair p2) = 0 then
    some ((-2000000000 : Int32), s0)
  else
  (x_lays th p1 p2 s0).bind fun q5 =>
  hk_gd (hk_bf [0] s0 th) <|
  if q5.1 = 0 then
    some ((-2000000000 : Int32), q5.2)
  else
  hk_nm (((p2 / (10000 : Int32)).toInt64) * ((p2 - p2 / (10000 : Int32) * (10000 : Int32)).toInt64)) fun x8 =>
    x_answer_L48 th p1 p2 p3  (fun (v13 : Int64) (s14 : hk_St) =>
      some (v13.toInt32, s14)) hk_F x8 p3 (0 : Int32) q5.2
abbrev N_x_answer (l : Launch) : hk_N := (l, cX0_answer, "HeadReckons", 9, (some .int), 7, 181, false)
set_option maxHeartbeats 4000000 in
theorem wk_x_answer_L48b {l : Launch} {Gd : hk_G} {th : Nat} {p1 : Int32} {p2 : Int32} {p3 : Int32} {s0 : hk_St} {r : Int32} {fin : hk_St} {e0 : Int64 → hk_St → Option (Int32 × hk_St)} {rc : Int64 → Int32 → Int32 → hk_St → Option (Int32 × hk_St)} (hrc : ∀ (v9 : Int64) (v10 : Int32) (v11 : Int32) (s12 : hk_St), rc v9 v10 v11 s12 = some (r, fin) → hk_V Gd (N_x_answer l) (hk_end Gd s0 (some (.int r)) fin) 48 [(0, .ref th), (1, .int p1), (4, .long v9), (6, .int v10), (7, .int v11)] [] s12) (he0 : ∀ (v13 : Int64) (s14 : hk_St), e0 v13 s14 = some (r, fin) → hk_V Gd (N_x_answer l) (hk_end Gd s0 (some (.int r)) fin) 178 [(4, .long v13)] [] s14) {v9 : Int64} {v10 : Int32} {v11 : Int32} {s12 : hk_St} (h : x_answer_L48b th p1 p2 p3 e0 rc v9 v10 v11 s12 = some (r, fin)) : hk_V Gd (N_x_answer l) (hk_end Gd s0 (some (.int r)) fin) 48 [(0, .ref th), (1, .int p1), (4, .long v9), (6, .int v10), (7, .int v11)] [] s12 := by
  unfold x_answer_L48b at h
  refine hv_iload 4 dX0_answer_48 rfl ?_
  refine hv_aload_n 0 dX0_answer_50 rfl rfl ?_
  obtain ⟨x15, e_x15, h⟩ := hq_ob h
  refine hv_getR fl_X0_37 e_x15 dX0_answer_51 ?_
  obtain ⟨a16, e_a16, h⟩ := hq_nn h
  rw [e_a16]
  obtain ⟨x17, e_x17, h⟩ := hq_ob h
  refine hv_getI fl_X0_169 e_x17 dX0_answer_54 ?_
  refine hv_icmp_ge (tgt := 178) dX0_answer_57 (by decide) (fun c18 => ?_) (fun c18 => ?_)
  · replace h := hq_ip c18 h
    refine hv_sub [2] rfl ?_
    exact he0 _ _ h
  · replace h := hq_in c18 h
    refine hv_aload_n 0 dX0_answer_60 rfl rfl ?_
    obtain ⟨x19, e_x19, h⟩ := hq_ob h
    refine hv_getR fl_X0_37 e_x19 dX0_answer_61 ?_
    obtain ⟨a20, e_a20, h⟩ := hq_nn h
    rw [e_a20]
    obtain ⟨x21, e_x21, h⟩ := hq_ob h
    refine hv_getR fl_X0_183 e_x21 dX0_answer_64 ?_
    refine hv_iload 4 dX0_answer_67 rfl ?_
    obtain ⟨a22, e_a22, h⟩ := hq_nn h
    rw [e_a22]
    obtain ⟨x23, e_x23, h⟩ := hq_ob h
    refine hv_iald e_x23 dX0_answer_69 ?_
    refine hv_aload_n 0 dX0_answer_70 rfl rfl ?_
    obtain ⟨x24, e_x24, h⟩ := hq_ob h
    refine hv_getR fl_X0_15 e_x24 dX0_answer_71 ?_
    refine hv_iload_n 1 dX0_answer_74 rfl rfl ?_
    refine hv_bipush (v := 10) dX0_answer_75 (by decide) ?_
    refine hv_idiv (by decide) dX0_answer_77 ?_
    obtain ⟨a25, e_a25, h⟩ := hq_nn h
    rw [e_a25]
    obtain ⟨x26, e_x26, h⟩ := hq_ob h
    refine hv_aald (by decide) (by decide) rfl e_x26 dX0_answer_78 ?_
    obtain ⟨a27, e_a27, h⟩ := hq_nn h
    rw [e_a27]
    obtain ⟨x28, e_x28, h⟩ := hq_ob h
    refine hv_getR fl_X0_88 e_x28 dX0_answer_79 ?_
    refine hv_iconst (v := 4) dX0_answer_82 (by decide) ?_
    obtain ⟨a29, e_a29, h⟩ := hq_nn h
    rw [e_a29]
    obtain ⟨x30, e_x30, h⟩ := hq_ob h
    refine hv_iald e_x30 dX0_answer_83 ?_
    refine hv_isub dX0_answer_84 ?_
    obtain ⟨x31, e_x31, h⟩ := hq_nm h
    rw [← e_x31]
    refine hv_istore (L' := [(8, .int x31), (0, .ref th), (1, .int p1), (4, .long v9), (6, .int v10), (7, .int v11)]) dX0_answer_85 (Nat.le_of_ble_eq_true rfl) rfl ?_
    refine hv_iload 0 dX0_answer_87 rfl ?_
    refine hv_if_gt (tgt := 95) dX0_answer_89 (by decide) (fun c32 => ?_) (fun c32 => ?_)
    · replace h := hq_ip c32 h
      refine hv_iload 4 dX0_answer_95 rfl ?_
      refine hv_ldc q768 dX0_answer_97 ?_
      refine hv_imul dX0_answer_99 ?_
      refine hv_sipush (v := 12345) dX0_answer_100 (by decide) ?_
      refine hv_iadd dX0_answer_103 ?_
      obtain ⟨x33, e_x33, h⟩ := hq_nm h
      rw [← e_x33]
      refine hv_istore (L' := [(6, .int x33), (8, .int x31), (0, .ref th), (1, .int p1), (4, .long v9), (7, .int v11)]) dX0_answer_104 (Nat.le_of_ble_eq_true rfl) rfl ?_
      refine hv_iload 0 dX0_answer_106 rfl ?_
      refine hv_bipush (v := 8) dX0_answer_108 (by decide) ?_
      refine hv_iushr dX0_answer_110 ?_
      refine hv_bipush (v := 100) dX0_answer_111 (by decide) ?_
      refine hv_irem (by decide) dX0_answer_113 ?_
      refine hv_bipush (v := 95) dX0_answer_114 (by decide) ?_
      refine hv_iconst (v := 5) dX0_answer_116 (by decide) ?_
      refine hv_iload 1 dX0_answer_117 rfl ?_
      refine hv_imul dX0_answer_119 ?_
      refine hv_callS [.int (95 : Int32), .int ((5 : Int32) * x31)] [.int (((x33.toUInt32 >>> ((8 : Int32).toUInt32 &&& Int32.toUInt32 31)).toInt32) - ((x33.toUInt32 >>> ((8 : Int32).toUInt32 &&& Int32.toUInt32 31)).toInt32) / (100 : Int32) * (100 : Int32))] [.int (j_min_i (95 : Int32) ((5 : Int32) * x31)), .int (((x33.toUInt32 >>> ((8 : Int32).toUInt32 &&& Int32.toUInt32 31)).toInt32) - ((x33.toUInt32 >>> ((8 : Int32).toUInt32 &&& Int32.toUInt32 31)).toInt32) / (100 : Int32) * (100 : Int32))] (wk_j_min_i rfl) cs_X0_212 rfl ⟨Nat.le_of_ble_eq_true rfl, Nat.le_of_ble_eq_true rfl⟩ rfl (Nat.le_of_ble_eq_true rfl) rfl dX0_answer_120 ?_
      refine hv_icmp_ge (tgt := 172) dX0_answer_123 (by decide) (fun c34 => ?_) (fun c34 => ?_)
      · replace h := hq_ip c34 h
        obtain ⟨x35, e_x35, h⟩ := hq_nm h
        refine hv_iinc (v := x35) (L' := [(7, .int x35), (6, .int x33), (8, .int x31), (0, .ref th), (1, .int p1), (4, .long v9)]) 5 dX0_answer_172 rfl (by rw [e_x35]; rfl) (Nat.le_of_ble_eq_true rfl) rfl ?_
        refine hv_goto (tgt := 48) dX0_answer_175 (by decide) ?_
        refine hv_sub [3, 4, 5, 1, 0] rfl ?_
        exact hrc _ _ _ _ h
      · replace h := hq_in c34 h
        refine hv_aload_n 2 dX0_answer_126 rfl rfl ?_
        obtain ⟨x36, e_x36, h⟩ := hq_ob h
        refine hv_getR fl_X0_37 e_x36 dX0_answer_127 ?_
        obtain ⟨a37, e_a37, h⟩ := hq_nn h
        rw [e_a37]
        obtain ⟨x38, e_x38, h⟩ := hq_ob h
        refine hv_getR fl_X0_173 e_x38 dX0_answer_130 ?_
        refine hv_iload 5 dX0_answer_133 rfl ?_
        obtain ⟨a39, e_a39, h⟩ := hq_nn h
        rw [e_a39]
        obtain ⟨x40, e_x40, h⟩ := hq_ob h
        refine hv_iald e_x40 dX0_answer_135 ?_
        refine hv_iconst (v := 2) dX0_answer_136 (by decide) ?_
        refine hv_icmp_ne (tgt := 143) dX0_answer_137 (by decide) (fun c41 => ?_) (fun c41 => ?_)
        · replace h := hq_in c41 h
          refine hv_lload 4 dX0_answer_143 rfl ?_
          refine hv_aload_n 2 dX0_answer_145 rfl rfl ?_
          obtain ⟨x42, e_x42, h⟩ := hq_ob h
          refine hv_getR fl_X0_37 e_x42 dX0_answer_146 ?_
          refine hv_iload 5 dX0_answer_149 rfl ?_
          refine hv_iload 0 dX0_answer_151 rfl ?_
          refine hv_bipush (v := 20) dX0_answer_153 (by decide) ?_
          refine hv_iushr dX0_answer_155 ?_
          refine hv_aload_n 2 dX0_answer_156 rfl rfl ?_
          obtain ⟨x43, e_x43, h⟩ := hq_ob h
          refine hv_getR fl_X0_37 e_x43 dX0_answer_157 ?_
          refine hv_iload 5 dX0_answer_160 rfl ?_
          obtain ⟨a44, e_a44, h⟩ := hq_nn h
          rw [e_a44]
          obtain ⟨x45, e_x45, h⟩ := hq_ob h
          obtain ⟨g46, h⟩ := hq_gd h
          refine hv_callV [.int v11] [.int ((x33.toUInt32 >>> ((20 : Int32).toUInt32 &&& Int32.toUInt32 31)).toInt32), .int v11, va_rf x42, .long v9] [.int x45, .int ((x33.toUInt32 >>> ((20 : Int32).toUInt32 &&& Int32.toUInt32 31)).toInt32), .int v11, va_rf x42, .long v9] (wk_xActs_slipWays e_x45) cs_X0_216 g46 rfl ⟨Nat.le_of_ble_eq_true rfl, Nat.le_of_ble_eq_true rfl⟩ rfl (by simp only [List.map, hk_cat]; exact Nat.le_of_ble_eq_true rfl) rfl dX0_answer_162 ?_
          obtain ⟨g47, h⟩ := hq_gd h
          refine hv_irem (of_decide_eq_true g47) dX0_answer_165 ?_
          obtain ⟨a48, e_a48, h⟩ := hq_nn h
          rw [e_a48]
          obtain ⟨x49, e_x49, h⟩ := hq_ob h
          obtain ⟨g50, h⟩ := hq_gd h
          refine hv_callV [.int v11, .int (((x33.toUInt32 >>> ((20 : Int32).toUInt32 &&& Int32.toUInt32 31)).toInt32) - ((x33.toUInt32 >>> ((20 : Int32).toUInt32 &&& Int32.toUInt32 31)).toInt32) / x45 * x45)] [.long v9] [.long x49, .long v9] (wk_xActs_slip e_x49) cs_X0_219 g50 rfl ⟨Nat.le_of_ble_eq_true rfl, Nat.le_of_ble_eq_true rfl⟩ rfl (Nat.le_of_ble_eq_true rfl) rfl dX0_answer_166 ?_
          refine hv_ladd dX0_answer_169 ?_
          obtain ⟨x51, e_x51, h⟩ := hq_nm h
          rw [← e_x51]
          refine hv_lstore (L' := [(4, .long x51), (6, .int x33), (8, .int x31), (0, .ref th), (1, .int p1), (7, .int v11)]) dX0_answer_170 (Nat.le_of_ble_eq_true rfl) rfl ?_
          obtain ⟨x52, e_x52, h⟩ := hq_nm h
          refine hv_iinc (v := x52) (L' := [(7, .int x52), (4, .long x51), (6, .int x33), (8, .int x31), (0, .ref th), (1, .int p1)]) 5 dX0_answer_172 rfl (by rw [e_x52]; rfl) (Nat.le_of_ble_eq_true rfl) rfl ?_
          refine hv_goto (tgt := 48) dX0_answer_175 (by decide) ?_
          refine hv_sub [4, 5, 1, 2, 0] rfl ?_
          exact hrc _ _ _ _ h
        · replace h := hq_ip c41 h
          refine hv_goto (tgt := 172) dX0_answer_140 (by decide) ?_
          obtain ⟨x53, e_x53, h⟩ := hq_nm h
          refine hv_iinc (v := x53) (L' := [(7, .int x53), (6, .int x33), (8, .int x31), (0, .ref th), (1, .int p1), (4, .long v9)]) 5 dX0_answer_172 rfl (by rw [e_x53]; rfl) (Nat.le_of_ble_eq_true rfl) rfl ?_
          refine hv_goto (tgt := 48) dX0_answer_175 (by decide) ?_
          refine hv_sub [3, 4, 5, 1, 0] rfl ?_
          exact hrc _ _ _ _ h
    · replace h := hq_in c32 h
      refine hv_goto (tgt := 172) dX0_answer_92 (by decide) ?_
      obtain ⟨x54, e_x54, h⟩ := hq_nm h
      refine hv_iinc (v := x54) (L' := [(7, .int x54), (8, .int x31), (0, .ref th), (1, .int p1), (4, .long v9), (6, .int v10)]) 5 dX0_answer_172 rfl (by rw [e_x54]; rfl) (Nat.le_of_ble_eq_true rfl) rfl ?_
      refine hv_goto (tgt := 48) dX0_answer_175 (by decide) ?_
      refine hv_sub [2, 3, 4, 5, 0] rfl ?_
      exact hrc _ _ _ _ h
theorem wk_x_answer_L48 {l : Launch} {Gd : hk_G} {th : Nat} {p1 : Int32} {p2 : Int32} {p3 : Int32} {s0 : hk_St} {r : Int32} {fin : hk_St} {e0 : Int64 → hk_St → Option (Int32 × hk_St)} (he0 : ∀ (v13 : Int64) (s14 : hk_St), e0 v13 s14 = some (r, fin) → hk_V Gd (N_x_answer l) (hk_end Gd s0 (some (.int r)) fin) 178 [(4, .long v13)] [] s14) : ∀ (n : Nat) (v9 : Int64) (v10 : Int32) (v11 : Int32) (s12 : hk_St), x_answer_L48 th p1 p2 p3 e0 n v9 v10 v11 s12 = some (r, fin) → hk_V Gd (N_x_answer l) (hk_end Gd s0 (some (.int r)) fin) 48 [(0, .ref th), (1, .int p1), (4, .long v9), (6, .int v10), (7, .int v11)] [] s12 := by
  intro n
  induction n with
  | zero => intro v9 v10 v11 s12 h; cases h
  | succ n ih => intro v9 v10 v11 s12 h; exact wk_x_answer_L48b  ih he0 h
set_option maxHeartbeats 4000000 in
theorem wk_x_answer {l : Launch} {Gd : hk_G} {th : Nat} {p1 : Int32} {p2 : Int32} {p3 : Int32} {s0 : hk_St} {r : Int32} {fin : hk_St} (h : x_answer th p1 p2 p3 s0 = some (r, fin)) : hk_Met Gd l yX0_answer cX0_answer 9 (some .int) 7 181 [.ref th, .int p1, .int p2, .int p3] s0 (some (.int r)) fin := by
  refine hk_start "HeadReckons" false (by decide +kernel) rfl (by decide) (Nat.le_of_ble_eq_true rfl) ?_
  show hk_V Gd (N_x_answer l) (hk_end Gd s0 (some (.int r)) fin) 0 [(0, .ref th), (1, .int p1), (2, .int p2), (3, .int p3)] [] s0
  unfold x_answer at h
  refine hv_aload_n 0 dX0_answer_0 rfl rfl ?_
  refine hv_iload_n 1 dX0_answer_1 rfl rfl ?_
  obtain ⟨x1, e_x1, h⟩ := hq_ob h
  obtain ⟨g2, h⟩ := hq_gd h
  refine hv_callV [.int p1] [] [.int x1] (wk_x_isBy e_x1) cs_X0_154 g2 rfl ⟨Nat.le_of_ble_eq_true rfl, Nat.le_of_ble_eq_true rfl⟩ rfl (Nat.le_of_ble_eq_true rfl) rfl dX0_answer_2 ?_
  refine hv_if_eq (tgt := 24) dX0_answer_5 (by decide) (fun c3 => ?_) (fun c3 => ?_)
  · replace h := hq_ip c3 h
    refine hv_ldc q716 dX0_answer_24 ?_
    obtain ⟨h1, h2⟩ := hq_ret h
    subst h1
    subst h2
    exact hv_iret rfl dX0_answer_26
  · replace h := hq_in c3 h
    refine hv_iload_n 2 dX0_answer_8 rfl rfl ?_
    refine hv_callS [.int p2] [] [.int (x_isPair p2)] (wk_x_isPair rfl) cs_X0_157 rfl ⟨Nat.le_of_ble_eq_true rfl, Nat.le_of_ble_eq_true rfl⟩ rfl (Nat.le_of_ble_eq_true rfl) rfl dX0_answer_9 ?_
    refine hv_if_eq (tgt := 24) dX0_answer_12 (by decide) (fun c4 => ?_) (fun c4 => ?_)
    · replace h := hq_ip c4 h
      refine hv_ldc q716 dX0_answer_24 ?_
      obtain ⟨h1, h2⟩ := hq_ret h
      subst h1
      subst h2
      exact hv_iret rfl dX0_answer_26
    · replace h := hq_in c4 h
      refine hv_aload_n 0 dX0_answer_15 rfl rfl ?_
      refine hv_iload_n 1 dX0_answer_16 rfl rfl ?_
      refine hv_iload_n 2 dX0_answer_17 rfl rfl ?_
      obtain ⟨q5, e_q5, h⟩ := hq_ob h
      obtain ⟨g6, h⟩ := hq_gd h
      refine hv_callV [.int p1, .int p2] [] [.int q5.1] (wk_x_lays e_q5) cs_X0_160 g6 rfl ⟨Nat.le_of_ble_eq_true rfl, Nat.le_of_ble_eq_true rfl⟩ rfl (Nat.le_of_ble_eq_true rfl) rfl dX0_answer_18 ?_
      refine hv_if_ne (tgt := 27) dX0_answer_21 (by decide) (fun c7 => ?_) (fun c7 => ?_)
      · replace h := hq_in c7 h
        refine hv_iload_n 2 dX0_answer_27 rfl rfl ?_
        refine hv_sipush (v := 10000) dX0_answer_28 (by decide) ?_
        refine hv_idiv (by decide) dX0_answer_31 ?_
        refine hv_i2l dX0_answer_32 ?_
        refine hv_iload_n 2 dX0_answer_33 rfl rfl ?_
        refine hv_sipush (v := 10000) dX0_answer_34 (by decide) ?_
        refine hv_irem (by decide) dX0_answer_37 ?_
        refine hv_i2l dX0_answer_38 ?_
        refine hv_lmul dX0_answer_39 ?_
        obtain ⟨x8, e_x8, h⟩ := hq_nm h
        rw [← e_x8]
        refine hv_lstore (L' := [(4, .long x8), (0, .ref th), (1, .int p1), (2, .int p2), (3, .int p3)]) dX0_answer_40 (Nat.le_of_ble_eq_true rfl) rfl ?_
        refine hv_iload_n 4 dX0_answer_42 rfl rfl ?_
        refine hv_istore (L' := [(6, .int p3), (4, .long x8), (0, .ref th), (1, .int p1), (2, .int p2), (3, .int p3)]) dX0_answer_43 (Nat.le_of_ble_eq_true rfl) rfl ?_
        refine hv_iconst (v := 0) dX0_answer_45 (by decide) ?_
        refine hv_istore (L' := [(7, .int (0 : Int32)), (6, .int p3), (4, .long x8), (0, .ref th), (1, .int p1), (2, .int p2), (3, .int p3)]) dX0_answer_46 (Nat.le_of_ble_eq_true rfl) rfl ?_
        refine hv_sub [3, 4, 2, 1, 0] rfl ?_
        refine wk_x_answer_L48  ?_ hk_F _ _ _ _ h
        · intro v13 s14 h
          refine hv_lload 0 dX0_answer_178 rfl ?_
          refine hv_l2i dX0_answer_180 ?_
          obtain ⟨h1, h2⟩ := hq_ret h
          subst h1
          subst h2
          exact hv_iret rfl dX0_answer_181
      · replace h := hq_ip c7 h
        refine hv_ldc q716 dX0_answer_24 ?_
        obtain ⟨h1, h2⟩ := hq_ret h
        subst h1
        subst h2
        exact hv_iret rfl dX0_answer_26
def x_quickest_L37b (th : Nat) (p1 : Int32) (p2 : Int32) (p3 : Int32) (e0 : Int32 → hk_St → Option (Int32 × hk_St)) (rc : Int32 → Int32 → Int32 → hk_St → Option (Int32 × hk_St)) (v6 : Int32) (v7 : Int32) (v8 : Int32) (s9 : hk_St) : Option (Int32 × hk_St) :=
  hk_nm (fun (v12 : Int32) (s13 : hk_St) =>
    (hk_gR [0] 9 s13 th).bind fun x14 =>
    hk_nn x14 fun a15 =>
    (hk_gI [2] 208 s13 a15).bind fun x16 =>
    hk_nm (v12 + (1 : Int32)) fun x17 =>
    rc v12 x16 x17 s13) fun k90 =>
  if (7 : Int32) ≤ v8 then
    e0 v6 s9
  else
  (x_lays th (((10 : Int32) * p1) + v8) p2 s9).bind fun q19 =>
  hk_gd (hk_bf [0] s9 th) <|
  if q19.1 = 0 then
    hk_nm (v8 + (1 : Int32)) fun x22 =>
    rc v6 v7 x22 q19.2
  else
  (hk_gR [0] 9 q19.2 th).bind fun x23 =>
  hk_nn x23 fun a24 =>
  (hk_gI [2] 209 q19.2 a24).bind fun x25 =>
  if p3 < x25 then
    hk_nm (v8 + (1 : Int32)) fun x27 =>
    rc v6 v7 x27 q19.2
  else
  if v6 < 0 then
    k90 v8 q19.2
  else
  (hk_gR [0] 9 q19.2 th).bind fun x29 =>
  hk_nn x29 fun a30 =>
  (hk_gI [2] 208 q19.2 a30).bind fun x31 =>
  if x31 < v7 then
    k90 v8 q19.2
  else
  hk_nm (v8 + (1 : Int32)) fun x33 =>
  rc v6 v7 x33 q19.2
def x_quickest_L37 (th : Nat) (p1 : Int32) (p2 : Int32) (p3 : Int32) (e0 : Int32 → hk_St → Option (Int32 × hk_St)) : Nat → Int32 → Int32 → Int32 → hk_St → Option (Int32 × hk_St)
  | 0 => fun _ _ _ _ => none
  | n + 1 => x_quickest_L37b th p1 p2 p3 e0 (x_quickest_L37 th p1 p2 p3 e0 n)
def x_quickest (th : Nat) (p1 : Int32) (p2 : Int32) (p3 : Int32) (s0 : hk_St) : Option (Int32 × hk_St) :=
  (x_isHead th p1 s0).bind fun x1 =>
  hk_gd (hk_bf [0] s0 th) <|
  if x1 = 0 then
    some ((-1 : Int32), s0)
  else
  if (x_isPair p2) = 0 then
    some ((-1 : Int32), s0)
  else
  if (x_in p3 (1 : Int32) (99 : Int32)) = 0 then
    some ((-1 : Int32), s0)
  else
  x_quickest_L37 th p1 p2 p3  (fun (v10 : Int32) (s11 : hk_St) =>
      some (v10, s11)) hk_F (-2 : Int32) (0 : Int32) (0 : Int32) s0
abbrev N_x_quickest (l : Launch) : hk_N := (l, cX0_quickest, "HeadReckons", 7, (some .int), 7, 181, false)
set_option maxHeartbeats 4000000 in
theorem wk_x_quickest_L37b {l : Launch} {Gd : hk_G} {th : Nat} {p1 : Int32} {p2 : Int32} {p3 : Int32} {s0 : hk_St} {r : Int32} {fin : hk_St} {e0 : Int32 → hk_St → Option (Int32 × hk_St)} {rc : Int32 → Int32 → Int32 → hk_St → Option (Int32 × hk_St)} (hrc : ∀ (v6 : Int32) (v7 : Int32) (v8 : Int32) (s9 : hk_St), rc v6 v7 v8 s9 = some (r, fin) → hk_V Gd (N_x_quickest l) (hk_end Gd s0 (some (.int r)) fin) 37 [(0, .ref th), (1, .int p1), (2, .int p2), (3, .int p3), (4, .int v6), (5, .int v7), (6, .int v8)] [] s9) (he0 : ∀ (v10 : Int32) (s11 : hk_St), e0 v10 s11 = some (r, fin) → hk_V Gd (N_x_quickest l) (hk_end Gd s0 (some (.int r)) fin) 109 [(4, .int v10)] [] s11) {v6 : Int32} {v7 : Int32} {v8 : Int32} {s9 : hk_St} (h : x_quickest_L37b th p1 p2 p3 e0 rc v6 v7 v8 s9 = some (r, fin)) : hk_V Gd (N_x_quickest l) (hk_end Gd s0 (some (.int r)) fin) 37 [(0, .ref th), (1, .int p1), (2, .int p2), (3, .int p3), (4, .int v6), (5, .int v7), (6, .int v8)] [] s9 := by
  unfold x_quickest_L37b at h
  obtain ⟨k90, e_k90, h⟩ := hq_nm h
  have wk90 : ∀ (v12 : Int32) (s13 : hk_St), k90 v12 s13 = some (r, fin) → hk_V Gd (N_x_quickest l) (hk_end Gd s0 (some (.int r)) fin) 90 [(0, .ref th), (1, .int p1), (2, .int p2), (3, .int p3), (6, .int v12)] [] s13 := by
    intro v12 s13 h
    rw [e_k90] at h
    refine hv_iload 4 dX0_quickest_90 rfl ?_
    refine hv_istore (L' := [(4, .int v12), (0, .ref th), (1, .int p1), (2, .int p2), (3, .int p3), (6, .int v12)]) dX0_quickest_92 (Nat.le_of_ble_eq_true rfl) rfl ?_
    refine hv_aload_n 1 dX0_quickest_94 rfl rfl ?_
    obtain ⟨x14, e_x14, h⟩ := hq_ob h
    refine hv_getR fl_X0_37 e_x14 dX0_quickest_95 ?_
    obtain ⟨a15, e_a15, h⟩ := hq_nn h
    rw [e_a15]
    obtain ⟨x16, e_x16, h⟩ := hq_ob h
    refine hv_getI fl_X0_163 e_x16 dX0_quickest_98 ?_
    refine hv_istore (L' := [(5, .int x16), (4, .int v12), (0, .ref th), (1, .int p1), (2, .int p2), (3, .int p3), (6, .int v12)]) dX0_quickest_101 (Nat.le_of_ble_eq_true rfl) rfl ?_
    obtain ⟨x17, e_x17, h⟩ := hq_nm h
    refine hv_iinc (v := x17) (L' := [(6, .int x17), (5, .int x16), (4, .int v12), (0, .ref th), (1, .int p1), (2, .int p2), (3, .int p3)]) 6 dX0_quickest_103 rfl (by rw [e_x17]; rfl) (Nat.le_of_ble_eq_true rfl) rfl ?_
    refine hv_goto (tgt := 37) dX0_quickest_106 (by decide) ?_
    refine hv_sub [3, 4, 5, 6, 2, 1, 0] rfl ?_
    exact hrc _ _ _ _ h
  clear e_k90
  refine hv_iload 6 dX0_quickest_37 rfl ?_
  refine hv_bipush (v := 7) dX0_quickest_39 (by decide) ?_
  refine hv_icmp_ge (tgt := 109) dX0_quickest_41 (by decide) (fun c18 => ?_) (fun c18 => ?_)
  · replace h := hq_ip c18 h
    refine hv_sub [4] rfl ?_
    exact he0 _ _ h
  · replace h := hq_in c18 h
    refine hv_aload_n 0 dX0_quickest_44 rfl rfl ?_
    refine hv_bipush (v := 10) dX0_quickest_45 (by decide) ?_
    refine hv_iload_n 1 dX0_quickest_47 rfl rfl ?_
    refine hv_imul dX0_quickest_48 ?_
    refine hv_iload 6 dX0_quickest_49 rfl ?_
    refine hv_iadd dX0_quickest_51 ?_
    refine hv_iload_n 2 dX0_quickest_52 rfl rfl ?_
    obtain ⟨q19, e_q19, h⟩ := hq_ob h
    obtain ⟨g20, h⟩ := hq_gd h
    refine hv_callV [.int (((10 : Int32) * p1) + v8), .int p2] [] [.int q19.1] (wk_x_lays e_q19) cs_X0_160 g20 rfl ⟨Nat.le_of_ble_eq_true rfl, Nat.le_of_ble_eq_true rfl⟩ rfl (Nat.le_of_ble_eq_true rfl) rfl dX0_quickest_53 ?_
    refine hv_if_eq (tgt := 103) dX0_quickest_56 (by decide) (fun c21 => ?_) (fun c21 => ?_)
    · replace h := hq_ip c21 h
      obtain ⟨x22, e_x22, h⟩ := hq_nm h
      refine hv_iinc (v := x22) (L' := [(6, .int x22), (0, .ref th), (1, .int p1), (2, .int p2), (3, .int p3), (4, .int v6), (5, .int v7)]) 6 dX0_quickest_103 rfl (by rw [e_x22]; rfl) (Nat.le_of_ble_eq_true rfl) rfl ?_
      refine hv_goto (tgt := 37) dX0_quickest_106 (by decide) ?_
      refine hv_sub [1, 2, 3, 4, 5, 6, 0] rfl ?_
      exact hrc _ _ _ _ h
    · replace h := hq_in c21 h
      refine hv_aload_n 0 dX0_quickest_59 rfl rfl ?_
      obtain ⟨x23, e_x23, h⟩ := hq_ob h
      refine hv_getR fl_X0_37 e_x23 dX0_quickest_60 ?_
      obtain ⟨a24, e_a24, h⟩ := hq_nn h
      rw [e_a24]
      obtain ⟨x25, e_x25, h⟩ := hq_ob h
      refine hv_getI fl_X0_166 e_x25 dX0_quickest_63 ?_
      refine hv_iload_n 3 dX0_quickest_66 rfl rfl ?_
      refine hv_icmp_gt (tgt := 103) dX0_quickest_67 (by decide) (fun c26 => ?_) (fun c26 => ?_)
      · replace h := hq_ip c26 h
        obtain ⟨x27, e_x27, h⟩ := hq_nm h
        refine hv_iinc (v := x27) (L' := [(6, .int x27), (0, .ref th), (1, .int p1), (2, .int p2), (3, .int p3), (4, .int v6), (5, .int v7)]) 6 dX0_quickest_103 rfl (by rw [e_x27]; rfl) (Nat.le_of_ble_eq_true rfl) rfl ?_
        refine hv_goto (tgt := 37) dX0_quickest_106 (by decide) ?_
        refine hv_sub [1, 2, 3, 4, 5, 6, 0] rfl ?_
        exact hrc _ _ _ _ h
      · replace h := hq_in c26 h
        refine hv_iload 4 dX0_quickest_70 rfl ?_
        refine hv_if_lt (tgt := 90) dX0_quickest_72 (by decide) (fun c28 => ?_) (fun c28 => ?_)
        · replace h := hq_ip c28 h
          refine hv_sub [0, 1, 2, 3, 6] rfl ?_
          exact wk90 _ _ h
        · replace h := hq_in c28 h
          refine hv_aload_n 0 dX0_quickest_75 rfl rfl ?_
          obtain ⟨x29, e_x29, h⟩ := hq_ob h
          refine hv_getR fl_X0_37 e_x29 dX0_quickest_76 ?_
          obtain ⟨a30, e_a30, h⟩ := hq_nn h
          rw [e_a30]
          obtain ⟨x31, e_x31, h⟩ := hq_ob h
          refine hv_getI fl_X0_163 e_x31 dX0_quickest_79 ?_
          refine hv_iload 5 dX0_quickest_82 rfl ?_
          refine hv_icmp_lt (tgt := 90) dX0_quickest_84 (by decide) (fun c32 => ?_) (fun c32 => ?_)
          · replace h := hq_ip c32 h
            refine hv_sub [0, 1, 2, 3, 6] rfl ?_
            exact wk90 _ _ h
          · replace h := hq_in c32 h
            refine hv_goto (tgt := 103) dX0_quickest_87 (by decide) ?_
            obtain ⟨x33, e_x33, h⟩ := hq_nm h
            refine hv_iinc (v := x33) (L' := [(6, .int x33), (0, .ref th), (1, .int p1), (2, .int p2), (3, .int p3), (4, .int v6), (5, .int v7)]) 6 dX0_quickest_103 rfl (by rw [e_x33]; rfl) (Nat.le_of_ble_eq_true rfl) rfl ?_
            refine hv_goto (tgt := 37) dX0_quickest_106 (by decide) ?_
            refine hv_sub [1, 2, 3, 4, 5, 6, 0] rfl ?_
            exact hrc _ _ _ _ h
theorem wk_x_quickest_L37 {l : Launch} {Gd : hk_G} {th : Nat} {p1 : Int32} {p2 : Int32} {p3 : Int32} {s0 : hk_St} {r : Int32} {fin : hk_St} {e0 : Int32 → hk_St → Option (Int32 × hk_St)} (he0 : ∀ (v10 : Int32) (s11 : hk_St), e0 v10 s11 = some (r, fin) → hk_V Gd (N_x_quickest l) (hk_end Gd s0 (some (.int r)) fin) 109 [(4, .int v10)] [] s11) : ∀ (n : Nat) (v6 : Int32) (v7 : Int32) (v8 : Int32) (s9 : hk_St), x_quickest_L37 th p1 p2 p3 e0 n v6 v7 v8 s9 = some (r, fin) → hk_V Gd (N_x_quickest l) (hk_end Gd s0 (some (.int r)) fin) 37 [(0, .ref th), (1, .int p1), (2, .int p2), (3, .int p3), (4, .int v6), (5, .int v7), (6, .int v8)] [] s9 := by
  intro n
  induction n with
  | zero => intro v6 v7 v8 s9 h; cases h
  | succ n ih => intro v6 v7 v8 s9 h; exact wk_x_quickest_L37b  ih he0 h
set_option maxHeartbeats 4000000 in
theorem wk_x_quickest {l : Launch} {Gd : hk_G} {th : Nat} {p1 : Int32} {p2 : Int32} {p3 : Int32} {s0 : hk_St} {r : Int32} {fin : hk_St} (h : x_quickest th p1 p2 p3 s0 = some (r, fin)) : hk_Met Gd l yX0_quickest cX0_quickest 7 (some .int) 7 181 [.ref th, .int p1, .int p2, .int p3] s0 (some (.int r)) fin := by
  refine hk_start "HeadReckons" false (by decide +kernel) rfl (by decide) (Nat.le_of_ble_eq_true rfl) ?_
  show hk_V Gd (N_x_quickest l) (hk_end Gd s0 (some (.int r)) fin) 0 [(0, .ref th), (1, .int p1), (2, .int p2), (3, .int p3)] [] s0
  unfold x_quickest at h
  refine hv_aload_n 0 dX0_quickest_0 rfl rfl ?_
  refine hv_iload_n 1 dX0_quickest_1 rfl rfl ?_
  obtain ⟨x1, e_x1, h⟩ := hq_ob h
  obtain ⟨g2, h⟩ := hq_gd h
  refine hv_callV [.int p1] [] [.int x1] (wk_x_isHead e_x1) cs_X0_89 g2 rfl ⟨Nat.le_of_ble_eq_true rfl, Nat.le_of_ble_eq_true rfl⟩ rfl (Nat.le_of_ble_eq_true rfl) rfl dX0_quickest_2 ?_
  refine hv_if_eq (tgt := 25) dX0_quickest_5 (by decide) (fun c3 => ?_) (fun c3 => ?_)
  · replace h := hq_ip c3 h
    refine hv_iconst (v := -1) dX0_quickest_25 (by decide) ?_
    obtain ⟨h1, h2⟩ := hq_ret h
    subst h1
    subst h2
    exact hv_iret rfl dX0_quickest_26
  · replace h := hq_in c3 h
    refine hv_iload_n 2 dX0_quickest_8 rfl rfl ?_
    refine hv_callS [.int p2] [] [.int (x_isPair p2)] (wk_x_isPair rfl) cs_X0_157 rfl ⟨Nat.le_of_ble_eq_true rfl, Nat.le_of_ble_eq_true rfl⟩ rfl (Nat.le_of_ble_eq_true rfl) rfl dX0_quickest_9 ?_
    refine hv_if_eq (tgt := 25) dX0_quickest_12 (by decide) (fun c4 => ?_) (fun c4 => ?_)
    · replace h := hq_ip c4 h
      refine hv_iconst (v := -1) dX0_quickest_25 (by decide) ?_
      obtain ⟨h1, h2⟩ := hq_ret h
      subst h1
      subst h2
      exact hv_iret rfl dX0_quickest_26
    · replace h := hq_in c4 h
      refine hv_iload_n 3 dX0_quickest_15 rfl rfl ?_
      refine hv_iconst (v := 1) dX0_quickest_16 (by decide) ?_
      refine hv_bipush (v := 99) dX0_quickest_17 (by decide) ?_
      refine hv_callS [.int p3, .int (1 : Int32), .int (99 : Int32)] [] [.int (x_in p3 (1 : Int32) (99 : Int32))] (wk_x_in rfl) cs_X0_73 rfl ⟨Nat.le_of_ble_eq_true rfl, Nat.le_of_ble_eq_true rfl⟩ rfl (Nat.le_of_ble_eq_true rfl) rfl dX0_quickest_19 ?_
      refine hv_if_ne (tgt := 27) dX0_quickest_22 (by decide) (fun c5 => ?_) (fun c5 => ?_)
      · replace h := hq_in c5 h
        refine hv_bipush (v := -2) dX0_quickest_27 (by decide) ?_
        refine hv_istore (L' := [(4, .int (-2 : Int32)), (0, .ref th), (1, .int p1), (2, .int p2), (3, .int p3)]) dX0_quickest_29 (Nat.le_of_ble_eq_true rfl) rfl ?_
        refine hv_iconst (v := 0) dX0_quickest_31 (by decide) ?_
        refine hv_istore (L' := [(5, .int (0 : Int32)), (4, .int (-2 : Int32)), (0, .ref th), (1, .int p1), (2, .int p2), (3, .int p3)]) dX0_quickest_32 (Nat.le_of_ble_eq_true rfl) rfl ?_
        refine hv_iconst (v := 0) dX0_quickest_34 (by decide) ?_
        refine hv_istore (L' := [(6, .int (0 : Int32)), (5, .int (0 : Int32)), (4, .int (-2 : Int32)), (0, .ref th), (1, .int p1), (2, .int p2), (3, .int p3)]) dX0_quickest_35 (Nat.le_of_ble_eq_true rfl) rfl ?_
        refine hv_sub [3, 4, 5, 6, 2, 1, 0] rfl ?_
        refine wk_x_quickest_L37  ?_ hk_F _ _ _ _ h
        · intro v10 s11 h
          refine hv_iload 0 dX0_quickest_109 rfl ?_
          obtain ⟨h1, h2⟩ := hq_ret h
          subst h1
          subst h2
          exact hv_iret rfl dX0_quickest_111
      · replace h := hq_ip c5 h
        refine hv_iconst (v := -1) dX0_quickest_25 (by decide) ?_
        obtain ⟨h1, h2⟩ := hq_ret h
        subst h1
        subst h2
        exact hv_iret rfl dX0_quickest_26
def x_chosenSeconds (th : Nat) (p1 : Nat) (p2 : Int32) (p3 : Int32) (s0 : hk_St) : Option (Int32 × hk_St) :=
  (hk_gR [0] 9 s0 th).bind fun x1 =>
  (x_chosenOf th p1 p2 p3 s0).bind fun q2 =>
  hk_gd (hk_bf [0] s0 th) <|
  hk_nn x1 fun a4 =>
  (xActs_lay a4 p1 q2.1 p2 p3 q2.2).bind fun q5 =>
  hk_gd (hk_bf [2] q2.2 a4) <|
  (hk_gR [0] 9 q5.2 th).bind fun x7 =>
  hk_nn x7 fun a8 =>
  (hk_gI [2] 208 q5.2 a8).bind fun x9 =>
  some (x9, q5.2)
abbrev N_x_chosenSeconds (l : Launch) : hk_N := (l, cX0_chosenSeconds, "HeadReckons", 4, (some .int), 223, 12264, false)
set_option maxHeartbeats 4000000 in
theorem wk_x_chosenSeconds {l : Launch} {Gd : hk_G} {th : Nat} {p1 : Nat} {p2 : Int32} {p3 : Int32} {s0 : hk_St} {r : Int32} {fin : hk_St} (h : x_chosenSeconds th p1 p2 p3 s0 = some (r, fin)) : hk_Met Gd l yX0_chosenSeconds cX0_chosenSeconds 4 (some .int) 223 12264 [.ref th, .ref p1, .int p2, .int p3] s0 (some (.int r)) fin := by
  refine hk_start "HeadReckons" false (by decide +kernel) rfl (by decide) (Nat.le_of_ble_eq_true rfl) ?_
  show hk_V Gd (N_x_chosenSeconds l) (hk_end Gd s0 (some (.int r)) fin) 0 [(0, .ref th), (1, .ref p1), (2, .int p2), (3, .int p3)] [] s0
  unfold x_chosenSeconds at h
  refine hv_aload_n 0 dX0_chosenSeconds_0 rfl rfl ?_
  obtain ⟨x1, e_x1, h⟩ := hq_ob h
  refine hv_getR fl_X0_37 e_x1 dX0_chosenSeconds_1 ?_
  refine hv_aload_n 1 dX0_chosenSeconds_4 rfl rfl ?_
  refine hv_aload_n 0 dX0_chosenSeconds_5 rfl rfl ?_
  refine hv_aload_n 1 dX0_chosenSeconds_6 rfl rfl ?_
  refine hv_iload_n 2 dX0_chosenSeconds_7 rfl rfl ?_
  refine hv_iload_n 3 dX0_chosenSeconds_8 rfl rfl ?_
  obtain ⟨q2, e_q2, h⟩ := hq_ob h
  obtain ⟨g3, h⟩ := hq_gd h
  refine hv_callV [.ref p1, .int p2, .int p3] [.ref p1, va_rf x1] [.int q2.1, .ref p1, va_rf x1] (wk_x_chosenOf e_q2) cs_X0_207 g3 rfl ⟨Nat.le_of_ble_eq_true rfl, Nat.le_of_ble_eq_true rfl⟩ rfl (by simp only [List.map, hk_cat]; exact Nat.le_of_ble_eq_true rfl) rfl dX0_chosenSeconds_9 ?_
  refine hv_iload_n 2 dX0_chosenSeconds_12 rfl rfl ?_
  refine hv_iload_n 3 dX0_chosenSeconds_13 rfl rfl ?_
  obtain ⟨a4, e_a4, h⟩ := hq_nn h
  rw [e_a4]
  obtain ⟨q5, e_q5, h⟩ := hq_ob h
  obtain ⟨g6, h⟩ := hq_gd h
  refine hv_callV [.ref p1, .int q2.1, .int p2, .int p3] [] [.int q5.1] (wk_xActs_lay e_q5) cs_X0_150 g6 rfl ⟨Nat.le_of_ble_eq_true rfl, Nat.le_of_ble_eq_true rfl⟩ rfl (Nat.le_of_ble_eq_true rfl) rfl dX0_chosenSeconds_14 ?_
  refine hv_pop dX0_chosenSeconds_17 rfl ?_
  refine hv_aload_n 0 dX0_chosenSeconds_18 rfl rfl ?_
  obtain ⟨x7, e_x7, h⟩ := hq_ob h
  refine hv_getR fl_X0_37 e_x7 dX0_chosenSeconds_19 ?_
  obtain ⟨a8, e_a8, h⟩ := hq_nn h
  rw [e_a8]
  obtain ⟨x9, e_x9, h⟩ := hq_ob h
  refine hv_getI fl_X0_163 e_x9 dX0_chosenSeconds_22 ?_
  obtain ⟨h1, h2⟩ := hq_ret h
  subst h1
  subst h2
  exact hv_iret rfl dX0_chosenSeconds_25
def x_table_L42b (th : Nat) (p1 : Int32) (p2 : Int32) (p3 : Int32) (v12 : Nat) (v13 : Int32) (e0 : Int32 → hk_St → Option (Int32 × hk_St)) (rc : Int32 → Int32 → hk_St → Option (Int32 × hk_St)) (v14 : Int32) (v15 : Int32) (s16 : hk_St) : Option (Int32 × hk_St) :=
  if (99 : Int32) < v15 then
    e0 v14 s16
  else
  if 0 ≤ v14 then
    e0 v14 s16
  else
  (hk_gR [3] 300 s16 v12).bind fun x21 =>
  hk_nn x21 fun a22 =>
  (hk_tI 0 s16 a22 (3 : Int32) v15).bind fun s23 =>
  (x_chosenSeconds th v12 (p2 / (10000 : Int32)) (p2 - p2 / (10000 : Int32) * (10000 : Int32)) s23).bind fun q24 =>
  hk_gd (hk_bf [0] s23 th) <|
  if p3 < q24.1 then
    hk_nm (v15 + (1 : Int32)) fun x27 =>
    rc v14 x27 q24.2
  else
  hk_nm (v15 + (1 : Int32)) fun x28 =>
  rc v15 x28 q24.2
def x_table_L42 (th : Nat) (p1 : Int32) (p2 : Int32) (p3 : Int32) (v12 : Nat) (v13 : Int32) (e0 : Int32 → hk_St → Option (Int32 × hk_St)) : Nat → Int32 → Int32 → hk_St → Option (Int32 × hk_St)
  | 0 => fun _ _ _ => none
  | n + 1 => x_table_L42b th p1 p2 p3 v12 v13 e0 (x_table_L42 th p1 p2 p3 v12 v13 e0 n)
def x_table (th : Nat) (p1 : Int32) (p2 : Int32) (p3 : Int32) (s0 : hk_St) : Option (Int32 × hk_St) :=
  (x_isHead th p1 s0).bind fun x1 =>
  hk_gd (hk_bf [0] s0 th) <|
  if x1 = 0 then
    some ((-1 : Int32), s0)
  else
  if (x_isPair p2) = 0 then
    some ((-1 : Int32), s0)
  else
  (hk_gR [0] 2 s0 th).bind fun x5 =>
    hk_nn x5 fun a6 =>
    (hk_lR 6 s0 a6 p1).bind fun x7 =>
    hk_nn x7 fun a8 =>
    (hk_gR [3] 300 s0 a8).bind fun x9 =>
    hk_nn x9 fun a10 =>
    (hk_lI 0 s0 a10 (3 : Int32)).bind fun x11 =>
    x_table_L42 th p1 p2 p3 a8 x11 (fun (v17 : Int32) (s18 : hk_St) =>
      (hk_gR [3] 300 s18 a8).bind fun x29 =>
      hk_nn x29 fun a30 =>
      (hk_tI 0 s18 a30 (3 : Int32) x11).bind fun s31 =>
      some (v17, s31)) hk_F (-2 : Int32) (9 : Int32) s0
abbrev N_x_table (l : Launch) : hk_N := (l, cX0_table, "HeadReckons", 8, (some .int), 224, 12287, false)
set_option maxHeartbeats 4000000 in
theorem wk_x_table_L42b {l : Launch} {Gd : hk_G} {th : Nat} {p1 : Int32} {p2 : Int32} {p3 : Int32} {s0 : hk_St} {r : Int32} {fin : hk_St} {v12 : Nat} {v13 : Int32} {e0 : Int32 → hk_St → Option (Int32 × hk_St)} {rc : Int32 → Int32 → hk_St → Option (Int32 × hk_St)} (hrc : ∀ (v14 : Int32) (v15 : Int32) (s16 : hk_St), rc v14 v15 s16 = some (r, fin) → hk_V Gd (N_x_table l) (hk_end Gd s0 (some (.int r)) fin) 42 [(0, .ref th), (2, .int p2), (3, .int p3), (4, .ref v12), (5, .int v13), (6, .int v14), (7, .int v15)] [] s16) (he0 : ∀ (v17 : Int32) (s18 : hk_St), e0 v17 s18 = some (r, fin) → hk_V Gd (N_x_table l) (hk_end Gd s0 (some (.int r)) fin) 93 [(4, .ref v12), (5, .int v13), (6, .int v17)] [] s18) {v14 : Int32} {v15 : Int32} {s16 : hk_St} (h : x_table_L42b th p1 p2 p3 v12 v13 e0 rc v14 v15 s16 = some (r, fin)) : hk_V Gd (N_x_table l) (hk_end Gd s0 (some (.int r)) fin) 42 [(0, .ref th), (2, .int p2), (3, .int p3), (4, .ref v12), (5, .int v13), (6, .int v14), (7, .int v15)] [] s16 := by
  unfold x_table_L42b at h
  refine hv_iload 6 dX0_table_42 rfl ?_
  refine hv_bipush (v := 99) dX0_table_44 (by decide) ?_
  refine hv_icmp_gt (tgt := 93) dX0_table_46 (by decide) (fun c19 => ?_) (fun c19 => ?_)
  · replace h := hq_ip c19 h
    refine hv_sub [3, 4, 5] rfl ?_
    exact he0 _ _ h
  · replace h := hq_in c19 h
    refine hv_iload 5 dX0_table_49 rfl ?_
    refine hv_if_ge (tgt := 93) dX0_table_51 (by decide) (fun c20 => ?_) (fun c20 => ?_)
    · replace h := hq_ip c20 h
      refine hv_sub [3, 4, 5] rfl ?_
      exact he0 _ _ h
    · replace h := hq_in c20 h
      refine hv_aload 3 dX0_table_54 rfl ?_
      obtain ⟨x21, e_x21, h⟩ := hq_ob h
      refine hv_getR fl_X0_88 e_x21 dX0_table_56 ?_
      refine hv_iconst (v := 3) dX0_table_59 (by decide) ?_
      refine hv_iload 6 dX0_table_60 rfl ?_
      obtain ⟨a22, e_a22, h⟩ := hq_nn h
      rw [e_a22]
      obtain ⟨s23, e_s23, h⟩ := hq_ob h
      refine hv_iast e_s23 dX0_table_62 ?_
      refine hv_aload_n 0 dX0_table_63 rfl rfl ?_
      refine hv_aload 3 dX0_table_64 rfl ?_
      refine hv_iload_n 1 dX0_table_66 rfl rfl ?_
      refine hv_sipush (v := 10000) dX0_table_67 (by decide) ?_
      refine hv_idiv (by decide) dX0_table_70 ?_
      refine hv_iload_n 1 dX0_table_71 rfl rfl ?_
      refine hv_sipush (v := 10000) dX0_table_72 (by decide) ?_
      refine hv_irem (by decide) dX0_table_75 ?_
      obtain ⟨q24, e_q24, h⟩ := hq_ob h
      obtain ⟨g25, h⟩ := hq_gd h
      refine hv_callV [.ref v12, .int (p2 / (10000 : Int32)), .int (p2 - p2 / (10000 : Int32) * (10000 : Int32))] [] [.int q24.1] (wk_x_chosenSeconds e_q24) cs_X0_223 g25 rfl ⟨Nat.le_of_ble_eq_true rfl, Nat.le_of_ble_eq_true rfl⟩ rfl (Nat.le_of_ble_eq_true rfl) rfl dX0_table_76 ?_
      refine hv_iload_n 2 dX0_table_79 rfl rfl ?_
      refine hv_icmp_gt (tgt := 87) dX0_table_80 (by decide) (fun c26 => ?_) (fun c26 => ?_)
      · replace h := hq_ip c26 h
        obtain ⟨x27, e_x27, h⟩ := hq_nm h
        refine hv_iinc (v := x27) (L' := [(7, .int x27), (0, .ref th), (2, .int p2), (3, .int p3), (4, .ref v12), (5, .int v13), (6, .int v14)]) 6 dX0_table_87 rfl (by rw [e_x27]; rfl) (Nat.le_of_ble_eq_true rfl) rfl ?_
        refine hv_goto (tgt := 42) dX0_table_90 (by decide) ?_
        refine hv_sub [1, 2, 3, 4, 5, 6, 0] rfl ?_
        exact hrc _ _ _ h
      · replace h := hq_in c26 h
        refine hv_iload 6 dX0_table_83 rfl ?_
        refine hv_istore (L' := [(6, .int v15), (0, .ref th), (2, .int p2), (3, .int p3), (4, .ref v12), (5, .int v13), (7, .int v15)]) dX0_table_85 (Nat.le_of_ble_eq_true rfl) rfl ?_
        obtain ⟨x28, e_x28, h⟩ := hq_nm h
        refine hv_iinc (v := x28) (L' := [(7, .int x28), (6, .int v15), (0, .ref th), (2, .int p2), (3, .int p3), (4, .ref v12), (5, .int v13)]) 6 dX0_table_87 rfl (by rw [e_x28]; rfl) (Nat.le_of_ble_eq_true rfl) rfl ?_
        refine hv_goto (tgt := 42) dX0_table_90 (by decide) ?_
        refine hv_sub [2, 3, 4, 5, 6, 1, 0] rfl ?_
        exact hrc _ _ _ h
theorem wk_x_table_L42 {l : Launch} {Gd : hk_G} {th : Nat} {p1 : Int32} {p2 : Int32} {p3 : Int32} {s0 : hk_St} {r : Int32} {fin : hk_St} {v12 : Nat} {v13 : Int32} {e0 : Int32 → hk_St → Option (Int32 × hk_St)} (he0 : ∀ (v17 : Int32) (s18 : hk_St), e0 v17 s18 = some (r, fin) → hk_V Gd (N_x_table l) (hk_end Gd s0 (some (.int r)) fin) 93 [(4, .ref v12), (5, .int v13), (6, .int v17)] [] s18) : ∀ (n : Nat) (v14 : Int32) (v15 : Int32) (s16 : hk_St), x_table_L42 th p1 p2 p3 v12 v13 e0 n v14 v15 s16 = some (r, fin) → hk_V Gd (N_x_table l) (hk_end Gd s0 (some (.int r)) fin) 42 [(0, .ref th), (2, .int p2), (3, .int p3), (4, .ref v12), (5, .int v13), (6, .int v14), (7, .int v15)] [] s16 := by
  intro n
  induction n with
  | zero => intro v14 v15 s16 h; cases h
  | succ n ih => intro v14 v15 s16 h; exact wk_x_table_L42b  ih he0 h
set_option maxHeartbeats 4000000 in
theorem wk_x_table {l : Launch} {Gd : hk_G} {th : Nat} {p1 : Int32} {p2 : Int32} {p3 : Int32} {s0 : hk_St} {r : Int32} {fin : hk_St} (h : x_table th p1 p2 p3 s0 = some (r, fin)) : hk_Met Gd l yX0_table cX0_table 8 (some .int) 224 12287 [.ref th, .int p1, .int p2, .int p3] s0 (some (.int r)) fin := by
  refine hk_start "HeadReckons" false (by decide +kernel) rfl (by decide) (Nat.le_of_ble_eq_true rfl) ?_
  show hk_V Gd (N_x_table l) (hk_end Gd s0 (some (.int r)) fin) 0 [(0, .ref th), (1, .int p1), (2, .int p2), (3, .int p3)] [] s0
  unfold x_table at h
  refine hv_aload_n 0 dX0_table_0 rfl rfl ?_
  refine hv_iload_n 1 dX0_table_1 rfl rfl ?_
  obtain ⟨x1, e_x1, h⟩ := hq_ob h
  obtain ⟨g2, h⟩ := hq_gd h
  refine hv_callV [.int p1] [] [.int x1] (wk_x_isHead e_x1) cs_X0_89 g2 rfl ⟨Nat.le_of_ble_eq_true rfl, Nat.le_of_ble_eq_true rfl⟩ rfl (Nat.le_of_ble_eq_true rfl) rfl dX0_table_2 ?_
  refine hv_if_eq (tgt := 15) dX0_table_5 (by decide) (fun c3 => ?_) (fun c3 => ?_)
  · replace h := hq_ip c3 h
    refine hv_iconst (v := -1) dX0_table_15 (by decide) ?_
    obtain ⟨h1, h2⟩ := hq_ret h
    subst h1
    subst h2
    exact hv_iret rfl dX0_table_16
  · replace h := hq_in c3 h
    refine hv_iload_n 2 dX0_table_8 rfl rfl ?_
    refine hv_callS [.int p2] [] [.int (x_isPair p2)] (wk_x_isPair rfl) cs_X0_157 rfl ⟨Nat.le_of_ble_eq_true rfl, Nat.le_of_ble_eq_true rfl⟩ rfl (Nat.le_of_ble_eq_true rfl) rfl dX0_table_9 ?_
    refine hv_if_ne (tgt := 17) dX0_table_12 (by decide) (fun c4 => ?_) (fun c4 => ?_)
    · replace h := hq_in c4 h
      refine hv_aload_n 0 dX0_table_17 rfl rfl ?_
      obtain ⟨x5, e_x5, h⟩ := hq_ob h
      refine hv_getR fl_X0_15 e_x5 dX0_table_18 ?_
      refine hv_iload_n 1 dX0_table_21 rfl rfl ?_
      obtain ⟨a6, e_a6, h⟩ := hq_nn h
      rw [e_a6]
      obtain ⟨x7, e_x7, h⟩ := hq_ob h
      refine hv_aald (by decide) (by decide) rfl e_x7 dX0_table_22 ?_
      refine hv_astoreq (L' := [(4, va_rf x7), (0, .ref th), (1, .int p1), (2, .int p2), (3, .int p3)]) dX0_table_23 (Nat.le_of_ble_eq_true rfl) rfl ?_
      refine hv_aloadq 0 dX0_table_25 rfl ?_
      obtain ⟨a8, e_a8, h⟩ := hq_nn h
      rw [e_a8]
      obtain ⟨x9, e_x9, h⟩ := hq_ob h
      refine hv_getR fl_X0_88 e_x9 dX0_table_27 ?_
      refine hv_iconst (v := 3) dX0_table_30 (by decide) ?_
      obtain ⟨a10, e_a10, h⟩ := hq_nn h
      rw [e_a10]
      obtain ⟨x11, e_x11, h⟩ := hq_ob h
      refine hv_iald e_x11 dX0_table_31 ?_
      refine hv_istore (L' := [(5, .int x11), (4, .ref a8), (0, .ref th), (1, .int p1), (2, .int p2), (3, .int p3)]) dX0_table_32 (Nat.le_of_ble_eq_true rfl) rfl ?_
      refine hv_bipush (v := -2) dX0_table_34 (by decide) ?_
      refine hv_istore (L' := [(6, .int (-2 : Int32)), (5, .int x11), (4, .ref a8), (0, .ref th), (1, .int p1), (2, .int p2), (3, .int p3)]) dX0_table_36 (Nat.le_of_ble_eq_true rfl) rfl ?_
      refine hv_bipush (v := 9) dX0_table_38 (by decide) ?_
      refine hv_istore (L' := [(7, .int (9 : Int32)), (6, .int (-2 : Int32)), (5, .int x11), (4, .ref a8), (0, .ref th), (1, .int p1), (2, .int p2), (3, .int p3)]) dX0_table_40 (Nat.le_of_ble_eq_true rfl) rfl ?_
      refine hv_sub [4, 6, 7, 3, 2, 1, 0] rfl ?_
      refine wk_x_table_L42  ?_ hk_F _ _ _ h
      · intro v17 s18 h
        refine hv_aload 0 dX0_table_93 rfl ?_
        obtain ⟨x29, e_x29, h⟩ := hq_ob h
        refine hv_getR fl_X0_88 e_x29 dX0_table_95 ?_
        refine hv_iconst (v := 3) dX0_table_98 (by decide) ?_
        refine hv_iload 1 dX0_table_99 rfl ?_
        obtain ⟨a30, e_a30, h⟩ := hq_nn h
        rw [e_a30]
        obtain ⟨s31, e_s31, h⟩ := hq_ob h
        refine hv_iast e_s31 dX0_table_101 ?_
        refine hv_iload 2 dX0_table_102 rfl ?_
        obtain ⟨h1, h2⟩ := hq_ret h
        subst h1
        subst h2
        exact hv_iret rfl dX0_table_104
    · replace h := hq_ip c4 h
      refine hv_iconst (v := -1) dX0_table_15 (by decide) ?_
      obtain ⟨h1, h2⟩ := hq_ret h
      subst h1
      subst h2
      exact hv_iret rfl dX0_table_16
def x_isSeen (p1 : Int32) (p2 : Int32) (p3 : Int32) : Int32 :=
  if (x_isPair p1) = 0 then
    (0 : Int32)
  else
  if (x_in p2 (0 : Int32) (9999 : Int32)) = 0 then
    (0 : Int32)
  else
  if (x_in p3 (-999999999 : Int32) (999999999 : Int32)) = 0 then
    (0 : Int32)
  else
  (1 : Int32)
theorem bz_x_isSeen {p1 : Int32} {p2 : Int32} {p3 : Int32} : x_isSeen p1 p2 p3 &&& 1 = x_isSeen p1 p2 p3 := by
  unfold x_isSeen
  try unfold hk_nm
  repeat' split
  all_goals first | rfl | exact bz_x_in | exact bz_x_isPair
abbrev N_x_isSeen (l : Launch) : hk_N := (l, cX0_isSeen, "HeadReckons", 3, (some .boolean), 2, 42, false)
set_option maxHeartbeats 4000000 in
theorem wk_x_isSeen {l : Launch} {Gd : hk_G} {st : hk_St} {p1 : Int32} {p2 : Int32} {p3 : Int32} {r : Int32} (h : x_isSeen p1 p2 p3 = r) : hk_Met Gd l yX0_isSeen cX0_isSeen 3 (some .boolean) 2 42 [.int p1, .int p2, .int p3] st (some (.int r)) st := by
  refine hk_start "HeadReckons" false (by decide +kernel) rfl (by decide) (Nat.le_of_ble_eq_true rfl) ?_
  show hk_V Gd (N_x_isSeen l) (hk_end Gd st (some (.int r)) st) 0 [(0, .int p1), (1, .int p2), (2, .int p3)] [] st
  unfold x_isSeen at h
  refine hv_iload_n 0 dX0_isSeen_0 rfl rfl ?_
  refine hv_callS [.int p1] [] [.int (x_isPair p1)] (wk_x_isPair rfl) cs_X0_157 rfl ⟨Nat.le_of_ble_eq_true rfl, Nat.le_of_ble_eq_true rfl⟩ rfl (Nat.le_of_ble_eq_true rfl) rfl dX0_isSeen_1 ?_
  refine hv_if_eq (tgt := 33) dX0_isSeen_4 (by decide) (fun c1 => ?_) (fun c1 => ?_)
  · replace h := hq_ip c1 h
    refine hv_iconst (v := 0) dX0_isSeen_33 (by decide) ?_
    subst h
    exact hv_zret (ty := .boolean) rfl rfl dX0_isSeen_34
  · replace h := hq_in c1 h
    refine hv_iload_n 1 dX0_isSeen_7 rfl rfl ?_
    refine hv_iconst (v := 0) dX0_isSeen_8 (by decide) ?_
    refine hv_sipush (v := 9999) dX0_isSeen_9 (by decide) ?_
    refine hv_callS [.int p2, .int (0 : Int32), .int (9999 : Int32)] [] [.int (x_in p2 (0 : Int32) (9999 : Int32))] (wk_x_in rfl) cs_X0_73 rfl ⟨Nat.le_of_ble_eq_true rfl, Nat.le_of_ble_eq_true rfl⟩ rfl (Nat.le_of_ble_eq_true rfl) rfl dX0_isSeen_12 ?_
    refine hv_if_eq (tgt := 33) dX0_isSeen_15 (by decide) (fun c2 => ?_) (fun c2 => ?_)
    · replace h := hq_ip c2 h
      refine hv_iconst (v := 0) dX0_isSeen_33 (by decide) ?_
      subst h
      exact hv_zret (ty := .boolean) rfl rfl dX0_isSeen_34
    · replace h := hq_in c2 h
      refine hv_iload_n 2 dX0_isSeen_18 rfl rfl ?_
      refine hv_ldc q797 dX0_isSeen_19 ?_
      refine hv_ldc q798 dX0_isSeen_21 ?_
      refine hv_callS [.int p3, .int (-999999999 : Int32), .int (999999999 : Int32)] [] [.int (x_in p3 (-999999999 : Int32) (999999999 : Int32))] (wk_x_in rfl) cs_X0_73 rfl ⟨Nat.le_of_ble_eq_true rfl, Nat.le_of_ble_eq_true rfl⟩ rfl (Nat.le_of_ble_eq_true rfl) rfl dX0_isSeen_23 ?_
      refine hv_if_eq (tgt := 33) dX0_isSeen_26 (by decide) (fun c3 => ?_) (fun c3 => ?_)
      · replace h := hq_ip c3 h
        refine hv_iconst (v := 0) dX0_isSeen_33 (by decide) ?_
        subst h
        exact hv_zret (ty := .boolean) rfl rfl dX0_isSeen_34
      · replace h := hq_in c3 h
        refine hv_iconst (v := 1) dX0_isSeen_29 (by decide) ?_
        refine hv_goto (tgt := 34) dX0_isSeen_30 (by decide) ?_
        subst h
        exact hv_zret (ty := .boolean) rfl rfl dX0_isSeen_34
def xSeen_init (th : Nat) (p1 : Int32) (p2 : Int32) (p3 : Int32) (s0 : hk_St) : Option hk_St :=
  (hk_pI [13] 1300 s0 th (p1 / (10000 : Int32))).bind fun s1 =>
  (hk_pI [13] 1301 s1 th (p1 - p1 / (10000 : Int32) * (10000 : Int32))).bind fun s2 =>
  (hk_pI [13] 1302 s2 th p2).bind fun s3 =>
  (hk_pI [13] 1303 s3 th p3).bind fun s4 =>
  some s4
abbrev N_xSeen_init (l : Launch) : hk_N := (l, cX14_init, "HeadReckons$Seen", 4, none, 1, 20, true)
set_option maxHeartbeats 4000000 in
theorem wk_xSeen_init {l : Launch} {Gd : hk_G} {th : Nat} {p1 : Int32} {p2 : Int32} {p3 : Int32} {s0 : hk_St} {fin : hk_St} (h : xSeen_init th p1 p2 p3 s0 = some fin) : hk_Met Gd l yX14_init cX14_init 4 none 1 20 [.ref th, .int p1, .int p2, .int p3] s0 none fin := by
  refine hk_start "HeadReckons$Seen" true (by decide +kernel) rfl (by decide) (Nat.le_of_ble_eq_true rfl) ?_
  show hk_V Gd (N_xSeen_init l) (hk_end Gd s0 none fin) 0 [(0, .ref th), (1, .int p1), (2, .int p2), (3, .int p3)] [] s0
  unfold xSeen_init at h
  refine hv_aload_n 0 dX14_init_0 rfl rfl ?_
  refine hv_objInit q803 q144 q145 dX14_init_1 (Nat.le_of_ble_eq_true rfl) (Nat.le_of_ble_eq_true rfl) ?_
  refine hv_aload_n 0 dX14_init_4 rfl rfl ?_
  refine hv_iload_n 1 dX14_init_5 rfl rfl ?_
  refine hv_sipush (v := 10000) dX14_init_6 (by decide) ?_
  refine hv_idiv (by decide) dX14_init_9 ?_
  obtain ⟨s1, e_s1, h⟩ := hq_ob h
  refine hv_putI fp_X14_7 e_s1 (fun _ => rfl) dX14_init_10 ?_
  refine hv_aload_n 0 dX14_init_13 rfl rfl ?_
  refine hv_iload_n 1 dX14_init_14 rfl rfl ?_
  refine hv_sipush (v := 10000) dX14_init_15 (by decide) ?_
  refine hv_irem (by decide) dX14_init_18 ?_
  obtain ⟨s2, e_s2, h⟩ := hq_ob h
  refine hv_putI fp_X14_13 e_s2 (fun _ => rfl) dX14_init_19 ?_
  refine hv_aload_n 0 dX14_init_22 rfl rfl ?_
  refine hv_iload_n 2 dX14_init_23 rfl rfl ?_
  obtain ⟨s3, e_s3, h⟩ := hq_ob h
  refine hv_putI fp_X14_16 e_s3 (fun _ => rfl) dX14_init_24 ?_
  refine hv_aload_n 0 dX14_init_27 rfl rfl ?_
  refine hv_iload_n 3 dX14_init_28 rfl rfl ?_
  obtain ⟨s4, e_s4, h⟩ := hq_ob h
  refine hv_putI fp_X14_19 e_s4 (fun _ => rfl) dX14_init_29 ?_
  have h := Option.some.inj h
  subst h
  exact hv_vret rfl dX14_init_32
def x_see (th : Nat) (p1 : Int32) (p2 : Int32) (p3 : Int32) (s0 : hk_St) : Option (Int32 × hk_St) :=
  if (x_isSeen p1 p2 p3) = 0 then
    some ((-1 : Int32), s0)
  else
  (hk_gI [0] 11 s0 th).bind fun x2 =>
    if x2 = (40 : Int32) then
      some ((-3 : Int32), s0)
    else
    (hk_gR [0] 10 s0 th).bind fun x4 =>
      (hk_gI [0] 11 s0 th).bind fun x5 =>
      hk_nm (hk_nx s0) fun a6 =>
      hk_nm (hk_mk s0 13 0 4) fun s7 =>
      (xSeen_init a6 p1 p2 p3 s7).bind fun s8 =>
      hk_nn x4 fun a9 =>
      (hk_tR 8 [13] s8 a9 x5 (some a6)).bind fun s10 =>
      (hk_gI [0] 11 s10 th).bind fun x11 =>
      (hk_pI [0] 11 s10 th (x11 + (1 : Int32))).bind fun s12 =>
      (hk_gI [0] 11 s12 th).bind fun x13 =>
      some (x13 - (1 : Int32), s12)
abbrev N_x_see (l : Launch) : hk_N := (l, cX0_see, "HeadReckons", 4, (some .int), 3, 64, false)
set_option maxHeartbeats 4000000 in
theorem wk_x_see {l : Launch} {Gd : hk_G} {th : Nat} {p1 : Int32} {p2 : Int32} {p3 : Int32} {s0 : hk_St} {r : Int32} {fin : hk_St} (h : x_see th p1 p2 p3 s0 = some (r, fin)) : hk_Met Gd l yX0_see cX0_see 4 (some .int) 3 64 [.ref th, .int p1, .int p2, .int p3] s0 (some (.int r)) fin := by
  refine hk_start "HeadReckons" false (by decide +kernel) rfl (by decide) (Nat.le_of_ble_eq_true rfl) ?_
  show hk_V Gd (N_x_see l) (hk_end Gd s0 (some (.int r)) fin) 0 [(0, .ref th), (1, .int p1), (2, .int p2), (3, .int p3)] [] s0
  unfold x_see at h
  refine hv_iload_n 1 dX0_see_0 rfl rfl ?_
  refine hv_iload_n 2 dX0_see_1 rfl rfl ?_
  refine hv_iload_n 3 dX0_see_2 rfl rfl ?_
  refine hv_callS [.int p1, .int p2, .int p3] [] [.int (x_isSeen p1 p2 p3)] (wk_x_isSeen rfl) cs_X0_228 rfl ⟨Nat.le_of_ble_eq_true rfl, Nat.le_of_ble_eq_true rfl⟩ rfl (Nat.le_of_ble_eq_true rfl) rfl dX0_see_3 ?_
  refine hv_if_ne (tgt := 11) dX0_see_6 (by decide) (fun c1 => ?_) (fun c1 => ?_)
  · replace h := hq_in c1 h
    refine hv_aload_n 0 dX0_see_11 rfl rfl ?_
    obtain ⟨x2, e_x2, h⟩ := hq_ob h
    refine hv_getI fl_X0_231 e_x2 dX0_see_12 ?_
    refine hv_bipush (v := 40) dX0_see_15 (by decide) ?_
    refine hv_icmp_ne (tgt := 23) dX0_see_17 (by decide) (fun c3 => ?_) (fun c3 => ?_)
    · replace h := hq_in c3 h
      refine hv_aload_n 0 dX0_see_23 rfl rfl ?_
      obtain ⟨x4, e_x4, h⟩ := hq_ob h
      refine hv_getR fl_X0_43 e_x4 dX0_see_24 ?_
      refine hv_aload_n 0 dX0_see_27 rfl rfl ?_
      obtain ⟨x5, e_x5, h⟩ := hq_ob h
      refine hv_getI fl_X0_231 e_x5 dX0_see_28 ?_
      obtain ⟨a6, e_a6, h⟩ := hq_nm h
      obtain ⟨s7, e_s7, h⟩ := hq_nm h
      refine hv_new (ci := 13) (r := (RX14, TX14, 4)) rfl hk_ok13 (by decide) q227 q799 q112 dX0_see_31 ?_
      rw [show hk_mk s0 13 0 ((RX14, TX14, 4) : vw_C).2.2 = s7 from e_s7.symm, ← e_a6]
      refine hv_dup dX0_see_34 rfl ?_
      refine hv_iload_n 1 dX0_see_35 rfl rfl ?_
      refine hv_iload_n 2 dX0_see_36 rfl rfl ?_
      refine hv_iload_n 3 dX0_see_37 rfl rfl ?_
      obtain ⟨s8, e_s8, h⟩ := hq_ob h
      refine hv_callI [.int p1, .int p2, .int p3] [.ref a6, .int x5, va_rf x4] [.ref a6, .int x5, va_rf x4] (wk_xSeen_init e_s8) cs_X0_234 rfl ⟨Nat.le_of_ble_eq_true rfl, Nat.le_of_ble_eq_true rfl⟩ rfl (by simp only [List.map, hk_cat]; exact Nat.le_of_ble_eq_true rfl) rfl dX0_see_38 ?_
      obtain ⟨a9, e_a9, h⟩ := hq_nn h
      rw [e_a9]
      obtain ⟨s10, e_s10, h⟩ := hq_ob h
      refine hv_aast (by decide) (by decide) rfl hk_as8 e_s10 dX0_see_41 ?_
      refine hv_aload_n 0 dX0_see_42 rfl rfl ?_
      refine hv_dup dX0_see_43 rfl ?_
      obtain ⟨x11, e_x11, h⟩ := hq_ob h
      refine hv_getI fl_X0_231 e_x11 dX0_see_44 ?_
      refine hv_iconst (v := 1) dX0_see_47 (by decide) ?_
      refine hv_iadd dX0_see_48 ?_
      obtain ⟨s12, e_s12, h⟩ := hq_ob h
      refine hv_putI fp_X0_231 e_s12 (fun q => by cases q) dX0_see_49 ?_
      refine hv_aload_n 0 dX0_see_52 rfl rfl ?_
      obtain ⟨x13, e_x13, h⟩ := hq_ob h
      refine hv_getI fl_X0_231 e_x13 dX0_see_53 ?_
      refine hv_iconst (v := 1) dX0_see_56 (by decide) ?_
      refine hv_isub dX0_see_57 ?_
      obtain ⟨h1, h2⟩ := hq_ret h
      subst h1
      subst h2
      exact hv_iret rfl dX0_see_58
    · replace h := hq_ip c3 h
      refine hv_bipush (v := -3) dX0_see_20 (by decide) ?_
      obtain ⟨h1, h2⟩ := hq_ret h
      subst h1
      subst h2
      exact hv_iret rfl dX0_see_22
  · replace h := hq_ip c1 h
    refine hv_iconst (v := -1) dX0_see_9 (by decide) ?_
    obtain ⟨h1, h2⟩ := hq_ret h
    subst h1
    subst h2
    exact hv_iret rfl dX0_see_10
def x_isShelf (p1 : Int32) : Int32 :=
  (x_in p1 (0 : Int32) (5 : Int32))
theorem bz_x_isShelf {p1 : Int32} : x_isShelf p1 &&& 1 = x_isShelf p1 := by
  unfold x_isShelf
  try unfold hk_nm
  repeat' split
  all_goals first | rfl | exact bz_x_in
abbrev N_x_isShelf (l : Launch) : hk_N := (l, cX0_isShelf, "HeadReckons", 1, (some .boolean), 1, 22, false)
set_option maxHeartbeats 4000000 in
theorem wk_x_isShelf {l : Launch} {Gd : hk_G} {st : hk_St} {p1 : Int32} {r : Int32} (h : x_isShelf p1 = r) : hk_Met Gd l yX0_isShelf cX0_isShelf 1 (some .boolean) 1 22 [.int p1] st (some (.int r)) st := by
  refine hk_start "HeadReckons" false (by decide +kernel) rfl (by decide) (Nat.le_of_ble_eq_true rfl) ?_
  show hk_V Gd (N_x_isShelf l) (hk_end Gd st (some (.int r)) st) 0 [(0, .int p1)] [] st
  unfold x_isShelf at h
  refine hv_iload_n 0 dX0_isShelf_0 rfl rfl ?_
  refine hv_iconst (v := 0) dX0_isShelf_1 (by decide) ?_
  refine hv_iconst (v := 5) dX0_isShelf_2 (by decide) ?_
  refine hv_callS [.int p1, .int (0 : Int32), .int (5 : Int32)] [] [.int (x_in p1 (0 : Int32) (5 : Int32))] (wk_x_in rfl) cs_X0_73 rfl ⟨Nat.le_of_ble_eq_true rfl, Nat.le_of_ble_eq_true rfl⟩ rfl (Nat.le_of_ble_eq_true rfl) rfl dX0_isShelf_3 ?_
  subst h
  exact hv_zret (ty := .boolean) rfl (hk_nz bz_x_in) dX0_isShelf_6
def x_isAsk (th : Nat) (p1 : Int32) (s0 : hk_St) : Option (Int32) :=
  (hk_gI [0] 11 s0 th).bind fun x1 =>
  some (x_in p1 (0 : Int32) (x1 - (1 : Int32)))
abbrev N_x_isAsk (l : Launch) : hk_N := (l, cX0_isAsk, "HeadReckons", 2, (some .boolean), 1, 22, false)
set_option maxHeartbeats 4000000 in
theorem wk_x_isAsk {l : Launch} {Gd : hk_G} {th : Nat} {p1 : Int32} {s0 : hk_St} {r : Int32} (h : x_isAsk th p1 s0 = some r) : hk_Met Gd l yX0_isAsk cX0_isAsk 2 (some .boolean) 1 22 [.ref th, .int p1] s0 (some (.int r)) s0 := by
  refine hk_start "HeadReckons" false (by decide +kernel) rfl (by decide) (Nat.le_of_ble_eq_true rfl) ?_
  show hk_V Gd (N_x_isAsk l) (hk_end Gd s0 (some (.int r)) s0) 0 [(0, .ref th), (1, .int p1)] [] s0
  unfold x_isAsk at h
  refine hv_iload_n 1 dX0_isAsk_0 rfl rfl ?_
  refine hv_iconst (v := 0) dX0_isAsk_1 (by decide) ?_
  refine hv_aload_n 0 dX0_isAsk_2 rfl rfl ?_
  obtain ⟨x1, e_x1, h⟩ := hq_ob h
  refine hv_getI fl_X0_231 e_x1 dX0_isAsk_3 ?_
  refine hv_iconst (v := 1) dX0_isAsk_6 (by decide) ?_
  refine hv_isub dX0_isAsk_7 ?_
  refine hv_callS [.int p1, .int (0 : Int32), .int (x1 - (1 : Int32))] [] [.int (x_in p1 (0 : Int32) (x1 - (1 : Int32)))] (wk_x_in rfl) cs_X0_73 rfl ⟨Nat.le_of_ble_eq_true rfl, Nat.le_of_ble_eq_true rfl⟩ rfl (Nat.le_of_ble_eq_true rfl) rfl dX0_isAsk_8 ?_
  have h := Option.some.inj h
  subst h
  exact hv_zret (ty := .boolean) rfl (hk_nz bz_x_in) dX0_isAsk_11
def xSeen_off (th : Nat) (s0 : hk_St) : Option (Int64) :=
  (hk_gI [13] 1303 s0 th).bind fun x1 =>
  (hk_gI [13] 1300 s0 th).bind fun x2 =>
  (hk_gI [13] 1301 s0 th).bind fun x3 =>
  some (x1.toInt64 - (x2.toInt64 * x3.toInt64))
abbrev N_xSeen_off (l : Launch) : hk_N := (l, cX14_off, "HeadReckons$Seen", 1, (some .long), 0, 0, false)
set_option maxHeartbeats 4000000 in
theorem wk_xSeen_off {l : Launch} {Gd : hk_G} {th : Nat} {s0 : hk_St} {r : Int64} (h : xSeen_off th s0 = some r) : hk_Met Gd l yX14_off cX14_off 1 (some .long) 0 0 [.ref th] s0 (some (.long r)) s0 := by
  refine hk_start "HeadReckons$Seen" false (by decide +kernel) rfl (by decide) (Nat.le_of_ble_eq_true rfl) ?_
  show hk_V Gd (N_xSeen_off l) (hk_end Gd s0 (some (.long r)) s0) 0 [(0, .ref th)] [] s0
  unfold xSeen_off at h
  refine hv_aload_n 0 dX14_off_0 rfl rfl ?_
  obtain ⟨x1, e_x1, h⟩ := hq_ob h
  refine hv_getI fl_X14_19 e_x1 dX14_off_1 ?_
  refine hv_i2l dX14_off_4 ?_
  refine hv_aload_n 0 dX14_off_5 rfl rfl ?_
  obtain ⟨x2, e_x2, h⟩ := hq_ob h
  refine hv_getI fl_X14_7 e_x2 dX14_off_6 ?_
  refine hv_i2l dX14_off_9 ?_
  refine hv_aload_n 0 dX14_off_10 rfl rfl ?_
  obtain ⟨x3, e_x3, h⟩ := hq_ob h
  refine hv_getI fl_X14_13 e_x3 dX14_off_11 ?_
  refine hv_i2l dX14_off_14 ?_
  refine hv_lmul dX14_off_15 ?_
  refine hv_lsub dX14_off_16 ?_
  have h := Option.some.inj h
  subst h
  exact hv_lret rfl dX14_off_17
def x_seen (th : Nat) (p1 : Int32) (p2 : Int32) (s0 : hk_St) : Option (Int32) :=
  (x_isAsk th p1 s0).bind fun x1 =>
  hk_gd (hk_bf [0] s0 th) <|
  if x1 = 0 then
    some (-2000000000 : Int32)
  else
  (hk_gR [0] 10 s0 th).bind fun x4 =>
    hk_nn x4 fun a5 =>
    (hk_lR 8 s0 a5 p1).bind fun x6 =>
    if p2 = 0 then
      hk_nn x6 fun a18 =>
    (hk_gI [13] 1300 s0 a18).bind fun x19 =>
    some x19
    else
    if p2 = (1 : Int32) then
        hk_nn x6 fun a16 =>
      (hk_gI [13] 1301 s0 a16).bind fun x17 =>
      some x17
      else
      if p2 = (2 : Int32) then
          hk_nn x6 fun a14 =>
        (hk_gI [13] 1302 s0 a14).bind fun x15 =>
        some x15
        else
        if p2 = (3 : Int32) then
            hk_nn x6 fun a11 =>
          (xSeen_off a11 s0).bind fun x12 =>
          hk_gd (hk_bf [13] s0 a11) <|
          some x12.toInt32
          else
          some (-2000000000 : Int32)
abbrev N_x_seen (l : Launch) : hk_N := (l, cX0_seen, "HeadReckons", 4, (some .int), 2, 43, false)
set_option maxHeartbeats 4000000 in
theorem wk_x_seen {l : Launch} {Gd : hk_G} {th : Nat} {p1 : Int32} {p2 : Int32} {s0 : hk_St} {r : Int32} (h : x_seen th p1 p2 s0 = some r) : hk_Met Gd l yX0_seen cX0_seen 4 (some .int) 2 43 [.ref th, .int p1, .int p2] s0 (some (.int r)) s0 := by
  refine hk_start "HeadReckons" false (by decide +kernel) rfl (by decide) (Nat.le_of_ble_eq_true rfl) ?_
  show hk_V Gd (N_x_seen l) (hk_end Gd s0 (some (.int r)) s0) 0 [(0, .ref th), (1, .int p1), (2, .int p2)] [] s0
  unfold x_seen at h
  refine hv_aload_n 0 dX0_seen_0 rfl rfl ?_
  refine hv_iload_n 1 dX0_seen_1 rfl rfl ?_
  obtain ⟨x1, e_x1, h⟩ := hq_ob h
  obtain ⟨g2, h⟩ := hq_gd h
  refine hv_callV [.int p1] [] [.int x1] (wk_x_isAsk e_x1) cs_X0_256 g2 rfl ⟨Nat.le_of_ble_eq_true rfl, Nat.le_of_ble_eq_true rfl⟩ rfl (Nat.le_of_ble_eq_true rfl) rfl dX0_seen_2 ?_
  refine hv_if_ne (tgt := 11) dX0_seen_5 (by decide) (fun c3 => ?_) (fun c3 => ?_)
  · replace h := hq_in c3 h
    refine hv_aload_n 0 dX0_seen_11 rfl rfl ?_
    obtain ⟨x4, e_x4, h⟩ := hq_ob h
    refine hv_getR fl_X0_43 e_x4 dX0_seen_12 ?_
    refine hv_iload_n 1 dX0_seen_15 rfl rfl ?_
    obtain ⟨a5, e_a5, h⟩ := hq_nn h
    rw [e_a5]
    obtain ⟨x6, e_x6, h⟩ := hq_ob h
    refine hv_aald (by decide) (by decide) rfl e_x6 dX0_seen_16 ?_
    refine hv_astore_nq (L' := [(3, va_rf x6), (0, .ref th), (1, .int p1), (2, .int p2)]) dX0_seen_17 rfl (Nat.le_of_ble_eq_true rfl) rfl ?_
    refine hv_iload_n 3 dX0_seen_18 rfl rfl ?_
    refine hv_if_ne (tgt := 29) dX0_seen_19 (by decide) (fun c7 => ?_) (fun c7 => ?_)
    · replace h := hq_in c7 h
      refine hv_iload_n 3 dX0_seen_29 rfl rfl ?_
      refine hv_iconst (v := 1) dX0_seen_30 (by decide) ?_
      refine hv_icmp_ne (tgt := 41) dX0_seen_31 (by decide) (fun c8 => ?_) (fun c8 => ?_)
      · replace h := hq_in c8 h
        refine hv_iload_n 3 dX0_seen_41 rfl rfl ?_
        refine hv_iconst (v := 2) dX0_seen_42 (by decide) ?_
        refine hv_icmp_ne (tgt := 53) dX0_seen_43 (by decide) (fun c9 => ?_) (fun c9 => ?_)
        · replace h := hq_in c9 h
          refine hv_iload_n 3 dX0_seen_53 rfl rfl ?_
          refine hv_iconst (v := 3) dX0_seen_54 (by decide) ?_
          refine hv_icmp_ne (tgt := 66) dX0_seen_55 (by decide) (fun c10 => ?_) (fun c10 => ?_)
          · replace h := hq_in c10 h
            refine hv_ldc q716 dX0_seen_66 ?_
            have h := Option.some.inj h
            subst h
            exact hv_iret rfl dX0_seen_68
          · replace h := hq_ip c10 h
            refine hv_aload_nq 0 dX0_seen_58 rfl rfl ?_
            obtain ⟨a11, e_a11, h⟩ := hq_nn h
            rw [e_a11]
            obtain ⟨x12, e_x12, h⟩ := hq_ob h
            obtain ⟨g13, h⟩ := hq_gd h
            refine hv_callV [] [] [.long x12] (wk_xSeen_off e_x12) cs_X0_268 g13 rfl ⟨Nat.le_of_ble_eq_true rfl, Nat.le_of_ble_eq_true rfl⟩ rfl (Nat.le_of_ble_eq_true rfl) rfl dX0_seen_59 ?_
            refine hv_l2i dX0_seen_62 ?_
            refine hv_goto (tgt := 68) dX0_seen_63 (by decide) ?_
            have h := Option.some.inj h
            subst h
            exact hv_iret rfl dX0_seen_68
        · replace h := hq_ip c9 h
          refine hv_aload_nq 0 dX0_seen_46 rfl rfl ?_
          obtain ⟨a14, e_a14, h⟩ := hq_nn h
          rw [e_a14]
          obtain ⟨x15, e_x15, h⟩ := hq_ob h
          refine hv_getI fl_X0_265 e_x15 dX0_seen_47 ?_
          refine hv_goto (tgt := 68) dX0_seen_50 (by decide) ?_
          have h := Option.some.inj h
          subst h
          exact hv_iret rfl dX0_seen_68
      · replace h := hq_ip c8 h
        refine hv_aload_nq 0 dX0_seen_34 rfl rfl ?_
        obtain ⟨a16, e_a16, h⟩ := hq_nn h
        rw [e_a16]
        obtain ⟨x17, e_x17, h⟩ := hq_ob h
        refine hv_getI fl_X0_262 e_x17 dX0_seen_35 ?_
        refine hv_goto (tgt := 68) dX0_seen_38 (by decide) ?_
        have h := Option.some.inj h
        subst h
        exact hv_iret rfl dX0_seen_68
    · replace h := hq_ip c7 h
      refine hv_aload_nq 0 dX0_seen_22 rfl rfl ?_
      obtain ⟨a18, e_a18, h⟩ := hq_nn h
      rw [e_a18]
      obtain ⟨x19, e_x19, h⟩ := hq_ob h
      refine hv_getI fl_X0_259 e_x19 dX0_seen_23 ?_
      refine hv_goto (tgt := 68) dX0_seen_26 (by decide) ?_
      have h := Option.some.inj h
      subst h
      exact hv_iret rfl dX0_seen_68
  · replace h := hq_ip c3 h
    refine hv_ldc q716 dX0_seen_8 ?_
    have h := Option.some.inj h
    subst h
    exact hv_iret rfl dX0_seen_10
def xActs_canSlip_L3b (th : Nat) (p1 : Int32) (p2 : Int64) (s0 : hk_St) (e0 : Unit → Option (Int32)) (rc : Int32 → Option (Int32)) (v1 : Int32) : Option (Int32) :=
  (xActs_slipWays th p1 s0).bind fun x2 =>
  hk_gd (hk_bf [2] s0 th) <|
  if x2 ≤ v1 then
    e0 ()
  else
  (xActs_slip th p1 v1 s0).bind fun x5 =>
  hk_gd (hk_bf [2] s0 th) <|
  if x5 = p2 then
    some (1 : Int32)
  else
  hk_nm (v1 + (1 : Int32)) fun x8 =>
    rc x8
def xActs_canSlip_L3 (th : Nat) (p1 : Int32) (p2 : Int64) (s0 : hk_St) (e0 : Unit → Option (Int32)) : Nat → Int32 → Option (Int32)
  | 0 => fun _ => none
  | n + 1 => xActs_canSlip_L3b th p1 p2 s0 e0 (xActs_canSlip_L3 th p1 p2 s0 e0 n)
def xActs_canSlip (th : Nat) (p1 : Int32) (p2 : Int64) (s0 : hk_St) : Option (Int32) :=
  xActs_canSlip_L3 th p1 p2 s0  (fun (_ : Unit) =>
    some (0 : Int32)) hk_F (0 : Int32) 
abbrev N_xActs_canSlip (l : Launch) : hk_N := (l, cX2_canSlip, "HeadReckons$Acts", 5, (some .boolean), 2, 45, false)
set_option maxHeartbeats 4000000 in
theorem wk_xActs_canSlip_L3b {l : Launch} {Gd : hk_G} {th : Nat} {p1 : Int32} {p2 : Int64} {s0 : hk_St} {r : Int32} {e0 : Unit → Option (Int32)} {rc : Int32 → Option (Int32)} (hrc : ∀ (v1 : Int32), rc v1 = some r → hk_V Gd (N_xActs_canSlip l) (hk_end Gd s0 (some (.int r)) s0) 3 [(0, .ref th), (1, .int p1), (2, .long p2), (4, .int v1)] [] s0) (he0 : ∀ (_ : Unit), e0 () = some r → hk_V Gd (N_xActs_canSlip l) (hk_end Gd s0 (some (.int r)) s0) 33 [] [] s0) {v1 : Int32} (h : xActs_canSlip_L3b th p1 p2 s0 e0 rc v1 = some r) : hk_V Gd (N_xActs_canSlip l) (hk_end Gd s0 (some (.int r)) s0) 3 [(0, .ref th), (1, .int p1), (2, .long p2), (4, .int v1)] [] s0 := by
  unfold xActs_canSlip_L3b at h
  refine hv_iload 3 dX2_canSlip_3 rfl ?_
  refine hv_aload_n 0 dX2_canSlip_5 rfl rfl ?_
  refine hv_iload_n 1 dX2_canSlip_6 rfl rfl ?_
  obtain ⟨x2, e_x2, h⟩ := hq_ob h
  obtain ⟨g3, h⟩ := hq_gd h
  refine hv_callV [.int p1] [.int v1] [.int x2, .int v1] (wk_xActs_slipWays e_x2) cs_X2_133 g3 rfl ⟨Nat.le_of_ble_eq_true rfl, Nat.le_of_ble_eq_true rfl⟩ rfl (Nat.le_of_ble_eq_true rfl) rfl dX2_canSlip_7 ?_
  refine hv_icmp_ge (tgt := 33) dX2_canSlip_10 (by decide) (fun c4 => ?_) (fun c4 => ?_)
  · replace h := hq_ip c4 h
    refine hv_sub [] rfl ?_
    exact he0 () h
  · replace h := hq_in c4 h
    refine hv_aload_n 0 dX2_canSlip_13 rfl rfl ?_
    refine hv_iload_n 1 dX2_canSlip_14 rfl rfl ?_
    refine hv_iload 3 dX2_canSlip_15 rfl ?_
    obtain ⟨x5, e_x5, h⟩ := hq_ob h
    obtain ⟨g6, h⟩ := hq_gd h
    refine hv_callV [.int p1, .int v1] [] [.long x5] (wk_xActs_slip e_x5) cs_X2_137 g6 rfl ⟨Nat.le_of_ble_eq_true rfl, Nat.le_of_ble_eq_true rfl⟩ rfl (Nat.le_of_ble_eq_true rfl) rfl dX2_canSlip_17 ?_
    refine hv_lload_n 2 dX2_canSlip_20 rfl rfl ?_
    refine hv_lcmp_ne (tgt := 27) dX2_canSlip_21 dX2_canSlip_22 (by decide) (fun c7 => ?_) (fun c7 => ?_)
    · replace h := hq_in c7 h
      obtain ⟨x8, e_x8, h⟩ := hq_nm h
      refine hv_iinc (v := x8) (L' := [(4, .int x8), (0, .ref th), (1, .int p1), (2, .long p2)]) 3 dX2_canSlip_27 rfl (by rw [e_x8]; rfl) (Nat.le_of_ble_eq_true rfl) rfl ?_
      refine hv_goto (tgt := 3) dX2_canSlip_30 (by decide) ?_
      refine hv_sub [1, 2, 3, 0] rfl ?_
      exact hrc _ h
    · replace h := hq_ip c7 h
      refine hv_iconst (v := 1) dX2_canSlip_25 (by decide) ?_
      have h := Option.some.inj h
      subst h
      exact hv_zret (ty := .boolean) rfl rfl dX2_canSlip_26
theorem wk_xActs_canSlip_L3 {l : Launch} {Gd : hk_G} {th : Nat} {p1 : Int32} {p2 : Int64} {s0 : hk_St} {r : Int32} {e0 : Unit → Option (Int32)} (he0 : ∀ (_ : Unit), e0 () = some r → hk_V Gd (N_xActs_canSlip l) (hk_end Gd s0 (some (.int r)) s0) 33 [] [] s0) : ∀ (n : Nat) (v1 : Int32), xActs_canSlip_L3 th p1 p2 s0 e0 n v1 = some r → hk_V Gd (N_xActs_canSlip l) (hk_end Gd s0 (some (.int r)) s0) 3 [(0, .ref th), (1, .int p1), (2, .long p2), (4, .int v1)] [] s0 := by
  intro n
  induction n with
  | zero => intro v1 h; cases h
  | succ n ih => intro v1 h; exact wk_xActs_canSlip_L3b  ih he0 h
set_option maxHeartbeats 4000000 in
theorem wk_xActs_canSlip {l : Launch} {Gd : hk_G} {th : Nat} {p1 : Int32} {p2 : Int64} {s0 : hk_St} {r : Int32} (h : xActs_canSlip th p1 p2 s0 = some r) : hk_Met Gd l yX2_canSlip cX2_canSlip 5 (some .boolean) 2 45 [.ref th, .int p1, .long p2] s0 (some (.int r)) s0 := by
  refine hk_start "HeadReckons$Acts" false (by decide +kernel) rfl (by decide) (Nat.le_of_ble_eq_true rfl) ?_
  show hk_V Gd (N_xActs_canSlip l) (hk_end Gd s0 (some (.int r)) s0) 0 [(0, .ref th), (1, .int p1), (2, .long p2)] [] s0
  unfold xActs_canSlip at h
  refine hv_iconst (v := 0) dX2_canSlip_0 (by decide) ?_
  refine hv_istore (L' := [(4, .int (0 : Int32)), (0, .ref th), (1, .int p1), (2, .long p2)]) dX2_canSlip_1 (Nat.le_of_ble_eq_true rfl) rfl ?_
  refine hv_sub [1, 2, 3, 0] rfl ?_
  refine wk_xActs_canSlip_L3  ?_ hk_F _ h
  · intro _ h
    refine hv_iconst (v := 0) dX2_canSlip_33 (by decide) ?_
    have h := Option.some.inj h
    subst h
    exact hv_zret (ty := .boolean) rfl rfl dX2_canSlip_34
