set_option maxRecDepth 100000
def xReader_lines_L7b (th : Nat) (v3 : Option Nat) (e0 : hk_St → Option (Option Nat × hk_St)) (rc : (Option Nat) → hk_St → Option (Option Nat × hk_St)) (v4 : Option Nat) (s5 : hk_St) : Option (Option Nat × hk_St) :=
  (hk_gI [6] 601 s5 th).bind fun x7 =>
  if 0 ≤ x7 then
    e0 s5
  else
  (xReader_here th s5).bind fun x9 =>
  hk_gd (hk_bf [6] s5 th) <|
  if x9 = (59 : Int32) then
    (hk_gI [6] 600 s5 th).bind fun x12 =>
  (hk_pI [6] 600 s5 th (x12 + (1 : Int32))).bind fun s13 =>
  (xReader_line th s13).bind fun q14 =>
  hk_gd (hk_bf [6] s13 th) <|
  hk_nn v4 fun a16 =>
  (hk_pR [7] 702 q14.2 a16 q14.1).bind fun s17 =>
  (hk_gR [7] 702 s17 a16).bind fun x18 =>
  rc x18 s17
  else
  e0 s5
def xReader_lines_L7 (th : Nat) (v3 : Option Nat) (e0 : hk_St → Option (Option Nat × hk_St)) : Nat → (Option Nat) → hk_St → Option (Option Nat × hk_St)
  | 0 => fun _ _ => none
  | n + 1 => xReader_lines_L7b th v3 e0 (xReader_lines_L7 th v3 e0 n)
def xReader_lines (th : Nat) (s0 : hk_St) : Option (Option Nat × hk_St) :=
  (xReader_line th s0).bind fun q1 =>
  hk_gd (hk_bf [6] s0 th) <|
  xReader_lines_L7 th q1.1 (fun (s6 : hk_St) =>
    (hk_gI [6] 601 s6 th).bind fun x19 =>
    if 0 ≤ x19 then
      some (q1.1, s6)
    else
    (hk_gI [6] 600 s6 th).bind fun x21 =>
    (hk_gR [6] 603 s6 th).bind fun x22 =>
    hk_nn x22 fun a23 =>
    (hk_gI [0] 1 s6 a23).bind fun x24 =>
    if x24 ≤ x21 then
      some (q1.1, s6)
    else
    (hk_gI [6] 600 s6 th).bind fun x26 =>
    (hk_pI [6] 601 s6 th x26).bind fun s27 =>
    some (q1.1, s27)) hk_F q1.1 q1.2
abbrev N_xReader_lines (l : Launch) : hk_N := (l, cX6_lines, "HeadReckons$Reader", 3, (some (.object "HeadReckons$Line")), 102, 5142, false)
set_option maxHeartbeats 4000000 in
theorem wk_xReader_lines_L7b {l : Launch} {Gd : hk_G} {th : Nat} {s0 : hk_St} {r : Option Nat} {fin : hk_St} {v3 : Option Nat} {e0 : hk_St → Option (Option Nat × hk_St)} {rc : (Option Nat) → hk_St → Option (Option Nat × hk_St)} (hrc : ∀ (v4 : Option Nat) (s5 : hk_St), rc v4 s5 = some (r, fin) → hk_V Gd (N_xReader_lines l) (hk_end Gd s0 (some (va_rf r)) fin) 7 [(0, .ref th), (1, va_rf v3), (2, va_rf v4)] [] s5) (he0 : ∀ (s6 : hk_St), e0 s6 = some (r, fin) → hk_V Gd (N_xReader_lines l) (hk_end Gd s0 (some (va_rf r)) fin) 49 [(0, .ref th), (1, va_rf v3)] [] s6) {v4 : Option Nat} {s5 : hk_St} (h : xReader_lines_L7b th v3 e0 rc v4 s5 = some (r, fin)) : hk_V Gd (N_xReader_lines l) (hk_end Gd s0 (some (va_rf r)) fin) 7 [(0, .ref th), (1, va_rf v3), (2, va_rf v4)] [] s5 := by
  unfold xReader_lines_L7b at h
  refine hv_aload_n 0 dX6_lines_7 rfl rfl ?_
  obtain ⟨x7, e_x7, h⟩ := hq_ob h
  refine hv_getI fl_X6_15 e_x7 dX6_lines_8 ?_
  refine hv_if_ge (tgt := 49) dX6_lines_11 (by decide) (fun c8 => ?_) (fun c8 => ?_)
  · replace h := hq_ip c8 h
    refine hv_sub [0, 1] rfl ?_
    exact he0 _ h
  · replace h := hq_in c8 h
    refine hv_aload_n 0 dX6_lines_14 rfl rfl ?_
    obtain ⟨x9, e_x9, h⟩ := hq_ob h
    obtain ⟨g10, h⟩ := hq_gd h
    refine hv_callV [] [] [.int x9] (wk_xReader_here e_x9) cs_X6_29 g10 rfl ⟨Nat.le_of_ble_eq_true rfl, Nat.le_of_ble_eq_true rfl⟩ rfl (Nat.le_of_ble_eq_true rfl) rfl dX6_lines_15 ?_
    refine hv_bipush (v := 59) dX6_lines_18 (by decide) ?_
    refine hv_icmp_ne (tgt := 49) dX6_lines_20 (by decide) (fun c11 => ?_) (fun c11 => ?_)
    · replace h := hq_in c11 h
      refine hv_sub [0, 1] rfl ?_
      exact he0 _ h
    · replace h := hq_ip c11 h
      refine hv_aload_n 0 dX6_lines_23 rfl rfl ?_
      refine hv_dup dX6_lines_24 rfl ?_
      obtain ⟨x12, e_x12, h⟩ := hq_ob h
      refine hv_getI fl_X6_19 e_x12 dX6_lines_25 ?_
      refine hv_iconst (v := 1) dX6_lines_28 (by decide) ?_
      refine hv_iadd dX6_lines_29 ?_
      obtain ⟨s13, e_s13, h⟩ := hq_ob h
      refine hv_putI fp_X6_19 e_s13 (fun q => by cases q) dX6_lines_30 ?_
      refine hv_aload_nq 2 dX6_lines_33 rfl rfl ?_
      refine hv_aload_n 0 dX6_lines_34 rfl rfl ?_
      obtain ⟨q14, e_q14, h⟩ := hq_ob h
      obtain ⟨g15, h⟩ := hq_gd h
      refine hv_callV [] [va_rf v4] [va_rf q14.1, va_rf v4] (wk_xReader_line e_q14) cs_X6_39 g15 rfl ⟨Nat.le_of_ble_eq_true rfl, Nat.le_of_ble_eq_true rfl⟩ rfl (by simp only [List.map, hk_cat]; exact Nat.le_of_ble_eq_true rfl) rfl dX6_lines_35 ?_
      obtain ⟨a16, e_a16, h⟩ := hq_nn h
      rw [e_a16]
      obtain ⟨s17, e_s17, h⟩ := hq_ob h
      refine hv_putR fp_X6_43 e_s17 (fun q => by cases q) dX6_lines_38 ?_
      refine hv_aload_n 2 dX6_lines_41 rfl rfl ?_
      obtain ⟨x18, e_x18, h⟩ := hq_ob h
      refine hv_getR fl_X6_43 e_x18 dX6_lines_42 ?_
      refine hv_astore_nq (L' := [(2, va_rf x18), (0, .ref th), (1, va_rf v3)]) dX6_lines_45 rfl (Nat.le_of_ble_eq_true rfl) (by simp [List.filter, hk_cat]) ?_
      refine hv_goto (tgt := 7) dX6_lines_46 (by decide) ?_
      refine hv_sub [1, 2, 0] rfl ?_
      exact hrc _ _ h
theorem wk_xReader_lines_L7 {l : Launch} {Gd : hk_G} {th : Nat} {s0 : hk_St} {r : Option Nat} {fin : hk_St} {v3 : Option Nat} {e0 : hk_St → Option (Option Nat × hk_St)} (he0 : ∀ (s6 : hk_St), e0 s6 = some (r, fin) → hk_V Gd (N_xReader_lines l) (hk_end Gd s0 (some (va_rf r)) fin) 49 [(0, .ref th), (1, va_rf v3)] [] s6) : ∀ (n : Nat) (v4 : Option Nat) (s5 : hk_St), xReader_lines_L7 th v3 e0 n v4 s5 = some (r, fin) → hk_V Gd (N_xReader_lines l) (hk_end Gd s0 (some (va_rf r)) fin) 7 [(0, .ref th), (1, va_rf v3), (2, va_rf v4)] [] s5 := by
  intro n
  induction n with
  | zero => intro v4 s5 h; cases h
  | succ n ih => intro v4 s5 h; exact wk_xReader_lines_L7b  ih he0 h
set_option maxHeartbeats 4000000 in
theorem wk_xReader_lines {l : Launch} {Gd : hk_G} {th : Nat} {s0 : hk_St} {r : Option Nat} {fin : hk_St} (h : xReader_lines th s0 = some (r, fin)) : hk_Met Gd l yX6_lines cX6_lines 3 (some (.object "HeadReckons$Line")) 102 5142 [.ref th] s0 (some (va_rf r)) fin := by
  refine hk_start "HeadReckons$Reader" false (by decide +kernel) rfl (by decide) (Nat.le_of_ble_eq_true rfl) ?_
  show hk_V Gd (N_xReader_lines l) (hk_end Gd s0 (some (va_rf r)) fin) 0 [(0, .ref th)] [] s0
  unfold xReader_lines at h
  refine hv_aload_n 0 dX6_lines_0 rfl rfl ?_
  obtain ⟨q1, e_q1, h⟩ := hq_ob h
  obtain ⟨g2, h⟩ := hq_gd h
  refine hv_callV [] [] [va_rf q1.1] (wk_xReader_line e_q1) cs_X6_39 g2 rfl ⟨Nat.le_of_ble_eq_true rfl, Nat.le_of_ble_eq_true rfl⟩ rfl (Nat.le_of_ble_eq_true rfl) rfl dX6_lines_1 ?_
  refine hv_astore_nq (L' := [(1, va_rf q1.1), (0, .ref th)]) dX6_lines_4 rfl (Nat.le_of_ble_eq_true rfl) rfl ?_
  refine hv_aload_nq 0 dX6_lines_5 rfl rfl ?_
  refine hv_astore_nq (L' := [(2, va_rf q1.1), (1, va_rf q1.1), (0, .ref th)]) dX6_lines_6 rfl (Nat.le_of_ble_eq_true rfl) (by simp [List.filter, hk_cat]) ?_
  refine hv_sub [2, 1, 0] rfl ?_
  refine wk_xReader_lines_L7  ?_ hk_F _ _ h
  · intro s6 h
    refine hv_aload_n 0 dX6_lines_49 rfl rfl ?_
    obtain ⟨x19, e_x19, h⟩ := hq_ob h
    refine hv_getI fl_X6_15 e_x19 dX6_lines_50 ?_
    refine hv_if_ge (tgt := 78) dX6_lines_53 (by decide) (fun c20 => ?_) (fun c20 => ?_)
    · replace h := hq_ip c20 h
      refine hv_aload_nq 1 dX6_lines_78 rfl rfl ?_
      obtain ⟨h1, h2⟩ := hq_ret h
      subst h1
      subst h2
      exact hv_aret rfl dX6_lines_79
    · replace h := hq_in c20 h
      refine hv_aload_n 0 dX6_lines_56 rfl rfl ?_
      obtain ⟨x21, e_x21, h⟩ := hq_ob h
      refine hv_getI fl_X6_19 e_x21 dX6_lines_57 ?_
      refine hv_aload_n 0 dX6_lines_60 rfl rfl ?_
      obtain ⟨x22, e_x22, h⟩ := hq_ob h
      refine hv_getR fl_X6_3 e_x22 dX6_lines_61 ?_
      obtain ⟨a23, e_a23, h⟩ := hq_nn h
      rw [e_a23]
      obtain ⟨x24, e_x24, h⟩ := hq_ob h
      refine hv_getI fl_X6_22 e_x24 dX6_lines_64 ?_
      refine hv_icmp_ge (tgt := 78) dX6_lines_67 (by decide) (fun c25 => ?_) (fun c25 => ?_)
      · replace h := hq_ip c25 h
        refine hv_aload_nq 1 dX6_lines_78 rfl rfl ?_
        obtain ⟨h1, h2⟩ := hq_ret h
        subst h1
        subst h2
        exact hv_aret rfl dX6_lines_79
      · replace h := hq_in c25 h
        refine hv_aload_n 0 dX6_lines_70 rfl rfl ?_
        refine hv_aload_n 0 dX6_lines_71 rfl rfl ?_
        obtain ⟨x26, e_x26, h⟩ := hq_ob h
        refine hv_getI fl_X6_19 e_x26 dX6_lines_72 ?_
        obtain ⟨s27, e_s27, h⟩ := hq_ob h
        refine hv_putI fp_X6_15 e_s27 (fun q => by cases q) dX6_lines_75 ?_
        refine hv_aload_nq 1 dX6_lines_78 rfl rfl ?_
        obtain ⟨h1, h2⟩ := hq_ret h
        subst h1
        subst h2
        exact hv_aret rfl dX6_lines_79
def x_choice (th : Nat) (s0 : hk_St) : Option (Int32 × hk_St) :=
  hk_nm (hk_nx s0) fun a1 =>
  hk_nm (hk_mk s0 6 0 4) fun s2 =>
  (xReader_init a1 th s2).bind fun s3 =>
  (xReader_lines a1 s3).bind fun q4 =>
  hk_gd (hk_bf [6] s3 a1) <|
  (hk_pI [0] 1 q4.2 th (0 : Int32)).bind fun s6 =>
  (hk_gI [6] 601 s6 a1).bind fun x7 =>
  if x7 < 0 then
    (hk_pR [0] 7 s6 th q4.1).bind fun s9 =>
    some ((1 : Int32), s9)
  else
  (hk_gI [6] 601 s6 a1).bind fun x10 =>
  some ((-100 : Int32) - x10, s6)
abbrev N_x_choice (l : Launch) : hk_N := (l, cX0_choice, "HeadReckons", 3, (some .int), 103, 5164, false)
set_option maxHeartbeats 4000000 in
theorem wk_x_choice {l : Launch} {Gd : hk_G} {th : Nat} {s0 : hk_St} {r : Int32} {fin : hk_St} (h : x_choice th s0 = some (r, fin)) : hk_Met Gd l yX0_choice cX0_choice 3 (some .int) 103 5164 [.ref th] s0 (some (.int r)) fin := by
  refine hk_start "HeadReckons" false (by decide +kernel) rfl (by decide) (Nat.le_of_ble_eq_true rfl) ?_
  show hk_V Gd (N_x_choice l) (hk_end Gd s0 (some (.int r)) fin) 0 [(0, .ref th)] [] s0
  unfold x_choice at h
  obtain ⟨a1, e_a1, h⟩ := hq_nm h
  obtain ⟨s2, e_s2, h⟩ := hq_nm h
  refine hv_new (ci := 6) (r := (RX6, TX6, 4)) rfl hk_ok6 (by decide) q388 q389 q98 dX0_choice_0 ?_
  rw [show hk_mk s0 6 0 ((RX6, TX6, 4) : vw_C).2.2 = s2 from e_s2.symm, ← e_a1]
  refine hv_dup dX0_choice_3 rfl ?_
  refine hv_aload_n 0 dX0_choice_4 rfl rfl ?_
  obtain ⟨s3, e_s3, h⟩ := hq_ob h
  refine hv_callIN [.ref th] [.ref a1] [.ref a1] (wk_xReader_init e_s3) cs_X0_120 rfl ⟨Nat.le_of_ble_eq_true rfl, Nat.le_of_ble_eq_true rfl⟩ rfl (Nat.le_of_ble_eq_true rfl) rfl dX0_choice_5 ?_
  refine hv_astore_n (L' := [(1, .ref a1), (0, .ref th)]) dX0_choice_8 rfl (Nat.le_of_ble_eq_true rfl) rfl ?_
  refine hv_aload_n 0 dX0_choice_9 rfl rfl ?_
  obtain ⟨q4, e_q4, h⟩ := hq_ob h
  obtain ⟨g5, h⟩ := hq_gd h
  refine hv_callV [] [] [va_rf q4.1] (wk_xReader_lines e_q4) cs_X0_121 g5 rfl ⟨Nat.le_of_ble_eq_true rfl, Nat.le_of_ble_eq_true rfl⟩ rfl (Nat.le_of_ble_eq_true rfl) rfl dX0_choice_10 ?_
  refine hv_astore_nq (L' := [(2, va_rf q4.1), (1, .ref a1), (0, .ref th)]) dX0_choice_13 rfl (Nat.le_of_ble_eq_true rfl) rfl ?_
  refine hv_aload_n 2 dX0_choice_14 rfl rfl ?_
  refine hv_iconst (v := 0) dX0_choice_15 (by decide) ?_
  obtain ⟨s6, e_s6, h⟩ := hq_ob h
  refine hv_putI fp_X0_77 e_s6 (fun q => by cases q) dX0_choice_16 ?_
  refine hv_aload_n 1 dX0_choice_19 rfl rfl ?_
  obtain ⟨x7, e_x7, h⟩ := hq_ob h
  refine hv_getI fl_X0_125 e_x7 dX0_choice_20 ?_
  refine hv_if_lt (tgt := 34) dX0_choice_23 (by decide) (fun c8 => ?_) (fun c8 => ?_)
  · replace h := hq_ip c8 h
    refine hv_aload_n 2 dX0_choice_34 rfl rfl ?_
    refine hv_aload_nq 0 dX0_choice_35 rfl rfl ?_
    obtain ⟨s9, e_s9, h⟩ := hq_ob h
    refine hv_putR fp_X0_128 e_s9 (fun q => by cases q) dX0_choice_36 ?_
    refine hv_iconst (v := 1) dX0_choice_39 (by decide) ?_
    obtain ⟨h1, h2⟩ := hq_ret h
    subst h1
    subst h2
    exact hv_iret rfl dX0_choice_40
  · replace h := hq_in c8 h
    refine hv_bipush (v := -100) dX0_choice_26 (by decide) ?_
    refine hv_aload_n 1 dX0_choice_28 rfl rfl ?_
    obtain ⟨x10, e_x10, h⟩ := hq_ob h
    refine hv_getI fl_X0_125 e_x10 dX0_choice_29 ?_
    refine hv_isub dX0_choice_32 ?_
    obtain ⟨h1, h2⟩ := hq_ret h
    subst h1
    subst h2
    exact hv_iret rfl dX0_choice_33
def x_isBy (th : Nat) (p1 : Int32) (s0 : hk_St) : Option (Int32) :=
  if p1 < 0 then
    some (0 : Int32)
  else
  (x_isHead th (p1 / (10 : Int32)) s0).bind fun x2 =>
  hk_gd (hk_bf [0] s0 th) <|
  if x2 = 0 then
    some (0 : Int32)
  else
  if (7 : Int32) ≤ (p1 - p1 / (10 : Int32) * (10 : Int32)) then
    some (0 : Int32)
  else
  some (1 : Int32)
abbrev N_x_isBy (l : Launch) : hk_N := (l, cX0_isBy, "HeadReckons", 2, (some .boolean), 2, 43, false)
set_option maxHeartbeats 4000000 in
theorem wk_x_isBy {l : Launch} {Gd : hk_G} {th : Nat} {p1 : Int32} {s0 : hk_St} {r : Int32} (h : x_isBy th p1 s0 = some r) : hk_Met Gd l yX0_isBy cX0_isBy 2 (some .boolean) 2 43 [.ref th, .int p1] s0 (some (.int r)) s0 := by
  refine hk_start "HeadReckons" false (by decide +kernel) rfl (by decide) (Nat.le_of_ble_eq_true rfl) ?_
  show hk_V Gd (N_x_isBy l) (hk_end Gd s0 (some (.int r)) s0) 0 [(0, .ref th), (1, .int p1)] [] s0
  unfold x_isBy at h
  refine hv_iload_n 1 dX0_isBy_0 rfl rfl ?_
  refine hv_if_lt (tgt := 28) dX0_isBy_1 (by decide) (fun c1 => ?_) (fun c1 => ?_)
  · replace h := hq_ip c1 h
    refine hv_iconst (v := 0) dX0_isBy_28 (by decide) ?_
    have h := Option.some.inj h
    subst h
    exact hv_zret (ty := .boolean) rfl rfl dX0_isBy_29
  · replace h := hq_in c1 h
    refine hv_aload_n 0 dX0_isBy_4 rfl rfl ?_
    refine hv_iload_n 1 dX0_isBy_5 rfl rfl ?_
    refine hv_bipush (v := 10) dX0_isBy_6 (by decide) ?_
    refine hv_idiv (by decide) dX0_isBy_8 ?_
    obtain ⟨x2, e_x2, h⟩ := hq_ob h
    obtain ⟨g3, h⟩ := hq_gd h
    refine hv_callV [.int (p1 / (10 : Int32))] [] [.int x2] (wk_x_isHead e_x2) cs_X0_89 g3 rfl ⟨Nat.le_of_ble_eq_true rfl, Nat.le_of_ble_eq_true rfl⟩ rfl (Nat.le_of_ble_eq_true rfl) rfl dX0_isBy_9 ?_
    refine hv_if_eq (tgt := 28) dX0_isBy_12 (by decide) (fun c4 => ?_) (fun c4 => ?_)
    · replace h := hq_ip c4 h
      refine hv_iconst (v := 0) dX0_isBy_28 (by decide) ?_
      have h := Option.some.inj h
      subst h
      exact hv_zret (ty := .boolean) rfl rfl dX0_isBy_29
    · replace h := hq_in c4 h
      refine hv_iload_n 1 dX0_isBy_15 rfl rfl ?_
      refine hv_bipush (v := 10) dX0_isBy_16 (by decide) ?_
      refine hv_irem (by decide) dX0_isBy_18 ?_
      refine hv_bipush (v := 7) dX0_isBy_19 (by decide) ?_
      refine hv_icmp_ge (tgt := 28) dX0_isBy_21 (by decide) (fun c5 => ?_) (fun c5 => ?_)
      · replace h := hq_ip c5 h
        refine hv_iconst (v := 0) dX0_isBy_28 (by decide) ?_
        have h := Option.some.inj h
        subst h
        exact hv_zret (ty := .boolean) rfl rfl dX0_isBy_29
      · replace h := hq_in c5 h
        refine hv_iconst (v := 1) dX0_isBy_24 (by decide) ?_
        refine hv_goto (tgt := 29) dX0_isBy_25 (by decide) ?_
        have h := Option.some.inj h
        subst h
        exact hv_zret (ty := .boolean) rfl rfl dX0_isBy_29
def x_isPair (p1 : Int32) : Int32 :=
  if p1 < 0 then
    (0 : Int32)
  else
  if (x_in (p1 / (10000 : Int32)) (1 : Int32) (9999 : Int32)) = 0 then
    (0 : Int32)
  else
  if (p1 - p1 / (10000 : Int32) * (10000 : Int32)) ≤ 0 then
    (0 : Int32)
  else
  (1 : Int32)
theorem bz_x_isPair {p1 : Int32} : x_isPair p1 &&& 1 = x_isPair p1 := by
  unfold x_isPair
  try unfold hk_nm
  repeat' split
  all_goals first | rfl | exact bz_x_in
abbrev N_x_isPair (l : Launch) : hk_N := (l, cX0_isPair, "HeadReckons", 1, (some .boolean), 1, 22, false)
set_option maxHeartbeats 4000000 in
theorem wk_x_isPair {l : Launch} {Gd : hk_G} {st : hk_St} {p1 : Int32} {r : Int32} (h : x_isPair p1 = r) : hk_Met Gd l yX0_isPair cX0_isPair 1 (some .boolean) 1 22 [.int p1] st (some (.int r)) st := by
  refine hk_start "HeadReckons" false (by decide +kernel) rfl (by decide) (Nat.le_of_ble_eq_true rfl) ?_
  show hk_V Gd (N_x_isPair l) (hk_end Gd st (some (.int r)) st) 0 [(0, .int p1)] [] st
  unfold x_isPair at h
  refine hv_iload_n 0 dX0_isPair_0 rfl rfl ?_
  refine hv_if_lt (tgt := 31) dX0_isPair_1 (by decide) (fun c1 => ?_) (fun c1 => ?_)
  · replace h := hq_ip c1 h
    refine hv_iconst (v := 0) dX0_isPair_31 (by decide) ?_
    subst h
    exact hv_zret (ty := .boolean) rfl rfl dX0_isPair_32
  · replace h := hq_in c1 h
    refine hv_iload_n 0 dX0_isPair_4 rfl rfl ?_
    refine hv_sipush (v := 10000) dX0_isPair_5 (by decide) ?_
    refine hv_idiv (by decide) dX0_isPair_8 ?_
    refine hv_iconst (v := 1) dX0_isPair_9 (by decide) ?_
    refine hv_sipush (v := 9999) dX0_isPair_10 (by decide) ?_
    refine hv_callS [.int (p1 / (10000 : Int32)), .int (1 : Int32), .int (9999 : Int32)] [] [.int (x_in (p1 / (10000 : Int32)) (1 : Int32) (9999 : Int32))] (wk_x_in rfl) cs_X0_73 rfl ⟨Nat.le_of_ble_eq_true rfl, Nat.le_of_ble_eq_true rfl⟩ rfl (Nat.le_of_ble_eq_true rfl) rfl dX0_isPair_13 ?_
    refine hv_if_eq (tgt := 31) dX0_isPair_16 (by decide) (fun c2 => ?_) (fun c2 => ?_)
    · replace h := hq_ip c2 h
      refine hv_iconst (v := 0) dX0_isPair_31 (by decide) ?_
      subst h
      exact hv_zret (ty := .boolean) rfl rfl dX0_isPair_32
    · replace h := hq_in c2 h
      refine hv_iload_n 0 dX0_isPair_19 rfl rfl ?_
      refine hv_sipush (v := 10000) dX0_isPair_20 (by decide) ?_
      refine hv_irem (by decide) dX0_isPair_23 ?_
      refine hv_if_le (tgt := 31) dX0_isPair_24 (by decide) (fun c3 => ?_) (fun c3 => ?_)
      · replace h := hq_ip c3 h
        refine hv_iconst (v := 0) dX0_isPair_31 (by decide) ?_
        subst h
        exact hv_zret (ty := .boolean) rfl rfl dX0_isPair_32
      · replace h := hq_in c3 h
        refine hv_iconst (v := 1) dX0_isPair_27 (by decide) ?_
        refine hv_goto (tgt := 32) dX0_isPair_28 (by decide) ?_
        subst h
        exact hv_zret (ty := .boolean) rfl rfl dX0_isPair_32
def xActs_begin (th : Nat) (s0 : hk_St) : Option hk_St :=
  (hk_pL [2] 210 s0 th (0 : Int64)).bind fun s1 =>
  (hk_pI [2] 212 s1 th (1 : Int32)).bind fun s2 =>
  some s2
abbrev N_xActs_begin (l : Launch) : hk_N := (l, cX2_begin, "HeadReckons$Acts", 1, none, 0, 0, false)
set_option maxHeartbeats 4000000 in
theorem wk_xActs_begin {l : Launch} {Gd : hk_G} {th : Nat} {s0 : hk_St} {fin : hk_St} (h : xActs_begin th s0 = some fin) : hk_Met Gd l yX2_begin cX2_begin 1 none 0 0 [.ref th] s0 none fin := by
  refine hk_start "HeadReckons$Acts" false (by decide +kernel) rfl (by decide) (Nat.le_of_ble_eq_true rfl) ?_
  show hk_V Gd (N_xActs_begin l) (hk_end Gd s0 none fin) 0 [(0, .ref th)] [] s0
  unfold xActs_begin at h
  refine hv_aload_n 0 dX2_begin_0 rfl rfl ?_
  refine hv_lconst (v := 0) dX2_begin_1 (by decide) ?_
  obtain ⟨s1, e_s1, h⟩ := hq_ob h
  refine hv_putL fp_X2_89 e_s1 (fun q => by cases q) dX2_begin_2 ?_
  refine hv_aload_n 0 dX2_begin_5 rfl rfl ?_
  refine hv_iconst (v := 1) dX2_begin_6 (by decide) ?_
  obtain ⟨s2, e_s2, h⟩ := hq_ob h
  refine hv_putZ fp_X2_92 e_s2 (fun q => by cases q) ⟨rfl, rfl⟩ dX2_begin_7 ?_
  have h := Option.some.inj h
  subst h
  exact hv_vret rfl dX2_begin_10
def xLearnt_is (th : Nat) (p1 : Int32) (p2 : Int32) (s0 : hk_St) : Option (Int32) :=
  hk_nm (fun (_ : Unit) =>
    (hk_gI [14] 1400 s0 th).bind fun x1 =>
    if x1 = p2 then
      (hk_gI [14] 1401 s0 th).bind fun x3 =>
    if x3 = p1 then
      some (1 : Int32)
    else
    some (0 : Int32)
    else
    some (0 : Int32)) fun k16 =>
  (hk_gI [14] 1400 s0 th).bind fun x5 =>
  if x5 = p1 then
    (hk_gI [14] 1401 s0 th).bind fun x7 =>
  if x7 = p2 then
    some (1 : Int32)
  else
  k16 ()
  else
  k16 ()
abbrev N_xLearnt_is (l : Launch) : hk_N := (l, cX15_is, "HeadReckons$Learnt", 3, (some .boolean), 0, 0, false)
set_option maxHeartbeats 4000000 in
theorem wk_xLearnt_is {l : Launch} {Gd : hk_G} {th : Nat} {p1 : Int32} {p2 : Int32} {s0 : hk_St} {r : Int32} (h : xLearnt_is th p1 p2 s0 = some r) : hk_Met Gd l yX15_is cX15_is 3 (some .boolean) 0 0 [.ref th, .int p1, .int p2] s0 (some (.int r)) s0 := by
  refine hk_start "HeadReckons$Learnt" false (by decide +kernel) rfl (by decide) (Nat.le_of_ble_eq_true rfl) ?_
  show hk_V Gd (N_xLearnt_is l) (hk_end Gd s0 (some (.int r)) s0) 0 [(0, .ref th), (1, .int p1), (2, .int p2)] [] s0
  unfold xLearnt_is at h
  obtain ⟨k16, e_k16, h⟩ := hq_nm h
  have wk16 : ∀ (_ : Unit), k16 () = some r → hk_V Gd (N_xLearnt_is l) (hk_end Gd s0 (some (.int r)) s0) 16 [(0, .ref th), (1, .int p1), (2, .int p2)] [] s0 := by
    intro _ h
    rw [e_k16] at h
    refine hv_aload_n 0 dX15_is_16 rfl rfl ?_
    obtain ⟨x1, e_x1, h⟩ := hq_ob h
    refine hv_getI fl_X15_7 e_x1 dX15_is_17 ?_
    refine hv_iload_n 2 dX15_is_20 rfl rfl ?_
    refine hv_icmp_ne (tgt := 36) dX15_is_21 (by decide) (fun c2 => ?_) (fun c2 => ?_)
    · replace h := hq_in c2 h
      refine hv_iconst (v := 0) dX15_is_36 (by decide) ?_
      have h := Option.some.inj h
      subst h
      exact hv_zret (ty := .boolean) rfl rfl dX15_is_37
    · replace h := hq_ip c2 h
      refine hv_aload_n 0 dX15_is_24 rfl rfl ?_
      obtain ⟨x3, e_x3, h⟩ := hq_ob h
      refine hv_getI fl_X15_13 e_x3 dX15_is_25 ?_
      refine hv_iload_n 1 dX15_is_28 rfl rfl ?_
      refine hv_icmp_ne (tgt := 36) dX15_is_29 (by decide) (fun c4 => ?_) (fun c4 => ?_)
      · replace h := hq_in c4 h
        refine hv_iconst (v := 0) dX15_is_36 (by decide) ?_
        have h := Option.some.inj h
        subst h
        exact hv_zret (ty := .boolean) rfl rfl dX15_is_37
      · replace h := hq_ip c4 h
        refine hv_iconst (v := 1) dX15_is_32 (by decide) ?_
        refine hv_goto (tgt := 37) dX15_is_33 (by decide) ?_
        have h := Option.some.inj h
        subst h
        exact hv_zret (ty := .boolean) rfl rfl dX15_is_37
  clear e_k16
  refine hv_aload_n 0 dX15_is_0 rfl rfl ?_
  obtain ⟨x5, e_x5, h⟩ := hq_ob h
  refine hv_getI fl_X15_7 e_x5 dX15_is_1 ?_
  refine hv_iload_n 1 dX15_is_4 rfl rfl ?_
  refine hv_icmp_ne (tgt := 16) dX15_is_5 (by decide) (fun c6 => ?_) (fun c6 => ?_)
  · replace h := hq_in c6 h
    exact wk16 () h
  · replace h := hq_ip c6 h
    refine hv_aload_n 0 dX15_is_8 rfl rfl ?_
    obtain ⟨x7, e_x7, h⟩ := hq_ob h
    refine hv_getI fl_X15_13 e_x7 dX15_is_9 ?_
    refine hv_iload_n 2 dX15_is_12 rfl rfl ?_
    refine hv_icmp_eq (tgt := 32) dX15_is_13 (by decide) (fun c8 => ?_) (fun c8 => ?_)
    · replace h := hq_ip c8 h
      refine hv_iconst (v := 1) dX15_is_32 (by decide) ?_
      refine hv_goto (tgt := 37) dX15_is_33 (by decide) ?_
      have h := Option.some.inj h
      subst h
      exact hv_zret (ty := .boolean) rfl rfl dX15_is_37
    · replace h := hq_in c8 h
      exact wk16 () h
def xHead_find_L2b (th : Nat) (p1 : Int32) (p2 : Int32) (s0 : hk_St) (e0 : Unit → Option (Option Nat)) (rc : Int32 → Option (Option Nat)) (v1 : Int32) : Option (Option Nat) :=
  (hk_gI [3] 302 s0 th).bind fun x2 =>
  if x2 ≤ v1 then
    e0 ()
  else
  (hk_gR [3] 301 s0 th).bind fun x4 =>
  hk_nn x4 fun a5 =>
  (hk_lR 5 s0 a5 v1).bind fun x6 =>
  hk_nn x6 fun a7 =>
  (xLearnt_is a7 p1 p2 s0).bind fun x8 =>
  hk_gd (hk_bf [14] s0 a7) <|
  if x8 = 0 then
    hk_nm (v1 + (1 : Int32)) fun x11 =>
    rc x11
  else
  (hk_gR [3] 301 s0 th).bind fun x12 =>
  hk_nn x12 fun a13 =>
  (hk_lR 5 s0 a13 v1).bind fun x14 =>
  some x14
def xHead_find_L2 (th : Nat) (p1 : Int32) (p2 : Int32) (s0 : hk_St) (e0 : Unit → Option (Option Nat)) : Nat → Int32 → Option (Option Nat)
  | 0 => fun _ => none
  | n + 1 => xHead_find_L2b th p1 p2 s0 e0 (xHead_find_L2 th p1 p2 s0 e0 n)
def xHead_find (th : Nat) (p1 : Int32) (p2 : Int32) (s0 : hk_St) : Option (Option Nat) :=
  xHead_find_L2 th p1 p2 s0  (fun (_ : Unit) =>
    some none) hk_F (0 : Int32) 
abbrev N_xHead_find (l : Launch) : hk_N := (l, cX3_find, "HeadReckons$Head", 4, (some (.object "HeadReckons$Learnt")), 1, 22, false)
set_option maxHeartbeats 4000000 in
theorem wk_xHead_find_L2b {l : Launch} {Gd : hk_G} {th : Nat} {p1 : Int32} {p2 : Int32} {s0 : hk_St} {r : Option Nat} {e0 : Unit → Option (Option Nat)} {rc : Int32 → Option (Option Nat)} (hrc : ∀ (v1 : Int32), rc v1 = some r → hk_V Gd (N_xHead_find l) (hk_end Gd s0 (some (va_rf r)) s0) 2 [(0, .ref th), (1, .int p1), (2, .int p2), (3, .int v1)] [] s0) (he0 : ∀ (_ : Unit), e0 () = some r → hk_V Gd (N_xHead_find l) (hk_end Gd s0 (some (va_rf r)) s0) 37 [] [] s0) {v1 : Int32} (h : xHead_find_L2b th p1 p2 s0 e0 rc v1 = some r) : hk_V Gd (N_xHead_find l) (hk_end Gd s0 (some (va_rf r)) s0) 2 [(0, .ref th), (1, .int p1), (2, .int p2), (3, .int v1)] [] s0 := by
  unfold xHead_find_L2b at h
  refine hv_iload_n 3 dX3_find_2 rfl rfl ?_
  refine hv_aload_n 0 dX3_find_3 rfl rfl ?_
  obtain ⟨x2, e_x2, h⟩ := hq_ob h
  refine hv_getI fl_X3_21 e_x2 dX3_find_4 ?_
  refine hv_icmp_ge (tgt := 37) dX3_find_7 (by decide) (fun c3 => ?_) (fun c3 => ?_)
  · replace h := hq_ip c3 h
    refine hv_sub [] rfl ?_
    exact he0 () h
  · replace h := hq_in c3 h
    refine hv_aload_n 0 dX3_find_10 rfl rfl ?_
    obtain ⟨x4, e_x4, h⟩ := hq_ob h
    refine hv_getR fl_X3_17 e_x4 dX3_find_11 ?_
    refine hv_iload_n 3 dX3_find_14 rfl rfl ?_
    obtain ⟨a5, e_a5, h⟩ := hq_nn h
    rw [e_a5]
    obtain ⟨x6, e_x6, h⟩ := hq_ob h
    refine hv_aald (by decide) (by decide) rfl e_x6 dX3_find_15 ?_
    refine hv_iload_n 1 dX3_find_16 rfl rfl ?_
    refine hv_iload_n 2 dX3_find_17 rfl rfl ?_
    obtain ⟨a7, e_a7, h⟩ := hq_nn h
    rw [e_a7]
    obtain ⟨x8, e_x8, h⟩ := hq_ob h
    obtain ⟨g9, h⟩ := hq_gd h
    refine hv_callV [.int p1, .int p2] [] [.int x8] (wk_xLearnt_is e_x8) cs_X3_25 g9 rfl ⟨Nat.le_of_ble_eq_true rfl, Nat.le_of_ble_eq_true rfl⟩ rfl (Nat.le_of_ble_eq_true rfl) rfl dX3_find_18 ?_
    refine hv_if_eq (tgt := 31) dX3_find_21 (by decide) (fun c10 => ?_) (fun c10 => ?_)
    · replace h := hq_ip c10 h
      obtain ⟨x11, e_x11, h⟩ := hq_nm h
      refine hv_iinc (v := x11) (L' := [(3, .int x11), (0, .ref th), (1, .int p1), (2, .int p2)]) 3 dX3_find_31 rfl (by rw [e_x11]; rfl) (Nat.le_of_ble_eq_true rfl) rfl ?_
      refine hv_goto (tgt := 2) dX3_find_34 (by decide) ?_
      refine hv_sub [1, 2, 3, 0] rfl ?_
      exact hrc _ h
    · replace h := hq_in c10 h
      refine hv_aload_n 0 dX3_find_24 rfl rfl ?_
      obtain ⟨x12, e_x12, h⟩ := hq_ob h
      refine hv_getR fl_X3_17 e_x12 dX3_find_25 ?_
      refine hv_iload_n 3 dX3_find_28 rfl rfl ?_
      obtain ⟨a13, e_a13, h⟩ := hq_nn h
      rw [e_a13]
      obtain ⟨x14, e_x14, h⟩ := hq_ob h
      refine hv_aald (by decide) (by decide) rfl e_x14 dX3_find_29 ?_
      have h := Option.some.inj h
      subst h
      exact hv_aret rfl dX3_find_30
theorem wk_xHead_find_L2 {l : Launch} {Gd : hk_G} {th : Nat} {p1 : Int32} {p2 : Int32} {s0 : hk_St} {r : Option Nat} {e0 : Unit → Option (Option Nat)} (he0 : ∀ (_ : Unit), e0 () = some r → hk_V Gd (N_xHead_find l) (hk_end Gd s0 (some (va_rf r)) s0) 37 [] [] s0) : ∀ (n : Nat) (v1 : Int32), xHead_find_L2 th p1 p2 s0 e0 n v1 = some r → hk_V Gd (N_xHead_find l) (hk_end Gd s0 (some (va_rf r)) s0) 2 [(0, .ref th), (1, .int p1), (2, .int p2), (3, .int v1)] [] s0 := by
  intro n
  induction n with
  | zero => intro v1 h; cases h
  | succ n ih => intro v1 h; exact wk_xHead_find_L2b  ih he0 h
set_option maxHeartbeats 4000000 in
theorem wk_xHead_find {l : Launch} {Gd : hk_G} {th : Nat} {p1 : Int32} {p2 : Int32} {s0 : hk_St} {r : Option Nat} (h : xHead_find th p1 p2 s0 = some r) : hk_Met Gd l yX3_find cX3_find 4 (some (.object "HeadReckons$Learnt")) 1 22 [.ref th, .int p1, .int p2] s0 (some (va_rf r)) s0 := by
  refine hk_start "HeadReckons$Head" false (by decide +kernel) rfl (by decide) (Nat.le_of_ble_eq_true rfl) ?_
  show hk_V Gd (N_xHead_find l) (hk_end Gd s0 (some (va_rf r)) s0) 0 [(0, .ref th), (1, .int p1), (2, .int p2)] [] s0
  unfold xHead_find at h
  refine hv_iconst (v := 0) dX3_find_0 (by decide) ?_
  refine hv_istore_n (L' := [(3, .int (0 : Int32)), (0, .ref th), (1, .int p1), (2, .int p2)]) dX3_find_1 rfl (Nat.le_of_ble_eq_true rfl) rfl ?_
  refine hv_sub [1, 2, 3, 0] rfl ?_
  refine wk_xHead_find_L2  ?_ hk_F _ h
  · intro _ h
    refine hv_null dX3_find_37 ?_
    have h := Option.some.inj h
    subst h
    exact hv_aret rfl dX3_find_38
def xHead_knows (th : Nat) (p1 : Int32) (p2 : Int32) (s0 : hk_St) : Option (Int32) :=
  hk_nm (fun (_ : Unit) =>
    (xHead_find th p1 p2 s0).bind fun x1 =>
    hk_gd (hk_bf [3] s0 th) <|
    hk_oc x1 (some (0 : Int32)) fun a3 =>
    (hk_gI [14] 1402 s0 a3).bind fun x4 =>
    if x4 < (3 : Int32) then
      some (0 : Int32)
    else
    some (1 : Int32)) fun k22 =>
  (hk_gR [3] 300 s0 th).bind fun x7 =>
  hk_nn x7 fun a8 =>
  (hk_lI 0 s0 a8 (3 : Int32)).bind fun x9 =>
  if x9 < p1 then
    k22 ()
  else
  (hk_gR [3] 300 s0 th).bind fun x11 =>
  hk_nn x11 fun a12 =>
  (hk_lI 0 s0 a12 (3 : Int32)).bind fun x13 =>
  if x13 < p2 then
    k22 ()
  else
  some (1 : Int32)
abbrev N_xHead_knows (l : Launch) : hk_N := (l, cX3_knows, "HeadReckons$Head", 4, (some .boolean), 2, 45, false)
set_option maxHeartbeats 4000000 in
theorem wk_xHead_knows {l : Launch} {Gd : hk_G} {th : Nat} {p1 : Int32} {p2 : Int32} {s0 : hk_St} {r : Int32} (h : xHead_knows th p1 p2 s0 = some r) : hk_Met Gd l yX3_knows cX3_knows 4 (some .boolean) 2 45 [.ref th, .int p1, .int p2] s0 (some (.int r)) s0 := by
  refine hk_start "HeadReckons$Head" false (by decide +kernel) rfl (by decide) (Nat.le_of_ble_eq_true rfl) ?_
  show hk_V Gd (N_xHead_knows l) (hk_end Gd s0 (some (.int r)) s0) 0 [(0, .ref th), (1, .int p1), (2, .int p2)] [] s0
  unfold xHead_knows at h
  obtain ⟨k22, e_k22, h⟩ := hq_nm h
  have wk22 : ∀ (_ : Unit), k22 () = some r → hk_V Gd (N_xHead_knows l) (hk_end Gd s0 (some (.int r)) s0) 22 [(0, .ref th), (1, .int p1), (2, .int p2)] [] s0 := by
    intro _ h
    rw [e_k22] at h
    refine hv_aload_n 0 dX3_knows_22 rfl rfl ?_
    refine hv_iload_n 1 dX3_knows_23 rfl rfl ?_
    refine hv_iload_n 2 dX3_knows_24 rfl rfl ?_
    obtain ⟨x1, e_x1, h⟩ := hq_ob h
    obtain ⟨g2, h⟩ := hq_gd h
    refine hv_callV [.int p1, .int p2] [] [va_rf x1] (wk_xHead_find e_x1) cs_X3_29 g2 rfl ⟨Nat.le_of_ble_eq_true rfl, Nat.le_of_ble_eq_true rfl⟩ rfl (Nat.le_of_ble_eq_true rfl) rfl dX3_knows_25 ?_
    refine hv_astore_nq (L' := [(3, va_rf x1), (0, .ref th), (1, .int p1), (2, .int p2)]) dX3_knows_28 rfl (Nat.le_of_ble_eq_true rfl) rfl ?_
    refine hv_aload_nq 0 dX3_knows_29 rfl rfl ?_
    refine hv_ifnull (tgt := 45) dX3_knows_30 (by decide) (fun e6 => ?_) (fun a3 e6 => ?_)
    · rw [e6] at h
      try rw [e6]
      refine hv_iconst (v := 0) dX3_knows_45 (by decide) ?_
      have h := Option.some.inj h
      subst h
      exact hv_zret (ty := .boolean) rfl rfl dX3_knows_46
    · rw [e6] at h
      try rw [e6]
      refine hv_aload_n 0 dX3_knows_33 rfl rfl ?_
      obtain ⟨x4, e_x4, h⟩ := hq_ob h
      refine hv_getI fl_X3_33 e_x4 dX3_knows_34 ?_
      refine hv_iconst (v := 3) dX3_knows_37 (by decide) ?_
      refine hv_icmp_lt (tgt := 45) dX3_knows_38 (by decide) (fun c5 => ?_) (fun c5 => ?_)
      · replace h := hq_ip c5 h
        refine hv_iconst (v := 0) dX3_knows_45 (by decide) ?_
        have h := Option.some.inj h
        subst h
        exact hv_zret (ty := .boolean) rfl rfl dX3_knows_46
      · replace h := hq_in c5 h
        refine hv_iconst (v := 1) dX3_knows_41 (by decide) ?_
        refine hv_goto (tgt := 46) dX3_knows_42 (by decide) ?_
        have h := Option.some.inj h
        subst h
        exact hv_zret (ty := .boolean) rfl rfl dX3_knows_46
  clear e_k22
  refine hv_iload_n 1 dX3_knows_0 rfl rfl ?_
  refine hv_aload_n 0 dX3_knows_1 rfl rfl ?_
  obtain ⟨x7, e_x7, h⟩ := hq_ob h
  refine hv_getR fl_X3_9 e_x7 dX3_knows_2 ?_
  refine hv_iconst (v := 3) dX3_knows_5 (by decide) ?_
  obtain ⟨a8, e_a8, h⟩ := hq_nn h
  rw [e_a8]
  obtain ⟨x9, e_x9, h⟩ := hq_ob h
  refine hv_iald e_x9 dX3_knows_6 ?_
  refine hv_icmp_gt (tgt := 22) dX3_knows_7 (by decide) (fun c10 => ?_) (fun c10 => ?_)
  · replace h := hq_ip c10 h
    exact wk22 () h
  · replace h := hq_in c10 h
    refine hv_iload_n 2 dX3_knows_10 rfl rfl ?_
    refine hv_aload_n 0 dX3_knows_11 rfl rfl ?_
    obtain ⟨x11, e_x11, h⟩ := hq_ob h
    refine hv_getR fl_X3_9 e_x11 dX3_knows_12 ?_
    refine hv_iconst (v := 3) dX3_knows_15 (by decide) ?_
    obtain ⟨a12, e_a12, h⟩ := hq_nn h
    rw [e_a12]
    obtain ⟨x13, e_x13, h⟩ := hq_ob h
    refine hv_iald e_x13 dX3_knows_16 ?_
    refine hv_icmp_gt (tgt := 22) dX3_knows_17 (by decide) (fun c14 => ?_) (fun c14 => ?_)
    · replace h := hq_ip c14 h
      exact wk22 () h
    · replace h := hq_in c14 h
      refine hv_iconst (v := 1) dX3_knows_20 (by decide) ?_
      have h := Option.some.inj h
      subst h
      exact hv_zret (ty := .boolean) rfl rfl dX3_knows_21
def j_min_j (p1 : Int64) (p2 : Int64) : Int64 :=
  if p2 < p1 then
    p2
  else
  p1
abbrev N_j_min_j (l : Launch) : hk_N := (l, cJ2_min_2, "java/lang/Math", 4, (some .long), 0, 0, false)
set_option maxHeartbeats 4000000 in
theorem wk_j_min_j {l : Launch} {Gd : hk_G} {st : hk_St} {p1 : Int64} {p2 : Int64} {r : Int64} (h : j_min_j p1 p2 = r) : hk_Met Gd l yJ2_min_2 cJ2_min_2 4 (some .long) 0 0 [.long p1, .long p2] st (some (.long r)) st := by
  refine hk_start "java/lang/Math" false (by decide +kernel) rfl (by decide) (Nat.le_of_ble_eq_true rfl) ?_
  show hk_V Gd (N_j_min_j l) (hk_end Gd st (some (.long r)) st) 0 [(0, .long p1), (2, .long p2)] [] st
  unfold j_min_j at h
  refine hv_lload_n 0 dJ2_min_2_0 rfl rfl ?_
  refine hv_lload_n 1 dJ2_min_2_1 rfl rfl ?_
  refine hv_lcmp_gt (tgt := 10) dJ2_min_2_2 dJ2_min_2_3 (by decide) (fun c1 => ?_) (fun c1 => ?_)
  · replace h := hq_ip c1 h
    refine hv_lload_n 1 dJ2_min_2_10 rfl rfl ?_
    subst h
    exact hv_lret rfl dJ2_min_2_11
  · replace h := hq_in c1 h
    refine hv_lload_n 0 dJ2_min_2_6 rfl rfl ?_
    refine hv_goto (tgt := 11) dJ2_min_2_7 (by decide) ?_
    subst h
    exact hv_lret rfl dJ2_min_2_11
def x_sizeOf_L8b (p1 : Int64) (e0 : Int32 → Option (Int32)) (rc : Int32 → Int64 → Option (Int32)) (v2 : Int32) (v3 : Int64) : Option (Int32) :=
  if v3 ≤ (0 : Int64) then
    e0 v2
  else
  hk_nm (v2 + (1 : Int32)) fun x6 =>
  hk_nm (v3 / (10 : Int64)) fun x7 =>
  rc x6 x7
def x_sizeOf_L8 (p1 : Int64) (e0 : Int32 → Option (Int32)) : Nat → Int32 → Int64 → Option (Int32)
  | 0 => fun _ _ => none
  | n + 1 => x_sizeOf_L8b p1 e0 (x_sizeOf_L8 p1 e0 n)
def x_sizeOf (p1 : Int64) : Option (Int32) :=
  hk_nm (p1 / (10 : Int64)) fun x1 =>
  x_sizeOf_L8 p1  (fun (v4 : Int32) =>
    some v4) hk_F (1 : Int32) x1 
abbrev N_x_sizeOf (l : Launch) : hk_N := (l, cX0_sizeOf, "HeadReckons", 5, (some .int), 0, 0, false)
set_option maxHeartbeats 4000000 in
theorem wk_x_sizeOf_L8b {l : Launch} {Gd : hk_G} {st : hk_St} {p1 : Int64} {r : Int32} {e0 : Int32 → Option (Int32)} {rc : Int32 → Int64 → Option (Int32)} (hrc : ∀ (v2 : Int32) (v3 : Int64), rc v2 v3 = some r → hk_V Gd (N_x_sizeOf l) (hk_end Gd st (some (.int r)) st) 8 [(2, .int v2), (3, .long v3)] [] st) (he0 : ∀ (v4 : Int32), e0 v4 = some r → hk_V Gd (N_x_sizeOf l) (hk_end Gd st (some (.int r)) st) 26 [(2, .int v4)] [] st) {v2 : Int32} {v3 : Int64} (h : x_sizeOf_L8b p1 e0 rc v2 v3 = some r) : hk_V Gd (N_x_sizeOf l) (hk_end Gd st (some (.int r)) st) 8 [(2, .int v2), (3, .long v3)] [] st := by
  unfold x_sizeOf_L8b at h
  refine hv_lload_n 1 dX0_sizeOf_8 rfl rfl ?_
  refine hv_lconst (v := 0) dX0_sizeOf_9 (by decide) ?_
  refine hv_lcmp_le (tgt := 26) dX0_sizeOf_10 dX0_sizeOf_11 (by decide) (fun c5 => ?_) (fun c5 => ?_)
  · replace h := hq_ip c5 h
    refine hv_sub [0] rfl ?_
    exact he0 _ h
  · replace h := hq_in c5 h
    obtain ⟨x6, e_x6, h⟩ := hq_nm h
    refine hv_iinc (v := x6) (L' := [(2, .int x6), (3, .long v3)]) 0 dX0_sizeOf_14 rfl (by rw [e_x6]; rfl) (Nat.le_of_ble_eq_true rfl) rfl ?_
    refine hv_lload_n 1 dX0_sizeOf_17 rfl rfl ?_
    refine hv_ldc2 q678 dX0_sizeOf_18 ?_
    refine hv_ldiv (by decide) dX0_sizeOf_21 ?_
    obtain ⟨x7, e_x7, h⟩ := hq_nm h
    rw [← e_x7]
    refine hv_lstore_n (L' := [(3, .long x7), (2, .int x6)]) dX0_sizeOf_22 rfl (Nat.le_of_ble_eq_true rfl) rfl ?_
    refine hv_goto (tgt := 8) dX0_sizeOf_23 (by decide) ?_
    refine hv_sub [1, 0] rfl ?_
    exact hrc _ _ h
theorem wk_x_sizeOf_L8 {l : Launch} {Gd : hk_G} {st : hk_St} {p1 : Int64} {r : Int32} {e0 : Int32 → Option (Int32)} (he0 : ∀ (v4 : Int32), e0 v4 = some r → hk_V Gd (N_x_sizeOf l) (hk_end Gd st (some (.int r)) st) 26 [(2, .int v4)] [] st) : ∀ (n : Nat) (v2 : Int32) (v3 : Int64), x_sizeOf_L8 p1 e0 n v2 v3 = some r → hk_V Gd (N_x_sizeOf l) (hk_end Gd st (some (.int r)) st) 8 [(2, .int v2), (3, .long v3)] [] st := by
  intro n
  induction n with
  | zero => intro v2 v3 h; cases h
  | succ n ih => intro v2 v3 h; exact wk_x_sizeOf_L8b  ih he0 h
set_option maxHeartbeats 4000000 in
theorem wk_x_sizeOf {l : Launch} {Gd : hk_G} {st : hk_St} {p1 : Int64} {r : Int32} (h : x_sizeOf p1 = some r) : hk_Met Gd l yX0_sizeOf cX0_sizeOf 5 (some .int) 0 0 [.long p1] st (some (.int r)) st := by
  refine hk_start "HeadReckons" false (by decide +kernel) rfl (by decide) (Nat.le_of_ble_eq_true rfl) ?_
  show hk_V Gd (N_x_sizeOf l) (hk_end Gd st (some (.int r)) st) 0 [(0, .long p1)] [] st
  unfold x_sizeOf at h
  refine hv_iconst (v := 1) dX0_sizeOf_0 (by decide) ?_
  refine hv_istore_n (L' := [(2, .int (1 : Int32)), (0, .long p1)]) dX0_sizeOf_1 rfl (Nat.le_of_ble_eq_true rfl) rfl ?_
  refine hv_lload_n 1 dX0_sizeOf_2 rfl rfl ?_
  refine hv_ldc2 q678 dX0_sizeOf_3 ?_
  refine hv_ldiv (by decide) dX0_sizeOf_6 ?_
  obtain ⟨x1, e_x1, h⟩ := hq_nm h
  rw [← e_x1]
  refine hv_lstore_n (L' := [(3, .long x1), (2, .int (1 : Int32)), (0, .long p1)]) dX0_sizeOf_7 rfl (Nat.le_of_ble_eq_true rfl) rfl ?_
  refine hv_sub [1, 0] rfl ?_
  refine wk_x_sizeOf_L8  ?_ hk_F _ _ h
  · intro v4 h
    refine hv_iload_n 0 dX0_sizeOf_26 rfl rfl ?_
    have h := Option.some.inj h
    subst h
    exact hv_iret rfl dX0_sizeOf_27
def xActs_act (th : Nat) (p1 : Int32) (p2 : Int64) (p3 : Int32) (p4 : Int64) (s0 : hk_St) : Option hk_St :=
  hk_nm (fun (v1 : Int32) (v2 : Int32) (v3 : Int32) (v4 : Option Nat) (s5 : hk_St) =>
    hk_nn v4 fun a6 =>
    (hk_tI 0 s5 a6 v3 (v2 + v1)).bind fun s7 =>
    (hk_gI [2] 208 s7 th).bind fun x8 =>
    (hk_pI [2] 208 s7 th (x8 + p3)).bind fun s9 =>
    (hk_gI [2] 209 s9 th).bind fun x10 =>
    (hk_gR [2] 202 s9 th).bind fun x11 =>
    (hk_gI [2] 206 s9 th).bind fun x12 =>
    hk_nn x11 fun a13 =>
    (hk_lI 0 s9 a13 x12).bind fun x14 =>
    (hk_pI [2] 209 s9 th (j_max_i x10 x14)).bind fun s15 =>
    (hk_gI [2] 206 s15 th).bind fun x16 =>
    (hk_pI [2] 206 s15 th (x16 + (1 : Int32))).bind fun s17 =>
    some s17) fun k87 =>
  (hk_gR [2] 200 s0 th).bind fun x18 =>
  (hk_gI [2] 206 s0 th).bind fun x19 =>
  hk_nn x18 fun a20 =>
  (hk_tI 0 s0 a20 x19 p1).bind fun s21 =>
  (hk_gR [2] 203 s21 th).bind fun x22 =>
  (hk_gI [2] 206 s21 th).bind fun x23 =>
  hk_nn x22 fun a24 =>
  (hk_tL s21 a24 x23 p2).bind fun s25 =>
  (hk_gR [2] 201 s25 th).bind fun x26 =>
  (hk_gI [2] 206 s25 th).bind fun x27 =>
  hk_nn x26 fun a28 =>
  (hk_tI 0 s25 a28 x27 p3).bind fun s29 =>
  (hk_gR [2] 204 s29 th).bind fun x30 =>
  (hk_gI [2] 206 s29 th).bind fun x31 =>
  hk_nn x30 fun a32 =>
  (hk_tL s29 a32 x31 p4).bind fun s33 =>
  (hk_gR [2] 205 s33 th).bind fun x34 =>
  (hk_gI [2] 206 s33 th).bind fun x35 =>
  (hk_gL [2] 211 s33 th).bind fun x36 =>
  hk_nn x34 fun a37 =>
  (hk_tL s33 a37 x35 x36).bind fun s38 =>
  (hk_gR [2] 202 s38 th).bind fun x39 =>
  (hk_gI [2] 206 s38 th).bind fun x40 =>
  (hk_gI [2] 207 s38 th).bind fun x41 =>
  (hk_gL [2] 210 s38 th).bind fun x42 =>
  if x42 = (0 : Int64) then
    k87 (0 : Int32) x41 x40 x39 s38
  else
  (hk_gL [2] 210 s38 th).bind fun x44 =>
    (x_sizeOf x44).bind fun x45 =>
    k87 x45 x41 x40 x39 s38
abbrev N_xActs_act (l : Launch) : hk_N := (l, cX2_act, "HeadReckons$Acts", 7, none, 1, 24, false)
set_option maxHeartbeats 4000000 in
theorem wk_xActs_act {l : Launch} {Gd : hk_G} {th : Nat} {p1 : Int32} {p2 : Int64} {p3 : Int32} {p4 : Int64} {s0 : hk_St} {fin : hk_St} (h : xActs_act th p1 p2 p3 p4 s0 = some fin) : hk_Met Gd l yX2_act cX2_act 7 none 1 24 [.ref th, .int p1, .long p2, .int p3, .long p4] s0 none fin := by
  refine hk_start "HeadReckons$Acts" false (by decide +kernel) rfl (by decide) (Nat.le_of_ble_eq_true rfl) ?_
  show hk_V Gd (N_xActs_act l) (hk_end Gd s0 none fin) 0 [(0, .ref th), (1, .int p1), (2, .long p2), (4, .int p3), (5, .long p4)] [] s0
  unfold xActs_act at h
  obtain ⟨k87, e_k87, h⟩ := hq_nm h
  have wk87 : ∀ (v1 : Int32) (v2 : Int32) (v3 : Int32) (v4 : Option Nat) (s5 : hk_St), k87 v1 v2 v3 v4 s5 = some fin → hk_V Gd (N_xActs_act l) (hk_end Gd s0 none fin) 87 [(0, .ref th), (4, .int p3)] [.int v1, .int v2, .int v3, va_rf v4] s5 := by
    intro v1 v2 v3 v4 s5 h
    rw [e_k87] at h
    refine hv_iadd dX2_act_87 ?_
    obtain ⟨a6, e_a6, h⟩ := hq_nn h
    rw [e_a6]
    obtain ⟨s7, e_s7, h⟩ := hq_ob h
    refine hv_iast e_s7 dX2_act_88 ?_
    refine hv_aload_n 0 dX2_act_89 rfl rfl ?_
    refine hv_dup dX2_act_90 rfl ?_
    obtain ⟨x8, e_x8, h⟩ := hq_ob h
    refine hv_getI fl_X2_49 e_x8 dX2_act_91 ?_
    refine hv_iload 1 dX2_act_94 rfl ?_
    refine hv_iadd dX2_act_96 ?_
    obtain ⟨s9, e_s9, h⟩ := hq_ob h
    refine hv_putI fp_X2_49 e_s9 (fun q => by cases q) dX2_act_97 ?_
    refine hv_aload_n 0 dX2_act_100 rfl rfl ?_
    refine hv_aload_n 0 dX2_act_101 rfl rfl ?_
    obtain ⟨x10, e_x10, h⟩ := hq_ob h
    refine hv_getI fl_X2_52 e_x10 dX2_act_102 ?_
    refine hv_aload_n 0 dX2_act_105 rfl rfl ?_
    obtain ⟨x11, e_x11, h⟩ := hq_ob h
    refine hv_getR fl_X2_22 e_x11 dX2_act_106 ?_
    refine hv_aload_n 0 dX2_act_109 rfl rfl ?_
    obtain ⟨x12, e_x12, h⟩ := hq_ob h
    refine hv_getI fl_X2_42 e_x12 dX2_act_110 ?_
    obtain ⟨a13, e_a13, h⟩ := hq_nn h
    rw [e_a13]
    obtain ⟨x14, e_x14, h⟩ := hq_ob h
    refine hv_iald e_x14 dX2_act_113 ?_
    refine hv_callS [.int x10, .int x14] [.ref th] [.int (j_max_i x10 x14), .ref th] (wk_j_max_i rfl) cs_X2_100 rfl ⟨Nat.le_of_ble_eq_true rfl, Nat.le_of_ble_eq_true rfl⟩ rfl (Nat.le_of_ble_eq_true rfl) rfl dX2_act_114 ?_
    obtain ⟨s15, e_s15, h⟩ := hq_ob h
    refine hv_putI fp_X2_52 e_s15 (fun q => by cases q) dX2_act_117 ?_
    refine hv_aload_n 0 dX2_act_120 rfl rfl ?_
    refine hv_dup dX2_act_121 rfl ?_
    obtain ⟨x16, e_x16, h⟩ := hq_ob h
    refine hv_getI fl_X2_42 e_x16 dX2_act_122 ?_
    refine hv_iconst (v := 1) dX2_act_125 (by decide) ?_
    refine hv_iadd dX2_act_126 ?_
    obtain ⟨s17, e_s17, h⟩ := hq_ob h
    refine hv_putI fp_X2_42 e_s17 (fun q => by cases q) dX2_act_127 ?_
    have h := Option.some.inj h
    subst h
    exact hv_vret rfl dX2_act_130
  clear e_k87
  refine hv_aload_n 0 dX2_act_0 rfl rfl ?_
  obtain ⟨x18, e_x18, h⟩ := hq_ob h
  refine hv_getR fl_X2_15 e_x18 dX2_act_1 ?_
  refine hv_aload_n 0 dX2_act_4 rfl rfl ?_
  obtain ⟨x19, e_x19, h⟩ := hq_ob h
  refine hv_getI fl_X2_42 e_x19 dX2_act_5 ?_
  refine hv_iload_n 1 dX2_act_8 rfl rfl ?_
  obtain ⟨a20, e_a20, h⟩ := hq_nn h
  rw [e_a20]
  obtain ⟨s21, e_s21, h⟩ := hq_ob h
  refine hv_iast e_s21 dX2_act_9 ?_
  refine hv_aload_n 0 dX2_act_10 rfl rfl ?_
  obtain ⟨x22, e_x22, h⟩ := hq_ob h
  refine hv_getR fl_X2_25 e_x22 dX2_act_11 ?_
  refine hv_aload_n 0 dX2_act_14 rfl rfl ?_
  obtain ⟨x23, e_x23, h⟩ := hq_ob h
  refine hv_getI fl_X2_42 e_x23 dX2_act_15 ?_
  refine hv_lload_n 2 dX2_act_18 rfl rfl ?_
  obtain ⟨a24, e_a24, h⟩ := hq_nn h
  rw [e_a24]
  obtain ⟨s25, e_s25, h⟩ := hq_ob h
  refine hv_last e_s25 dX2_act_19 ?_
  refine hv_aload_n 0 dX2_act_20 rfl rfl ?_
  obtain ⟨x26, e_x26, h⟩ := hq_ob h
  refine hv_getR fl_X2_19 e_x26 dX2_act_21 ?_
  refine hv_aload_n 0 dX2_act_24 rfl rfl ?_
  obtain ⟨x27, e_x27, h⟩ := hq_ob h
  refine hv_getI fl_X2_42 e_x27 dX2_act_25 ?_
  refine hv_iload 3 dX2_act_28 rfl ?_
  obtain ⟨a28, e_a28, h⟩ := hq_nn h
  rw [e_a28]
  obtain ⟨s29, e_s29, h⟩ := hq_ob h
  refine hv_iast e_s29 dX2_act_30 ?_
  refine hv_aload_n 0 dX2_act_31 rfl rfl ?_
  obtain ⟨x30, e_x30, h⟩ := hq_ob h
  refine hv_getR fl_X2_29 e_x30 dX2_act_32 ?_
  refine hv_aload_n 0 dX2_act_35 rfl rfl ?_
  obtain ⟨x31, e_x31, h⟩ := hq_ob h
  refine hv_getI fl_X2_42 e_x31 dX2_act_36 ?_
  refine hv_lload 4 dX2_act_39 rfl ?_
  obtain ⟨a32, e_a32, h⟩ := hq_nn h
  rw [e_a32]
  obtain ⟨s33, e_s33, h⟩ := hq_ob h
  refine hv_last e_s33 dX2_act_41 ?_
  refine hv_aload_n 0 dX2_act_42 rfl rfl ?_
  obtain ⟨x34, e_x34, h⟩ := hq_ob h
  refine hv_getR fl_X2_32 e_x34 dX2_act_43 ?_
  refine hv_aload_n 0 dX2_act_46 rfl rfl ?_
  obtain ⟨x35, e_x35, h⟩ := hq_ob h
  refine hv_getI fl_X2_42 e_x35 dX2_act_47 ?_
  refine hv_aload_n 0 dX2_act_50 rfl rfl ?_
  obtain ⟨x36, e_x36, h⟩ := hq_ob h
  refine hv_getL fl_X2_55 e_x36 dX2_act_51 ?_
  obtain ⟨a37, e_a37, h⟩ := hq_nn h
  rw [e_a37]
  obtain ⟨s38, e_s38, h⟩ := hq_ob h
  refine hv_last e_s38 dX2_act_54 ?_
  refine hv_aload_n 0 dX2_act_55 rfl rfl ?_
  obtain ⟨x39, e_x39, h⟩ := hq_ob h
  refine hv_getR fl_X2_22 e_x39 dX2_act_56 ?_
  refine hv_aload_n 0 dX2_act_59 rfl rfl ?_
  obtain ⟨x40, e_x40, h⟩ := hq_ob h
  refine hv_getI fl_X2_42 e_x40 dX2_act_60 ?_
  refine hv_aload_n 0 dX2_act_63 rfl rfl ?_
  obtain ⟨x41, e_x41, h⟩ := hq_ob h
  refine hv_getI fl_X2_46 e_x41 dX2_act_64 ?_
  refine hv_aload_n 0 dX2_act_67 rfl rfl ?_
  obtain ⟨x42, e_x42, h⟩ := hq_ob h
  refine hv_getL fl_X2_89 e_x42 dX2_act_68 ?_
  refine hv_lconst (v := 0) dX2_act_71 (by decide) ?_
  refine hv_lcmp_ne (tgt := 80) dX2_act_72 dX2_act_73 (by decide) (fun c43 => ?_) (fun c43 => ?_)
  · replace h := hq_in c43 h
    refine hv_aload_n 0 dX2_act_80 rfl rfl ?_
    obtain ⟨x44, e_x44, h⟩ := hq_ob h
    refine hv_getL fl_X2_89 e_x44 dX2_act_81 ?_
    obtain ⟨x45, e_x45, h⟩ := hq_ob h
    refine hv_callSN [.long x44] [.int x41, .int x40, va_rf x39] [.int x45, .int x41, .int x40, va_rf x39] (wk_x_sizeOf e_x45) cs_X2_96 rfl ⟨Nat.le_of_ble_eq_true rfl, Nat.le_of_ble_eq_true rfl⟩ rfl (by simp only [List.map, hk_cat]; exact Nat.le_of_ble_eq_true rfl) rfl dX2_act_84 ?_
    refine hv_sub [0, 3] rfl ?_
    exact wk87 _ _ _ _ _ h
  · replace h := hq_ip c43 h
    refine hv_iconst (v := 0) dX2_act_76 (by decide) ?_
    refine hv_goto (tgt := 87) dX2_act_77 (by decide) ?_
    refine hv_sub [0, 3] rfl ?_
    exact wk87 _ _ _ _ _ h
def xActs_look (th : Nat) (p1 : Int64) (p2 : Int64) (p3 : Int64) (s0 : hk_St) : Option hk_St :=
  hk_nm (fun (s1 : hk_St) =>
    (hk_gR [2] 213 s1 th).bind fun x2 =>
    hk_nn x2 fun a3 =>
    (hk_gR [3] 300 s1 a3).bind fun x4 =>
    hk_nn x4 fun a5 =>
    (hk_lI 0 s1 a5 (0 : Int32)).bind fun x6 =>
    (xActs_act th (0 : Int32) ((p1 * p2) * p3) x6 ((j_min_j p1 p2) * p3) s1).bind fun s7 =>
    hk_gd (hk_bf [2] s1 th) <|
    (hk_gI [2] 212 s7 th).bind fun x9 =>
    if x9 = 0 then
      (hk_gL [2] 210 s7 th).bind fun x12 =>
    (hk_pL [2] 210 s7 th (x12 + ((p1 * p2) * p3))).bind fun s13 =>
    (hk_gL [2] 210 s13 th).bind fun x14 =>
    (hk_gR [2] 213 s13 th).bind fun x15 =>
    hk_nn x15 fun a16 =>
    (hk_gR [3] 300 s13 a16).bind fun x17 =>
    hk_nn x17 fun a18 =>
    (hk_lI 0 s13 a18 (1 : Int32)).bind fun x19 =>
    (hk_gL [2] 210 s13 th).bind fun x20 =>
    (x_sizeOf x20).bind fun x21 =>
    (xActs_act th (1 : Int32) x14 (x19 * x21) (0 : Int64) s13).bind fun s22 =>
    hk_gd (hk_bf [2] s13 th) <|
    (hk_pI [2] 212 s22 th (0 : Int32)).bind fun s24 =>
    some s24
    else
    (hk_pI [2] 212 s7 th (0 : Int32)).bind fun s11 =>
      some s11) fun k17 =>
  (hk_gI [2] 212 s0 th).bind fun x25 =>
  if x25 = 0 then
    k17 s0
  else
  (hk_pL [2] 210 s0 th ((p1 * p2) * p3)).bind fun s27 =>
  k17 s27
abbrev N_xActs_look (l : Launch) : hk_N := (l, cX2_look, "HeadReckons$Acts", 7, none, 2, 50, false)
set_option maxHeartbeats 4000000 in
theorem wk_xActs_look {l : Launch} {Gd : hk_G} {th : Nat} {p1 : Int64} {p2 : Int64} {p3 : Int64} {s0 : hk_St} {fin : hk_St} (h : xActs_look th p1 p2 p3 s0 = some fin) : hk_Met Gd l yX2_look cX2_look 7 none 2 50 [.ref th, .long p1, .long p2, .long p3] s0 none fin := by
  refine hk_start "HeadReckons$Acts" false (by decide +kernel) rfl (by decide) (Nat.le_of_ble_eq_true rfl) ?_
  show hk_V Gd (N_xActs_look l) (hk_end Gd s0 none fin) 0 [(0, .ref th), (1, .long p1), (3, .long p2), (5, .long p3)] [] s0
  unfold xActs_look at h
  obtain ⟨k17, e_k17, h⟩ := hq_nm h
  have wk17 : ∀ (s1 : hk_St), k17 s1 = some fin → hk_V Gd (N_xActs_look l) (hk_end Gd s0 none fin) 17 [(0, .ref th), (1, .long p1), (3, .long p2), (5, .long p3)] [] s1 := by
    intro s1 h
    rw [e_k17] at h
    refine hv_aload_n 0 dX2_look_17 rfl rfl ?_
    refine hv_iconst (v := 0) dX2_look_18 (by decide) ?_
    refine hv_lload_n 1 dX2_look_19 rfl rfl ?_
    refine hv_lload_n 2 dX2_look_20 rfl rfl ?_
    refine hv_lmul dX2_look_21 ?_
    refine hv_lload 3 dX2_look_22 rfl ?_
    refine hv_lmul dX2_look_24 ?_
    refine hv_aload_n 0 dX2_look_25 rfl rfl ?_
    obtain ⟨x2, e_x2, h⟩ := hq_ob h
    refine hv_getR fl_X2_38 e_x2 dX2_look_26 ?_
    obtain ⟨a3, e_a3, h⟩ := hq_nn h
    rw [e_a3]
    obtain ⟨x4, e_x4, h⟩ := hq_ob h
    refine hv_getR fl_X2_106 e_x4 dX2_look_29 ?_
    refine hv_iconst (v := 0) dX2_look_32 (by decide) ?_
    obtain ⟨a5, e_a5, h⟩ := hq_nn h
    rw [e_a5]
    obtain ⟨x6, e_x6, h⟩ := hq_ob h
    refine hv_iald e_x6 dX2_look_33 ?_
    refine hv_lload_n 1 dX2_look_34 rfl rfl ?_
    refine hv_lload_n 2 dX2_look_35 rfl rfl ?_
    refine hv_callS [.long p1, .long p2] [.int x6, .long ((p1 * p2) * p3), .int (0 : Int32), .ref th] [.long (j_min_j p1 p2), .int x6, .long ((p1 * p2) * p3), .int (0 : Int32), .ref th] (wk_j_min_j rfl) cs_X2_109 rfl ⟨Nat.le_of_ble_eq_true rfl, Nat.le_of_ble_eq_true rfl⟩ rfl (Nat.le_of_ble_eq_true rfl) rfl dX2_look_36 ?_
    refine hv_lload 3 dX2_look_39 rfl ?_
    refine hv_lmul dX2_look_41 ?_
    obtain ⟨s7, e_s7, h⟩ := hq_ob h
    obtain ⟨g8, h⟩ := hq_gd h
    refine hv_callV [.int (0 : Int32), .long ((p1 * p2) * p3), .int x6, .long ((j_min_j p1 p2) * p3)] [] [] (wk_xActs_act e_s7) cs_X2_113 g8 rfl ⟨Nat.le_of_ble_eq_true rfl, Nat.le_of_ble_eq_true rfl⟩ rfl (Nat.le_of_ble_eq_true rfl) rfl dX2_look_42 ?_
    refine hv_aload_n 0 dX2_look_45 rfl rfl ?_
    obtain ⟨x9, e_x9, h⟩ := hq_ob h
    refine hv_getZ fl_X2_92 e_x9 dX2_look_46 ?_
    refine hv_if_ne (tgt := 94) dX2_look_49 (by decide) (fun c10 => ?_) (fun c10 => ?_)
    · replace h := hq_in c10 h
      refine hv_aload_n 0 dX2_look_94 rfl rfl ?_
      refine hv_iconst (v := 0) dX2_look_95 (by decide) ?_
      obtain ⟨s11, e_s11, h⟩ := hq_ob h
      refine hv_putZ fp_X2_92 e_s11 (fun q => by cases q) ⟨rfl, rfl⟩ dX2_look_96 ?_
      have h := Option.some.inj h
      subst h
      exact hv_vret rfl dX2_look_99
    · replace h := hq_ip c10 h
      refine hv_aload_n 0 dX2_look_52 rfl rfl ?_
      refine hv_dup dX2_look_53 rfl ?_
      obtain ⟨x12, e_x12, h⟩ := hq_ob h
      refine hv_getL fl_X2_89 e_x12 dX2_look_54 ?_
      refine hv_lload_n 1 dX2_look_57 rfl rfl ?_
      refine hv_lload_n 2 dX2_look_58 rfl rfl ?_
      refine hv_lmul dX2_look_59 ?_
      refine hv_lload 3 dX2_look_60 rfl ?_
      refine hv_lmul dX2_look_62 ?_
      refine hv_ladd dX2_look_63 ?_
      obtain ⟨s13, e_s13, h⟩ := hq_ob h
      refine hv_putL fp_X2_89 e_s13 (fun q => by cases q) dX2_look_64 ?_
      refine hv_aload_n 0 dX2_look_67 rfl rfl ?_
      refine hv_iconst (v := 1) dX2_look_68 (by decide) ?_
      refine hv_aload_n 0 dX2_look_69 rfl rfl ?_
      obtain ⟨x14, e_x14, h⟩ := hq_ob h
      refine hv_getL fl_X2_89 e_x14 dX2_look_70 ?_
      refine hv_aload_n 0 dX2_look_73 rfl rfl ?_
      obtain ⟨x15, e_x15, h⟩ := hq_ob h
      refine hv_getR fl_X2_38 e_x15 dX2_look_74 ?_
      obtain ⟨a16, e_a16, h⟩ := hq_nn h
      rw [e_a16]
      obtain ⟨x17, e_x17, h⟩ := hq_ob h
      refine hv_getR fl_X2_106 e_x17 dX2_look_77 ?_
      refine hv_iconst (v := 1) dX2_look_80 (by decide) ?_
      obtain ⟨a18, e_a18, h⟩ := hq_nn h
      rw [e_a18]
      obtain ⟨x19, e_x19, h⟩ := hq_ob h
      refine hv_iald e_x19 dX2_look_81 ?_
      refine hv_aload_n 0 dX2_look_82 rfl rfl ?_
      obtain ⟨x20, e_x20, h⟩ := hq_ob h
      refine hv_getL fl_X2_89 e_x20 dX2_look_83 ?_
      obtain ⟨x21, e_x21, h⟩ := hq_ob h
      refine hv_callSN [.long x20] [.int x19, .long x14, .int (1 : Int32), .ref th] [.int x21, .int x19, .long x14, .int (1 : Int32), .ref th] (wk_x_sizeOf e_x21) cs_X2_96 rfl ⟨Nat.le_of_ble_eq_true rfl, Nat.le_of_ble_eq_true rfl⟩ rfl (Nat.le_of_ble_eq_true rfl) rfl dX2_look_86 ?_
      refine hv_imul dX2_look_89 ?_
      refine hv_lconst (v := 0) dX2_look_90 (by decide) ?_
      obtain ⟨s22, e_s22, h⟩ := hq_ob h
      obtain ⟨g23, h⟩ := hq_gd h
      refine hv_callV [.int (1 : Int32), .long x14, .int (x19 * x21), .long (0 : Int64)] [] [] (wk_xActs_act e_s22) cs_X2_113 g23 rfl ⟨Nat.le_of_ble_eq_true rfl, Nat.le_of_ble_eq_true rfl⟩ rfl (Nat.le_of_ble_eq_true rfl) rfl dX2_look_91 ?_
      refine hv_aload_n 0 dX2_look_94 rfl rfl ?_
      refine hv_iconst (v := 0) dX2_look_95 (by decide) ?_
      obtain ⟨s24, e_s24, h⟩ := hq_ob h
      refine hv_putZ fp_X2_92 e_s24 (fun q => by cases q) ⟨rfl, rfl⟩ dX2_look_96 ?_
      have h := Option.some.inj h
      subst h
      exact hv_vret rfl dX2_look_99
  clear e_k17
  refine hv_aload_n 0 dX2_look_0 rfl rfl ?_
  obtain ⟨x25, e_x25, h⟩ := hq_ob h
  refine hv_getZ fl_X2_92 e_x25 dX2_look_1 ?_
  refine hv_if_eq (tgt := 17) dX2_look_4 (by decide) (fun c26 => ?_) (fun c26 => ?_)
  · replace h := hq_ip c26 h
    exact wk17 _ h
  · replace h := hq_in c26 h
    refine hv_aload_n 0 dX2_look_7 rfl rfl ?_
    refine hv_lload_n 1 dX2_look_8 rfl rfl ?_
    refine hv_lload_n 2 dX2_look_9 rfl rfl ?_
    refine hv_lmul dX2_look_10 ?_
    refine hv_lload 3 dX2_look_11 rfl ?_
    refine hv_lmul dX2_look_13 ?_
    obtain ⟨s27, e_s27, h⟩ := hq_ob h
    refine hv_putL fp_X2_89 e_s27 (fun q => by cases q) dX2_look_14 ?_
    exact wk17 _ h
def x_tenTo_L4b (p1 : Int32) (e0 : Int64 → Option (Int64)) (rc : Int64 → Int32 → Option (Int64)) (v1 : Int64) (v2 : Int32) : Option (Int64) :=
  if p1 ≤ v2 then
    e0 v1
  else
  hk_nm (v1 * (10 : Int64)) fun x5 =>
  hk_nm (v2 + (1 : Int32)) fun x6 =>
  rc x5 x6
def x_tenTo_L4 (p1 : Int32) (e0 : Int64 → Option (Int64)) : Nat → Int64 → Int32 → Option (Int64)
  | 0 => fun _ _ => none
  | n + 1 => x_tenTo_L4b p1 e0 (x_tenTo_L4 p1 e0 n)
def x_tenTo (p1 : Int32) : Option (Int64) :=
  x_tenTo_L4 p1  (fun (v3 : Int64) =>
    some v3) hk_F (1 : Int64) (0 : Int32) 
abbrev N_x_tenTo (l : Launch) : hk_N := (l, cX0_tenTo, "HeadReckons", 4, (some .long), 0, 0, false)
set_option maxHeartbeats 4000000 in
theorem wk_x_tenTo_L4b {l : Launch} {Gd : hk_G} {st : hk_St} {p1 : Int32} {r : Int64} {e0 : Int64 → Option (Int64)} {rc : Int64 → Int32 → Option (Int64)} (hrc : ∀ (v1 : Int64) (v2 : Int32), rc v1 v2 = some r → hk_V Gd (N_x_tenTo l) (hk_end Gd st (some (.long r)) st) 4 [(0, .int p1), (1, .long v1), (3, .int v2)] [] st) (he0 : ∀ (v3 : Int64), e0 v3 = some r → hk_V Gd (N_x_tenTo l) (hk_end Gd st (some (.long r)) st) 21 [(1, .long v3)] [] st) {v1 : Int64} {v2 : Int32} (h : x_tenTo_L4b p1 e0 rc v1 v2 = some r) : hk_V Gd (N_x_tenTo l) (hk_end Gd st (some (.long r)) st) 4 [(0, .int p1), (1, .long v1), (3, .int v2)] [] st := by
  unfold x_tenTo_L4b at h
  refine hv_iload_n 2 dX0_tenTo_4 rfl rfl ?_
  refine hv_iload_n 0 dX0_tenTo_5 rfl rfl ?_
  refine hv_icmp_ge (tgt := 21) dX0_tenTo_6 (by decide) (fun c4 => ?_) (fun c4 => ?_)
  · replace h := hq_ip c4 h
    refine hv_sub [1] rfl ?_
    exact he0 _ h
  · replace h := hq_in c4 h
    refine hv_lload_n 1 dX0_tenTo_9 rfl rfl ?_
    refine hv_ldc2 q678 dX0_tenTo_10 ?_
    refine hv_lmul dX0_tenTo_13 ?_
    obtain ⟨x5, e_x5, h⟩ := hq_nm h
    rw [← e_x5]
    refine hv_lstore_n (L' := [(1, .long x5), (0, .int p1), (3, .int v2)]) dX0_tenTo_14 rfl (Nat.le_of_ble_eq_true rfl) rfl ?_
    obtain ⟨x6, e_x6, h⟩ := hq_nm h
    refine hv_iinc (v := x6) (L' := [(3, .int x6), (1, .long x5), (0, .int p1)]) 2 dX0_tenTo_15 rfl (by rw [e_x6]; rfl) (Nat.le_of_ble_eq_true rfl) rfl ?_
    refine hv_goto (tgt := 4) dX0_tenTo_18 (by decide) ?_
    refine hv_sub [2, 1, 0] rfl ?_
    exact hrc _ _ h
theorem wk_x_tenTo_L4 {l : Launch} {Gd : hk_G} {st : hk_St} {p1 : Int32} {r : Int64} {e0 : Int64 → Option (Int64)} (he0 : ∀ (v3 : Int64), e0 v3 = some r → hk_V Gd (N_x_tenTo l) (hk_end Gd st (some (.long r)) st) 21 [(1, .long v3)] [] st) : ∀ (n : Nat) (v1 : Int64) (v2 : Int32), x_tenTo_L4 p1 e0 n v1 v2 = some r → hk_V Gd (N_x_tenTo l) (hk_end Gd st (some (.long r)) st) 4 [(0, .int p1), (1, .long v1), (3, .int v2)] [] st := by
  intro n
  induction n with
  | zero => intro v1 v2 h; cases h
  | succ n ih => intro v1 v2 h; exact wk_x_tenTo_L4b  ih he0 h
set_option maxHeartbeats 4000000 in
theorem wk_x_tenTo {l : Launch} {Gd : hk_G} {st : hk_St} {p1 : Int32} {r : Int64} (h : x_tenTo p1 = some r) : hk_Met Gd l yX0_tenTo cX0_tenTo 4 (some .long) 0 0 [.int p1] st (some (.long r)) st := by
  refine hk_start "HeadReckons" false (by decide +kernel) rfl (by decide) (Nat.le_of_ble_eq_true rfl) ?_
  show hk_V Gd (N_x_tenTo l) (hk_end Gd st (some (.long r)) st) 0 [(0, .int p1)] [] st
  unfold x_tenTo at h
  refine hv_lconst (v := 1) dX0_tenTo_0 (by decide) ?_
  refine hv_lstore_n (L' := [(1, .long (1 : Int64)), (0, .int p1)]) dX0_tenTo_1 rfl (Nat.le_of_ble_eq_true rfl) rfl ?_
  refine hv_iconst (v := 0) dX0_tenTo_2 (by decide) ?_
  refine hv_istore_n (L' := [(3, .int (0 : Int32)), (1, .long (1 : Int64)), (0, .int p1)]) dX0_tenTo_3 rfl (Nat.le_of_ble_eq_true rfl) rfl ?_
  refine hv_sub [2, 1, 0] rfl ?_
  refine wk_x_tenTo_L4  ?_ hk_F _ _ h
  · intro v3 h
    refine hv_lload_n 0 dX0_tenTo_21 rfl rfl ?_
    have h := Option.some.inj h
    subst h
    exact hv_lret rfl dX0_tenTo_22
def xActs_left_L49b (th : Nat) (p1 : Int64) (p2 : Int64) (v12 : Int64) (v13 : Int64) (e0 : hk_St → Option hk_St) (rc : Int64 → hk_St → Option hk_St) (v14 : Int64) (s15 : hk_St) : Option hk_St :=
  if v14 ≤ (0 : Int64) then
    e0 s15
  else
  hk_gd (decide (¬ v14 = 0)) <|
  if ((p2 / v14) - (p2 / v14) / (10 : Int64) * (10 : Int64)) ≤ (0 : Int64) then
    hk_nm (v14 / (10 : Int64)) fun x20 =>
    rc x20 s15
  else
  hk_gd (decide (¬ v14 = 0)) <|
  (xActs_look th v13 ((p2 / v14) - (p2 / v14) / (10 : Int64) * (10 : Int64)) (v12 * v14) s15).bind fun s22 =>
  hk_gd (hk_bf [2] s15 th) <|
  hk_nm (v14 / (10 : Int64)) fun x24 =>
  rc x24 s22
def xActs_left_L49 (th : Nat) (p1 : Int64) (p2 : Int64) (v12 : Int64) (v13 : Int64) (e0 : hk_St → Option hk_St) : Nat → Int64 → hk_St → Option hk_St
  | 0 => fun _ _ => none
  | n + 1 => xActs_left_L49b th p1 p2 v12 v13 e0 (xActs_left_L49 th p1 p2 v12 v13 e0 n)
def xActs_left_L11b (th : Nat) (p1 : Int64) (p2 : Int64) (e0 : hk_St → Option hk_St) (rc : Int64 → hk_St → Option hk_St) (v3 : Int64) (s4 : hk_St) : Option hk_St :=
  if v3 ≤ (0 : Int64) then
    e0 s4
  else
  hk_gd (decide (¬ v3 = 0)) <|
  hk_nm ((p1 / v3) - (p1 / v3) / (10 : Int64) * (10 : Int64)) fun x8 =>
  if x8 = (0 : Int64) then
    hk_nm (v3 / (10 : Int64)) fun x26 =>
  rc x26 s4
  else
  (x_sizeOf p2).bind fun x10 =>
    (x_tenTo (x10 - (1 : Int32))).bind fun x11 =>
    xActs_left_L49 th p1 p2 v3 x8 (fun (s16 : hk_St) =>
      hk_nm (v3 / (10 : Int64)) fun x25 =>
      rc x25 s16) hk_F x11 s4
def xActs_left_L11 (th : Nat) (p1 : Int64) (p2 : Int64) (e0 : hk_St → Option hk_St) : Nat → Int64 → hk_St → Option hk_St
  | 0 => fun _ _ => none
  | n + 1 => xActs_left_L11b th p1 p2 e0 (xActs_left_L11 th p1 p2 e0 n)
def xActs_left (th : Nat) (p1 : Int64) (p2 : Int64) (s0 : hk_St) : Option hk_St :=
  (x_sizeOf p1).bind fun x1 =>
  (x_tenTo (x1 - (1 : Int32))).bind fun x2 =>
  xActs_left_L11 th p1 p2  (fun (s5 : hk_St) =>
    some s5) hk_F x2 s0
abbrev N_xActs_left (l : Launch) : hk_N := (l, cX2_left, "HeadReckons$Acts", 11, none, 3, 76, false)
set_option maxHeartbeats 4000000 in
theorem wk_xActs_left_L49b {l : Launch} {Gd : hk_G} {th : Nat} {p1 : Int64} {p2 : Int64} {s0 : hk_St} {fin : hk_St} {v12 : Int64} {v13 : Int64} {e0 : hk_St → Option hk_St} {rc : Int64 → hk_St → Option hk_St} (hrc : ∀ (v14 : Int64) (s15 : hk_St), rc v14 s15 = some fin → hk_V Gd (N_xActs_left l) (hk_end Gd s0 none fin) 49 [(0, .ref th), (1, .long p1), (3, .long p2), (5, .long v12), (7, .long v13), (9, .long v14)] [] s15) (he0 : ∀ (s16 : hk_St), e0 s16 = some fin → hk_V Gd (N_xActs_left l) (hk_end Gd s0 none fin) 99 [(0, .ref th), (1, .long p1), (3, .long p2), (5, .long v12)] [] s16) {v14 : Int64} {s15 : hk_St} (h : xActs_left_L49b th p1 p2 v12 v13 e0 rc v14 s15 = some fin) : hk_V Gd (N_xActs_left l) (hk_end Gd s0 none fin) 49 [(0, .ref th), (1, .long p1), (3, .long p2), (5, .long v12), (7, .long v13), (9, .long v14)] [] s15 := by
  unfold xActs_left_L49b at h
  refine hv_lload 5 dX2_left_49 rfl ?_
  refine hv_lconst (v := 0) dX2_left_51 (by decide) ?_
  refine hv_lcmp_le (tgt := 99) dX2_left_52 dX2_left_53 (by decide) (fun c17 => ?_) (fun c17 => ?_)
  · replace h := hq_ip c17 h
    refine hv_sub [0, 1, 2, 3] rfl ?_
    exact he0 _ h
  · replace h := hq_in c17 h
    refine hv_lload_n 2 dX2_left_56 rfl rfl ?_
    refine hv_lload 5 dX2_left_57 rfl ?_
    obtain ⟨g18, h⟩ := hq_gd h
    refine hv_ldiv (of_decide_eq_true g18) dX2_left_59 ?_
    refine hv_ldc2 q687 dX2_left_60 ?_
    refine hv_lrem (by decide) dX2_left_63 ?_
    refine hv_lconst (v := 0) dX2_left_64 (by decide) ?_
    refine hv_lcmp_le (tgt := 88) dX2_left_65 dX2_left_66 (by decide) (fun c19 => ?_) (fun c19 => ?_)
    · replace h := hq_ip c19 h
      refine hv_lload 5 dX2_left_88 rfl ?_
      refine hv_ldc2 q687 dX2_left_90 ?_
      refine hv_ldiv (by decide) dX2_left_93 ?_
      obtain ⟨x20, e_x20, h⟩ := hq_nm h
      rw [← e_x20]
      refine hv_lstore (L' := [(9, .long x20), (0, .ref th), (1, .long p1), (3, .long p2), (5, .long v12), (7, .long v13)]) dX2_left_94 (Nat.le_of_ble_eq_true rfl) rfl ?_
      refine hv_goto (tgt := 49) dX2_left_96 (by decide) ?_
      refine hv_sub [1, 2, 3, 4, 5, 0] rfl ?_
      exact hrc _ _ h
    · replace h := hq_in c19 h
      refine hv_aload_n 0 dX2_left_69 rfl rfl ?_
      refine hv_lload 4 dX2_left_70 rfl ?_
      refine hv_lload_n 2 dX2_left_72 rfl rfl ?_
      refine hv_lload 5 dX2_left_73 rfl ?_
      obtain ⟨g21, h⟩ := hq_gd h
      refine hv_ldiv (of_decide_eq_true g21) dX2_left_75 ?_
      refine hv_ldc2 q687 dX2_left_76 ?_
      refine hv_lrem (by decide) dX2_left_79 ?_
      refine hv_lload 3 dX2_left_80 rfl ?_
      refine hv_lload 5 dX2_left_82 rfl ?_
      refine hv_lmul dX2_left_84 ?_
      obtain ⟨s22, e_s22, h⟩ := hq_ob h
      obtain ⟨g23, h⟩ := hq_gd h
      refine hv_callV [.long v13, .long ((p2 / v14) - (p2 / v14) / (10 : Int64) * (10 : Int64)), .long (v12 * v14)] [] [] (wk_xActs_look e_s22) cs_X2_68 g23 rfl ⟨Nat.le_of_ble_eq_true rfl, Nat.le_of_ble_eq_true rfl⟩ rfl (Nat.le_of_ble_eq_true rfl) rfl dX2_left_85 ?_
      refine hv_lload 5 dX2_left_88 rfl ?_
      refine hv_ldc2 q687 dX2_left_90 ?_
      refine hv_ldiv (by decide) dX2_left_93 ?_
      obtain ⟨x24, e_x24, h⟩ := hq_nm h
      rw [← e_x24]
      refine hv_lstore (L' := [(9, .long x24), (0, .ref th), (1, .long p1), (3, .long p2), (5, .long v12), (7, .long v13)]) dX2_left_94 (Nat.le_of_ble_eq_true rfl) rfl ?_
      refine hv_goto (tgt := 49) dX2_left_96 (by decide) ?_
      refine hv_sub [1, 2, 3, 4, 5, 0] rfl ?_
      exact hrc _ _ h
theorem wk_xActs_left_L49 {l : Launch} {Gd : hk_G} {th : Nat} {p1 : Int64} {p2 : Int64} {s0 : hk_St} {fin : hk_St} {v12 : Int64} {v13 : Int64} {e0 : hk_St → Option hk_St} (he0 : ∀ (s16 : hk_St), e0 s16 = some fin → hk_V Gd (N_xActs_left l) (hk_end Gd s0 none fin) 99 [(0, .ref th), (1, .long p1), (3, .long p2), (5, .long v12)] [] s16) : ∀ (n : Nat) (v14 : Int64) (s15 : hk_St), xActs_left_L49 th p1 p2 v12 v13 e0 n v14 s15 = some fin → hk_V Gd (N_xActs_left l) (hk_end Gd s0 none fin) 49 [(0, .ref th), (1, .long p1), (3, .long p2), (5, .long v12), (7, .long v13), (9, .long v14)] [] s15 := by
  intro n
  induction n with
  | zero => intro v14 s15 h; cases h
  | succ n ih => intro v14 s15 h; exact wk_xActs_left_L49b  ih he0 h
set_option maxHeartbeats 4000000 in
theorem wk_xActs_left_L11b {l : Launch} {Gd : hk_G} {th : Nat} {p1 : Int64} {p2 : Int64} {s0 : hk_St} {fin : hk_St} {e0 : hk_St → Option hk_St} {rc : Int64 → hk_St → Option hk_St} (hrc : ∀ (v3 : Int64) (s4 : hk_St), rc v3 s4 = some fin → hk_V Gd (N_xActs_left l) (hk_end Gd s0 none fin) 11 [(0, .ref th), (1, .long p1), (3, .long p2), (5, .long v3)] [] s4) (he0 : ∀ (s5 : hk_St), e0 s5 = some fin → hk_V Gd (N_xActs_left l) (hk_end Gd s0 none fin) 110 [] [] s5) {v3 : Int64} {s4 : hk_St} (h : xActs_left_L11b th p1 p2 e0 rc v3 s4 = some fin) : hk_V Gd (N_xActs_left l) (hk_end Gd s0 none fin) 11 [(0, .ref th), (1, .long p1), (3, .long p2), (5, .long v3)] [] s4 := by
  unfold xActs_left_L11b at h
  refine hv_lload 3 dX2_left_11 rfl ?_
  refine hv_lconst (v := 0) dX2_left_13 (by decide) ?_
  refine hv_lcmp_le (tgt := 110) dX2_left_14 dX2_left_15 (by decide) (fun c6 => ?_) (fun c6 => ?_)
  · replace h := hq_ip c6 h
    refine hv_sub [] rfl ?_
    exact he0 _ h
  · replace h := hq_in c6 h
    refine hv_lload_n 1 dX2_left_18 rfl rfl ?_
    refine hv_lload 3 dX2_left_19 rfl ?_
    obtain ⟨g7, h⟩ := hq_gd h
    refine hv_ldiv (of_decide_eq_true g7) dX2_left_21 ?_
    refine hv_ldc2 q687 dX2_left_22 ?_
    refine hv_lrem (by decide) dX2_left_25 ?_
    obtain ⟨x8, e_x8, h⟩ := hq_nm h
    rw [← e_x8]
    refine hv_lstore (L' := [(7, .long x8), (0, .ref th), (1, .long p1), (3, .long p2), (5, .long v3)]) dX2_left_26 (Nat.le_of_ble_eq_true rfl) rfl ?_
    refine hv_lload 0 dX2_left_28 rfl ?_
    refine hv_lconst (v := 0) dX2_left_30 (by decide) ?_
    refine hv_lcmp_ne (tgt := 38) dX2_left_31 dX2_left_32 (by decide) (fun c9 => ?_) (fun c9 => ?_)
    · replace h := hq_in c9 h
      refine hv_lload_n 3 dX2_left_38 rfl rfl ?_
      obtain ⟨x10, e_x10, h⟩ := hq_ob h
      refine hv_callSN [.long p2] [] [.int x10] (wk_x_sizeOf e_x10) cs_X2_96 rfl ⟨Nat.le_of_ble_eq_true rfl, Nat.le_of_ble_eq_true rfl⟩ rfl (Nat.le_of_ble_eq_true rfl) rfl dX2_left_39 ?_
      refine hv_iconst (v := 1) dX2_left_42 (by decide) ?_
      refine hv_isub dX2_left_43 ?_
      obtain ⟨x11, e_x11, h⟩ := hq_ob h
      refine hv_callSN [.int (x10 - (1 : Int32))] [] [.long x11] (wk_x_tenTo e_x11) cs_X2_117 rfl ⟨Nat.le_of_ble_eq_true rfl, Nat.le_of_ble_eq_true rfl⟩ rfl (Nat.le_of_ble_eq_true rfl) rfl dX2_left_44 ?_
      refine hv_lstore (L' := [(9, .long x11), (7, .long x8), (0, .ref th), (1, .long p1), (3, .long p2), (5, .long v3)]) dX2_left_47 (Nat.le_of_ble_eq_true rfl) rfl ?_
      refine hv_sub [2, 3, 4, 5, 1, 0] rfl ?_
      refine wk_xActs_left_L49  ?_ hk_F _ _ h
      · intro s16 h
        refine hv_lload 3 dX2_left_99 rfl ?_
        refine hv_ldc2 q687 dX2_left_101 ?_
        refine hv_ldiv (by decide) dX2_left_104 ?_
        obtain ⟨x25, e_x25, h⟩ := hq_nm h
        rw [← e_x25]
        refine hv_lstore (L' := [(5, .long x25), (0, .ref th), (1, .long p1), (3, .long p2)]) dX2_left_105 (Nat.le_of_ble_eq_true rfl) rfl ?_
        refine hv_goto (tgt := 11) dX2_left_107 (by decide) ?_
        refine hv_sub [1, 2, 3, 0] rfl ?_
        exact hrc _ _ h
    · replace h := hq_ip c9 h
      refine hv_goto (tgt := 99) dX2_left_35 (by decide) ?_
      refine hv_lload 4 dX2_left_99 rfl ?_
      refine hv_ldc2 q687 dX2_left_101 ?_
      refine hv_ldiv (by decide) dX2_left_104 ?_
      obtain ⟨x26, e_x26, h⟩ := hq_nm h
      rw [← e_x26]
      refine hv_lstore (L' := [(5, .long x26), (7, .long x8), (0, .ref th), (1, .long p1), (3, .long p2)]) dX2_left_105 (Nat.le_of_ble_eq_true rfl) rfl ?_
      refine hv_goto (tgt := 11) dX2_left_107 (by decide) ?_
      refine hv_sub [2, 3, 4, 0] rfl ?_
      exact hrc _ _ h
theorem wk_xActs_left_L11 {l : Launch} {Gd : hk_G} {th : Nat} {p1 : Int64} {p2 : Int64} {s0 : hk_St} {fin : hk_St} {e0 : hk_St → Option hk_St} (he0 : ∀ (s5 : hk_St), e0 s5 = some fin → hk_V Gd (N_xActs_left l) (hk_end Gd s0 none fin) 110 [] [] s5) : ∀ (n : Nat) (v3 : Int64) (s4 : hk_St), xActs_left_L11 th p1 p2 e0 n v3 s4 = some fin → hk_V Gd (N_xActs_left l) (hk_end Gd s0 none fin) 11 [(0, .ref th), (1, .long p1), (3, .long p2), (5, .long v3)] [] s4 := by
  intro n
  induction n with
  | zero => intro v3 s4 h; cases h
  | succ n ih => intro v3 s4 h; exact wk_xActs_left_L11b  ih he0 h
set_option maxHeartbeats 4000000 in
theorem wk_xActs_left {l : Launch} {Gd : hk_G} {th : Nat} {p1 : Int64} {p2 : Int64} {s0 : hk_St} {fin : hk_St} (h : xActs_left th p1 p2 s0 = some fin) : hk_Met Gd l yX2_left cX2_left 11 none 3 76 [.ref th, .long p1, .long p2] s0 none fin := by
  refine hk_start "HeadReckons$Acts" false (by decide +kernel) rfl (by decide) (Nat.le_of_ble_eq_true rfl) ?_
  show hk_V Gd (N_xActs_left l) (hk_end Gd s0 none fin) 0 [(0, .ref th), (1, .long p1), (3, .long p2)] [] s0
  unfold xActs_left at h
  refine hv_lload_n 1 dX2_left_0 rfl rfl ?_
  obtain ⟨x1, e_x1, h⟩ := hq_ob h
  refine hv_callSN [.long p1] [] [.int x1] (wk_x_sizeOf e_x1) cs_X2_96 rfl ⟨Nat.le_of_ble_eq_true rfl, Nat.le_of_ble_eq_true rfl⟩ rfl (Nat.le_of_ble_eq_true rfl) rfl dX2_left_1 ?_
  refine hv_iconst (v := 1) dX2_left_4 (by decide) ?_
  refine hv_isub dX2_left_5 ?_
  obtain ⟨x2, e_x2, h⟩ := hq_ob h
  refine hv_callSN [.int (x1 - (1 : Int32))] [] [.long x2] (wk_x_tenTo e_x2) cs_X2_117 rfl ⟨Nat.le_of_ble_eq_true rfl, Nat.le_of_ble_eq_true rfl⟩ rfl (Nat.le_of_ble_eq_true rfl) rfl dX2_left_6 ?_
  refine hv_lstore (L' := [(5, .long x2), (0, .ref th), (1, .long p1), (3, .long p2)]) dX2_left_9 (Nat.le_of_ble_eq_true rfl) rfl ?_
  refine hv_sub [1, 2, 3, 0] rfl ?_
  refine wk_xActs_left_L11  ?_ hk_F _ _ h
  · intro s5 h
    have h := Option.some.inj h
    subst h
    exact hv_vret rfl dX2_left_110
def xActs_hold (th : Nat) (p1 : Int64) (p2 : Int32) (s0 : hk_St) : Option hk_St :=
  (hk_gI [2] 207 s0 th).bind fun x1 =>
  (hk_pI [2] 207 s0 th (x1 + p2)).bind fun s2 =>
  (hk_gR [2] 213 s2 th).bind fun x3 =>
  hk_nn x3 fun a4 =>
  (hk_gR [3] 300 s2 a4).bind fun x5 =>
  hk_nn x5 fun a6 =>
  (hk_lI 0 s2 a6 (2 : Int32)).bind fun x7 =>
  (xActs_act th (2 : Int32) p1 (x7 * p2) (0 : Int64) s2).bind fun s8 =>
  hk_gd (hk_bf [2] s2 th) <|
  some s8
abbrev N_xActs_hold (l : Launch) : hk_N := (l, cX2_hold, "HeadReckons$Acts", 4, none, 2, 50, false)
set_option maxHeartbeats 4000000 in
theorem wk_xActs_hold {l : Launch} {Gd : hk_G} {th : Nat} {p1 : Int64} {p2 : Int32} {s0 : hk_St} {fin : hk_St} (h : xActs_hold th p1 p2 s0 = some fin) : hk_Met Gd l yX2_hold cX2_hold 4 none 2 50 [.ref th, .long p1, .int p2] s0 none fin := by
  refine hk_start "HeadReckons$Acts" false (by decide +kernel) rfl (by decide) (Nat.le_of_ble_eq_true rfl) ?_
  show hk_V Gd (N_xActs_hold l) (hk_end Gd s0 none fin) 0 [(0, .ref th), (1, .long p1), (3, .int p2)] [] s0
  unfold xActs_hold at h
  refine hv_aload_n 0 dX2_hold_0 rfl rfl ?_
  refine hv_dup dX2_hold_1 rfl ?_
  obtain ⟨x1, e_x1, h⟩ := hq_ob h
  refine hv_getI fl_X2_46 e_x1 dX2_hold_2 ?_
  refine hv_iload_n 2 dX2_hold_5 rfl rfl ?_
  refine hv_iadd dX2_hold_6 ?_
  obtain ⟨s2, e_s2, h⟩ := hq_ob h
  refine hv_putI fp_X2_46 e_s2 (fun q => by cases q) dX2_hold_7 ?_
  refine hv_aload_n 0 dX2_hold_10 rfl rfl ?_
  refine hv_iconst (v := 2) dX2_hold_11 (by decide) ?_
  refine hv_lload_n 1 dX2_hold_12 rfl rfl ?_
  refine hv_aload_n 0 dX2_hold_13 rfl rfl ?_
  obtain ⟨x3, e_x3, h⟩ := hq_ob h
  refine hv_getR fl_X2_38 e_x3 dX2_hold_14 ?_
  obtain ⟨a4, e_a4, h⟩ := hq_nn h
  rw [e_a4]
  obtain ⟨x5, e_x5, h⟩ := hq_ob h
  refine hv_getR fl_X2_106 e_x5 dX2_hold_17 ?_
  refine hv_iconst (v := 2) dX2_hold_20 (by decide) ?_
  obtain ⟨a6, e_a6, h⟩ := hq_nn h
  rw [e_a6]
  obtain ⟨x7, e_x7, h⟩ := hq_ob h
  refine hv_iald e_x7 dX2_hold_21 ?_
  refine hv_iload_n 2 dX2_hold_22 rfl rfl ?_
  refine hv_imul dX2_hold_23 ?_
  refine hv_lconst (v := 0) dX2_hold_24 (by decide) ?_
  obtain ⟨s8, e_s8, h⟩ := hq_ob h
  obtain ⟨g9, h⟩ := hq_gd h
  refine hv_callV [.int (2 : Int32), .long p1, .int (x7 * p2), .long (0 : Int64)] [] [] (wk_xActs_act e_s8) cs_X2_113 g9 rfl ⟨Nat.le_of_ble_eq_true rfl, Nat.le_of_ble_eq_true rfl⟩ rfl (Nat.le_of_ble_eq_true rfl) rfl dX2_hold_25 ?_
  have h := Option.some.inj h
  subst h
  exact hv_vret rfl dX2_hold_28
def xActs_right_L6b (th : Nat) (p1 : Int64) (p2 : Int64) (e0 : Int32 → hk_St → Option hk_St) (rc : Int32 → Int64 → hk_St → Option hk_St) (v1 : Int32) (v2 : Int64) (s3 : hk_St) : Option hk_St :=
  if p2 < v2 then
    e0 v1 s3
  else
  hk_gd (decide (¬ v2 = 0)) <|
  hk_nm ((p2 / v2) - (p2 / v2) / (10 : Int64) * (10 : Int64)) fun x8 =>
  if x8 = (0 : Int64) then
    hk_nm (v2 * (10 : Int64)) fun x31 =>
  rc v1 x31 s3
  else
  (xActs_begin th s3).bind fun s10 =>
    hk_gd (hk_bf [2] s3 th) <|
    (xActs_left th p1 (x8 * v2) s10).bind fun s12 =>
    hk_gd (hk_bf [2] s10 th) <|
    (hk_gR [2] 214 s12 th).bind fun x14 =>
    (hk_gL [2] 210 s12 th).bind fun x15 =>
    hk_nn x14 fun a16 =>
    (hk_tL s12 a16 v1 x15).bind fun s17 =>
    (xActs_begin th s17).bind fun s18 =>
    hk_gd (hk_bf [2] s17 th) <|
    (hk_gR [2] 214 s18 th).bind fun x20 =>
    hk_nn x20 fun a21 =>
    (hk_lL s18 a21 v1).bind fun x22 =>
    (hk_gR [2] 214 s18 th).bind fun x23 =>
    hk_nn x23 fun a24 =>
    (hk_lL s18 a24 v1).bind fun x25 =>
    (x_sizeOf x25).bind fun x26 =>
    (xActs_hold th x22 x26 s18).bind fun s27 =>
    hk_gd (hk_bf [2] s18 th) <|
    hk_nm (v1 + (1 : Int32)) fun x29 =>
    hk_nm (v2 * (10 : Int64)) fun x30 =>
    rc x29 x30 s27
def xActs_right_L6 (th : Nat) (p1 : Int64) (p2 : Int64) (e0 : Int32 → hk_St → Option hk_St) : Nat → Int32 → Int64 → hk_St → Option hk_St
  | 0 => fun _ _ _ => none
  | n + 1 => xActs_right_L6b th p1 p2 e0 (xActs_right_L6 th p1 p2 e0 n)
def xActs_right_L135b (th : Nat) (p1 : Int64) (p2 : Int64) (v43 : Int32) (e0 : hk_St → Option hk_St) (rc : Int32 → hk_St → Option hk_St) (v44 : Int32) (s45 : hk_St) : Option hk_St :=
  if v43 ≤ v44 then
    e0 s45
  else
  (hk_gI [2] 207 s45 th).bind fun x48 =>
  (hk_gR [2] 214 s45 th).bind fun x49 =>
  hk_nn x49 fun a50 =>
  (hk_lL s45 a50 v44).bind fun x51 =>
  (x_sizeOf x51).bind fun x52 =>
  (hk_pI [2] 207 s45 th (x48 - x52)).bind fun s53 =>
  (hk_gL [2] 210 s53 th).bind fun x54 =>
  (hk_gR [2] 214 s53 th).bind fun x55 =>
  hk_nn x55 fun a56 =>
  (hk_lL s53 a56 v44).bind fun x57 =>
  (hk_pL [2] 210 s53 th (x54 + x57)).bind fun s58 =>
  (hk_gL [2] 210 s58 th).bind fun x59 =>
  (hk_gR [2] 213 s58 th).bind fun x60 =>
  hk_nn x60 fun a61 =>
  (hk_gR [3] 300 s58 a61).bind fun x62 =>
  hk_nn x62 fun a63 =>
  (hk_lI 0 s58 a63 (1 : Int32)).bind fun x64 =>
  (hk_gL [2] 210 s58 th).bind fun x65 =>
  (x_sizeOf x65).bind fun x66 =>
  (xActs_act th (1 : Int32) x59 (x64 * x66) (0 : Int64) s58).bind fun s67 =>
  hk_gd (hk_bf [2] s58 th) <|
  hk_nm (v44 + (1 : Int32)) fun x69 =>
  rc x69 s67
def xActs_right_L135 (th : Nat) (p1 : Int64) (p2 : Int64) (v43 : Int32) (e0 : hk_St → Option hk_St) : Nat → Int32 → hk_St → Option hk_St
  | 0 => fun _ _ => none
  | n + 1 => xActs_right_L135b th p1 p2 v43 e0 (xActs_right_L135 th p1 p2 v43 e0 n)
def xActs_right (th : Nat) (p1 : Int64) (p2 : Int64) (s0 : hk_St) : Option hk_St :=
  xActs_right_L6 th p1 p2  (fun (v4 : Int32) (s5 : hk_St) =>
    if (2 : Int32) ≤ v4 then
      (hk_gI [2] 207 s5 th).bind fun x33 =>
      (hk_gR [2] 214 s5 th).bind fun x34 =>
      hk_nn x34 fun a35 =>
      (hk_lL s5 a35 (0 : Int32)).bind fun x36 =>
      (x_sizeOf x36).bind fun x37 =>
      (hk_pI [2] 207 s5 th (x33 - x37)).bind fun s38 =>
      (hk_gR [2] 214 s38 th).bind fun x39 =>
      hk_nn x39 fun a40 =>
      (hk_lL s38 a40 (0 : Int32)).bind fun x41 =>
      (hk_pL [2] 210 s38 th x41).bind fun s42 =>
      xActs_right_L135 th p1 p2 v4 (fun (s46 : hk_St) =>
        some s46) hk_F (1 : Int32) s42
    else
    some s5) hk_F (0 : Int32) (1 : Int64) s0
abbrev N_xActs_right (l : Launch) : hk_N := (l, cX2_right, "HeadReckons$Acts", 10, none, 4, 106, false)
set_option maxHeartbeats 4000000 in
theorem wk_xActs_right_L6b {l : Launch} {Gd : hk_G} {th : Nat} {p1 : Int64} {p2 : Int64} {s0 : hk_St} {fin : hk_St} {e0 : Int32 → hk_St → Option hk_St} {rc : Int32 → Int64 → hk_St → Option hk_St} (hrc : ∀ (v1 : Int32) (v2 : Int64) (s3 : hk_St), rc v1 v2 s3 = some fin → hk_V Gd (N_xActs_right l) (hk_end Gd s0 none fin) 6 [(0, .ref th), (1, .long p1), (3, .long p2), (5, .int v1), (6, .long v2)] [] s3) (he0 : ∀ (v4 : Int32) (s5 : hk_St), e0 v4 s5 = some fin → hk_V Gd (N_xActs_right l) (hk_end Gd s0 none fin) 97 [(0, .ref th), (5, .int v4)] [] s5) {v1 : Int32} {v2 : Int64} {s3 : hk_St} (h : xActs_right_L6b th p1 p2 e0 rc v1 v2 s3 = some fin) : hk_V Gd (N_xActs_right l) (hk_end Gd s0 none fin) 6 [(0, .ref th), (1, .long p1), (3, .long p2), (5, .int v1), (6, .long v2)] [] s3 := by
  unfold xActs_right_L6b at h
  refine hv_lload 4 dX2_right_6 rfl ?_
  refine hv_lload_n 2 dX2_right_8 rfl rfl ?_
  refine hv_lcmp_gt (tgt := 97) dX2_right_9 dX2_right_10 (by decide) (fun c6 => ?_) (fun c6 => ?_)
  · replace h := hq_ip c6 h
    refine hv_sub [0, 3] rfl ?_
    exact he0 _ _ h
  · replace h := hq_in c6 h
    refine hv_lload_n 2 dX2_right_13 rfl rfl ?_
    refine hv_lload 4 dX2_right_14 rfl ?_
    obtain ⟨g7, h⟩ := hq_gd h
    refine hv_ldiv (of_decide_eq_true g7) dX2_right_16 ?_
    refine hv_ldc2 q687 dX2_right_17 ?_
    refine hv_lrem (by decide) dX2_right_20 ?_
    obtain ⟨x8, e_x8, h⟩ := hq_nm h
    rw [← e_x8]
    refine hv_lstore (L' := [(8, .long x8), (0, .ref th), (1, .long p1), (3, .long p2), (5, .int v1), (6, .long v2)]) dX2_right_21 (Nat.le_of_ble_eq_true rfl) rfl ?_
    refine hv_lload 0 dX2_right_23 rfl ?_
    refine hv_lconst (v := 0) dX2_right_25 (by decide) ?_
    refine hv_lcmp_ne (tgt := 33) dX2_right_26 dX2_right_27 (by decide) (fun c9 => ?_) (fun c9 => ?_)
    · replace h := hq_in c9 h
      refine hv_aload_n 1 dX2_right_33 rfl rfl ?_
      obtain ⟨s10, e_s10, h⟩ := hq_ob h
      obtain ⟨g11, h⟩ := hq_gd h
      refine hv_callV [] [] [] (wk_xActs_begin e_s10) cs_X2_59 g11 rfl ⟨Nat.le_of_ble_eq_true rfl, Nat.le_of_ble_eq_true rfl⟩ rfl (Nat.le_of_ble_eq_true rfl) rfl dX2_right_34 ?_
      refine hv_aload_n 1 dX2_right_37 rfl rfl ?_
      refine hv_lload_n 2 dX2_right_38 rfl rfl ?_
      refine hv_lload 0 dX2_right_39 rfl ?_
      refine hv_lload 5 dX2_right_41 rfl ?_
      refine hv_lmul dX2_right_43 ?_
      obtain ⟨s12, e_s12, h⟩ := hq_ob h
      obtain ⟨g13, h⟩ := hq_gd h
      refine hv_callV [.long p1, .long (x8 * v2)] [] [] (wk_xActs_left e_s12) cs_X2_72 g13 rfl ⟨Nat.le_of_ble_eq_true rfl, Nat.le_of_ble_eq_true rfl⟩ rfl (Nat.le_of_ble_eq_true rfl) rfl dX2_right_44 ?_
      refine hv_aload_n 1 dX2_right_47 rfl rfl ?_
      obtain ⟨x14, e_x14, h⟩ := hq_ob h
      refine hv_getR fl_X2_35 e_x14 dX2_right_48 ?_
      refine hv_iload 4 dX2_right_51 rfl ?_
      refine hv_aload_n 1 dX2_right_53 rfl rfl ?_
      obtain ⟨x15, e_x15, h⟩ := hq_ob h
      refine hv_getL fl_X2_89 e_x15 dX2_right_54 ?_
      obtain ⟨a16, e_a16, h⟩ := hq_nn h
      rw [e_a16]
      obtain ⟨s17, e_s17, h⟩ := hq_ob h
      refine hv_last e_s17 dX2_right_57 ?_
      refine hv_aload_n 1 dX2_right_58 rfl rfl ?_
      obtain ⟨s18, e_s18, h⟩ := hq_ob h
      obtain ⟨g19, h⟩ := hq_gd h
      refine hv_callV [] [] [] (wk_xActs_begin e_s18) cs_X2_59 g19 rfl ⟨Nat.le_of_ble_eq_true rfl, Nat.le_of_ble_eq_true rfl⟩ rfl (Nat.le_of_ble_eq_true rfl) rfl dX2_right_59 ?_
      refine hv_aload_n 1 dX2_right_62 rfl rfl ?_
      refine hv_aload_n 1 dX2_right_63 rfl rfl ?_
      obtain ⟨x20, e_x20, h⟩ := hq_ob h
      refine hv_getR fl_X2_35 e_x20 dX2_right_64 ?_
      refine hv_iload 4 dX2_right_67 rfl ?_
      obtain ⟨a21, e_a21, h⟩ := hq_nn h
      rw [e_a21]
      obtain ⟨x22, e_x22, h⟩ := hq_ob h
      refine hv_lald e_x22 dX2_right_69 ?_
      refine hv_aload_n 1 dX2_right_70 rfl rfl ?_
      obtain ⟨x23, e_x23, h⟩ := hq_ob h
      refine hv_getR fl_X2_35 e_x23 dX2_right_71 ?_
      refine hv_iload 4 dX2_right_74 rfl ?_
      obtain ⟨a24, e_a24, h⟩ := hq_nn h
      rw [e_a24]
      obtain ⟨x25, e_x25, h⟩ := hq_ob h
      refine hv_lald e_x25 dX2_right_76 ?_
      obtain ⟨x26, e_x26, h⟩ := hq_ob h
      refine hv_callSN [.long x25] [.long x22, .ref th] [.int x26, .long x22, .ref th] (wk_x_sizeOf e_x26) cs_X2_96 rfl ⟨Nat.le_of_ble_eq_true rfl, Nat.le_of_ble_eq_true rfl⟩ rfl (Nat.le_of_ble_eq_true rfl) rfl dX2_right_77 ?_
      obtain ⟨s27, e_s27, h⟩ := hq_ob h
      obtain ⟨g28, h⟩ := hq_gd h
      refine hv_callV [.long x22, .int x26] [] [] (wk_xActs_hold e_s27) cs_X2_123 g28 rfl ⟨Nat.le_of_ble_eq_true rfl, Nat.le_of_ble_eq_true rfl⟩ rfl (Nat.le_of_ble_eq_true rfl) rfl dX2_right_80 ?_
      obtain ⟨x29, e_x29, h⟩ := hq_nm h
      refine hv_iinc (v := x29) (L' := [(5, .int x29), (8, .long x8), (0, .ref th), (1, .long p1), (3, .long p2), (6, .long v2)]) 4 dX2_right_83 rfl (by rw [e_x29]; rfl) (Nat.le_of_ble_eq_true rfl) rfl ?_
      refine hv_lload 5 dX2_right_86 rfl ?_
      refine hv_ldc2 q687 dX2_right_88 ?_
      refine hv_lmul dX2_right_91 ?_
      obtain ⟨x30, e_x30, h⟩ := hq_nm h
      rw [← e_x30]
      refine hv_lstore (L' := [(6, .long x30), (5, .int x29), (8, .long x8), (0, .ref th), (1, .long p1), (3, .long p2)]) dX2_right_92 (Nat.le_of_ble_eq_true rfl) rfl ?_
      refine hv_goto (tgt := 6) dX2_right_94 (by decide) ?_
      refine hv_sub [3, 4, 5, 1, 0] rfl ?_
      exact hrc _ _ _ h
    · replace h := hq_ip c9 h
      refine hv_goto (tgt := 86) dX2_right_30 (by decide) ?_
      refine hv_lload 5 dX2_right_86 rfl ?_
      refine hv_ldc2 q687 dX2_right_88 ?_
      refine hv_lmul dX2_right_91 ?_
      obtain ⟨x31, e_x31, h⟩ := hq_nm h
      rw [← e_x31]
      refine hv_lstore (L' := [(6, .long x31), (8, .long x8), (0, .ref th), (1, .long p1), (3, .long p2), (5, .int v1)]) dX2_right_92 (Nat.le_of_ble_eq_true rfl) rfl ?_
      refine hv_goto (tgt := 6) dX2_right_94 (by decide) ?_
      refine hv_sub [2, 3, 4, 5, 0] rfl ?_
      exact hrc _ _ _ h
theorem wk_xActs_right_L6 {l : Launch} {Gd : hk_G} {th : Nat} {p1 : Int64} {p2 : Int64} {s0 : hk_St} {fin : hk_St} {e0 : Int32 → hk_St → Option hk_St} (he0 : ∀ (v4 : Int32) (s5 : hk_St), e0 v4 s5 = some fin → hk_V Gd (N_xActs_right l) (hk_end Gd s0 none fin) 97 [(0, .ref th), (5, .int v4)] [] s5) : ∀ (n : Nat) (v1 : Int32) (v2 : Int64) (s3 : hk_St), xActs_right_L6 th p1 p2 e0 n v1 v2 s3 = some fin → hk_V Gd (N_xActs_right l) (hk_end Gd s0 none fin) 6 [(0, .ref th), (1, .long p1), (3, .long p2), (5, .int v1), (6, .long v2)] [] s3 := by
  intro n
  induction n with
  | zero => intro v1 v2 s3 h; cases h
  | succ n ih => intro v1 v2 s3 h; exact wk_xActs_right_L6b  ih he0 h
set_option maxHeartbeats 4000000 in
theorem wk_xActs_right_L135b {l : Launch} {Gd : hk_G} {th : Nat} {p1 : Int64} {p2 : Int64} {s0 : hk_St} {fin : hk_St} {v43 : Int32} {e0 : hk_St → Option hk_St} {rc : Int32 → hk_St → Option hk_St} (hrc : ∀ (v44 : Int32) (s45 : hk_St), rc v44 s45 = some fin → hk_V Gd (N_xActs_right l) (hk_end Gd s0 none fin) 135 [(0, .ref th), (5, .int v43), (6, .int v44)] [] s45) (he0 : ∀ (s46 : hk_St), e0 s46 = some fin → hk_V Gd (N_xActs_right l) (hk_end Gd s0 none fin) 210 [] [] s46) {v44 : Int32} {s45 : hk_St} (h : xActs_right_L135b th p1 p2 v43 e0 rc v44 s45 = some fin) : hk_V Gd (N_xActs_right l) (hk_end Gd s0 none fin) 135 [(0, .ref th), (5, .int v43), (6, .int v44)] [] s45 := by
  unfold xActs_right_L135b at h
  refine hv_iload 2 dX2_right_135 rfl ?_
  refine hv_iload 1 dX2_right_137 rfl ?_
  refine hv_icmp_ge (tgt := 210) dX2_right_139 (by decide) (fun c47 => ?_) (fun c47 => ?_)
  · replace h := hq_ip c47 h
    refine hv_sub [] rfl ?_
    exact he0 _ h
  · replace h := hq_in c47 h
    refine hv_aload_n 0 dX2_right_142 rfl rfl ?_
    refine hv_dup dX2_right_143 rfl ?_
    obtain ⟨x48, e_x48, h⟩ := hq_ob h
    refine hv_getI fl_X2_46 e_x48 dX2_right_144 ?_
    refine hv_aload_n 0 dX2_right_147 rfl rfl ?_
    obtain ⟨x49, e_x49, h⟩ := hq_ob h
    refine hv_getR fl_X2_35 e_x49 dX2_right_148 ?_
    refine hv_iload 2 dX2_right_151 rfl ?_
    obtain ⟨a50, e_a50, h⟩ := hq_nn h
    rw [e_a50]
    obtain ⟨x51, e_x51, h⟩ := hq_ob h
    refine hv_lald e_x51 dX2_right_153 ?_
    obtain ⟨x52, e_x52, h⟩ := hq_ob h
    refine hv_callSN [.long x51] [.int x48, .ref th] [.int x52, .int x48, .ref th] (wk_x_sizeOf e_x52) cs_X2_96 rfl ⟨Nat.le_of_ble_eq_true rfl, Nat.le_of_ble_eq_true rfl⟩ rfl (Nat.le_of_ble_eq_true rfl) rfl dX2_right_154 ?_
    refine hv_isub dX2_right_157 ?_
    obtain ⟨s53, e_s53, h⟩ := hq_ob h
    refine hv_putI fp_X2_46 e_s53 (fun q => by cases q) dX2_right_158 ?_
    refine hv_aload_n 0 dX2_right_161 rfl rfl ?_
    refine hv_dup dX2_right_162 rfl ?_
    obtain ⟨x54, e_x54, h⟩ := hq_ob h
    refine hv_getL fl_X2_89 e_x54 dX2_right_163 ?_
    refine hv_aload_n 0 dX2_right_166 rfl rfl ?_
    obtain ⟨x55, e_x55, h⟩ := hq_ob h
    refine hv_getR fl_X2_35 e_x55 dX2_right_167 ?_
    refine hv_iload 2 dX2_right_170 rfl ?_
    obtain ⟨a56, e_a56, h⟩ := hq_nn h
    rw [e_a56]
    obtain ⟨x57, e_x57, h⟩ := hq_ob h
    refine hv_lald e_x57 dX2_right_172 ?_
    refine hv_ladd dX2_right_173 ?_
    obtain ⟨s58, e_s58, h⟩ := hq_ob h
    refine hv_putL fp_X2_89 e_s58 (fun q => by cases q) dX2_right_174 ?_
    refine hv_aload_n 0 dX2_right_177 rfl rfl ?_
    refine hv_iconst (v := 1) dX2_right_178 (by decide) ?_
    refine hv_aload_n 0 dX2_right_179 rfl rfl ?_
    obtain ⟨x59, e_x59, h⟩ := hq_ob h
    refine hv_getL fl_X2_89 e_x59 dX2_right_180 ?_
    refine hv_aload_n 0 dX2_right_183 rfl rfl ?_
    obtain ⟨x60, e_x60, h⟩ := hq_ob h
    refine hv_getR fl_X2_38 e_x60 dX2_right_184 ?_
    obtain ⟨a61, e_a61, h⟩ := hq_nn h
    rw [e_a61]
    obtain ⟨x62, e_x62, h⟩ := hq_ob h
    refine hv_getR fl_X2_106 e_x62 dX2_right_187 ?_
    refine hv_iconst (v := 1) dX2_right_190 (by decide) ?_
    obtain ⟨a63, e_a63, h⟩ := hq_nn h
    rw [e_a63]
    obtain ⟨x64, e_x64, h⟩ := hq_ob h
    refine hv_iald e_x64 dX2_right_191 ?_
    refine hv_aload_n 0 dX2_right_192 rfl rfl ?_
    obtain ⟨x65, e_x65, h⟩ := hq_ob h
    refine hv_getL fl_X2_89 e_x65 dX2_right_193 ?_
    obtain ⟨x66, e_x66, h⟩ := hq_ob h
    refine hv_callSN [.long x65] [.int x64, .long x59, .int (1 : Int32), .ref th] [.int x66, .int x64, .long x59, .int (1 : Int32), .ref th] (wk_x_sizeOf e_x66) cs_X2_96 rfl ⟨Nat.le_of_ble_eq_true rfl, Nat.le_of_ble_eq_true rfl⟩ rfl (Nat.le_of_ble_eq_true rfl) rfl dX2_right_196 ?_
    refine hv_imul dX2_right_199 ?_
    refine hv_lconst (v := 0) dX2_right_200 (by decide) ?_
    obtain ⟨s67, e_s67, h⟩ := hq_ob h
    obtain ⟨g68, h⟩ := hq_gd h
    refine hv_callV [.int (1 : Int32), .long x59, .int (x64 * x66), .long (0 : Int64)] [] [] (wk_xActs_act e_s67) cs_X2_113 g68 rfl ⟨Nat.le_of_ble_eq_true rfl, Nat.le_of_ble_eq_true rfl⟩ rfl (Nat.le_of_ble_eq_true rfl) rfl dX2_right_201 ?_
    obtain ⟨x69, e_x69, h⟩ := hq_nm h
    refine hv_iinc (v := x69) (L' := [(6, .int x69), (0, .ref th), (5, .int v43)]) 2 dX2_right_204 rfl (by rw [e_x69]; rfl) (Nat.le_of_ble_eq_true rfl) rfl ?_
    refine hv_goto (tgt := 135) dX2_right_207 (by decide) ?_
    refine hv_sub [1, 2, 0] rfl ?_
    exact hrc _ _ h
theorem wk_xActs_right_L135 {l : Launch} {Gd : hk_G} {th : Nat} {p1 : Int64} {p2 : Int64} {s0 : hk_St} {fin : hk_St} {v43 : Int32} {e0 : hk_St → Option hk_St} (he0 : ∀ (s46 : hk_St), e0 s46 = some fin → hk_V Gd (N_xActs_right l) (hk_end Gd s0 none fin) 210 [] [] s46) : ∀ (n : Nat) (v44 : Int32) (s45 : hk_St), xActs_right_L135 th p1 p2 v43 e0 n v44 s45 = some fin → hk_V Gd (N_xActs_right l) (hk_end Gd s0 none fin) 135 [(0, .ref th), (5, .int v43), (6, .int v44)] [] s45 := by
  intro n
  induction n with
  | zero => intro v44 s45 h; cases h
  | succ n ih => intro v44 s45 h; exact wk_xActs_right_L135b  ih he0 h
set_option maxHeartbeats 4000000 in
theorem wk_xActs_right {l : Launch} {Gd : hk_G} {th : Nat} {p1 : Int64} {p2 : Int64} {s0 : hk_St} {fin : hk_St} (h : xActs_right th p1 p2 s0 = some fin) : hk_Met Gd l yX2_right cX2_right 10 none 4 106 [.ref th, .long p1, .long p2] s0 none fin := by
  refine hk_start "HeadReckons$Acts" false (by decide +kernel) rfl (by decide) (Nat.le_of_ble_eq_true rfl) ?_
  show hk_V Gd (N_xActs_right l) (hk_end Gd s0 none fin) 0 [(0, .ref th), (1, .long p1), (3, .long p2)] [] s0
  unfold xActs_right at h
  refine hv_iconst (v := 0) dX2_right_0 (by decide) ?_
  refine hv_istore (L' := [(5, .int (0 : Int32)), (0, .ref th), (1, .long p1), (3, .long p2)]) dX2_right_1 (Nat.le_of_ble_eq_true rfl) rfl ?_
  refine hv_lconst (v := 1) dX2_right_3 (by decide) ?_
  refine hv_lstore (L' := [(6, .long (1 : Int64)), (5, .int (0 : Int32)), (0, .ref th), (1, .long p1), (3, .long p2)]) dX2_right_4 (Nat.le_of_ble_eq_true rfl) rfl ?_
  refine hv_sub [2, 3, 4, 1, 0] rfl ?_
  refine wk_xActs_right_L6  ?_ hk_F _ _ _ h
  · intro v4 s5 h
    refine hv_iload 1 dX2_right_97 rfl ?_
    refine hv_iconst (v := 2) dX2_right_99 (by decide) ?_
    refine hv_icmp_ge (tgt := 104) dX2_right_100 (by decide) (fun c32 => ?_) (fun c32 => ?_)
    · replace h := hq_ip c32 h
      refine hv_aload_n 0 dX2_right_104 rfl rfl ?_
      refine hv_dup dX2_right_105 rfl ?_
      obtain ⟨x33, e_x33, h⟩ := hq_ob h
      refine hv_getI fl_X2_46 e_x33 dX2_right_106 ?_
      refine hv_aload_n 0 dX2_right_109 rfl rfl ?_
      obtain ⟨x34, e_x34, h⟩ := hq_ob h
      refine hv_getR fl_X2_35 e_x34 dX2_right_110 ?_
      refine hv_iconst (v := 0) dX2_right_113 (by decide) ?_
      obtain ⟨a35, e_a35, h⟩ := hq_nn h
      rw [e_a35]
      obtain ⟨x36, e_x36, h⟩ := hq_ob h
      refine hv_lald e_x36 dX2_right_114 ?_
      obtain ⟨x37, e_x37, h⟩ := hq_ob h
      refine hv_callSN [.long x36] [.int x33, .ref th] [.int x37, .int x33, .ref th] (wk_x_sizeOf e_x37) cs_X2_96 rfl ⟨Nat.le_of_ble_eq_true rfl, Nat.le_of_ble_eq_true rfl⟩ rfl (Nat.le_of_ble_eq_true rfl) rfl dX2_right_115 ?_
      refine hv_isub dX2_right_118 ?_
      obtain ⟨s38, e_s38, h⟩ := hq_ob h
      refine hv_putI fp_X2_46 e_s38 (fun q => by cases q) dX2_right_119 ?_
      refine hv_aload_n 0 dX2_right_122 rfl rfl ?_
      refine hv_aload_n 0 dX2_right_123 rfl rfl ?_
      obtain ⟨x39, e_x39, h⟩ := hq_ob h
      refine hv_getR fl_X2_35 e_x39 dX2_right_124 ?_
      refine hv_iconst (v := 0) dX2_right_127 (by decide) ?_
      obtain ⟨a40, e_a40, h⟩ := hq_nn h
      rw [e_a40]
      obtain ⟨x41, e_x41, h⟩ := hq_ob h
      refine hv_lald e_x41 dX2_right_128 ?_
      obtain ⟨s42, e_s42, h⟩ := hq_ob h
      refine hv_putL fp_X2_89 e_s42 (fun q => by cases q) dX2_right_129 ?_
      refine hv_iconst (v := 1) dX2_right_132 (by decide) ?_
      refine hv_istore (L' := [(6, .int (1 : Int32)), (0, .ref th), (5, .int v4)]) dX2_right_133 (Nat.le_of_ble_eq_true rfl) rfl ?_
      refine hv_sub [1, 2, 0] rfl ?_
      refine wk_xActs_right_L135  ?_ hk_F _ _ h
      · intro s46 h
        have h := Option.some.inj h
        subst h
        exact hv_vret rfl dX2_right_210
    · replace h := hq_in c32 h
      have h := Option.some.inj h
      subst h
      exact hv_vret rfl dX2_right_103
def xActs_crossed_L39b (th : Nat) (p1 : Int64) (p2 : Int64) (v11 : Int32) (v12 : Int32) (v13 : Int32) (e0 : hk_St → Option hk_St) (rc : Int32 → hk_St → Option hk_St) (v14 : Int32) (s15 : hk_St) : Option hk_St :=
  if v11 ≤ v14 then
    e0 s15
  else
  if v13 < v14 then
    e0 s15
  else
  if (v13 - v14) < v12 then
    (x_tenTo v14).bind fun x20 =>
    hk_gd (decide (¬ x20 = 0)) <|
    hk_nm ((p1 / x20) - (p1 / x20) / (10 : Int64) * (10 : Int64)) fun x22 =>
    (x_tenTo (v13 - v14)).bind fun x23 =>
    hk_gd (decide (¬ x23 = 0)) <|
    hk_nm ((p2 / x23) - (p2 / x23) / (10 : Int64) * (10 : Int64)) fun x25 =>
    if x22 ≤ (0 : Int64) then
      hk_nm (v14 + (1 : Int32)) fun x27 =>
      rc x27 s15
    else
    if x25 ≤ (0 : Int64) then
      hk_nm (v14 + (1 : Int32)) fun x29 =>
      rc x29 s15
    else
    (xActs_look th x22 x25 (1 : Int64) s15).bind fun s30 =>
    hk_gd (hk_bf [2] s15 th) <|
    hk_nm (v14 + (1 : Int32)) fun x32 =>
    rc x32 s30
  else
  hk_nm (v14 + (1 : Int32)) fun x33 =>
  rc x33 s15
def xActs_crossed_L39 (th : Nat) (p1 : Int64) (p2 : Int64) (v11 : Int32) (v12 : Int32) (v13 : Int32) (e0 : hk_St → Option hk_St) : Nat → Int32 → hk_St → Option hk_St
  | 0 => fun _ _ => none
  | n + 1 => xActs_crossed_L39b th p1 p2 v11 v12 v13 e0 (xActs_crossed_L39 th p1 p2 v11 v12 v13 e0 n)
def xActs_crossed_L15b (th : Nat) (p1 : Int64) (p2 : Int64) (v3 : Int32) (v4 : Int32) (e0 : hk_St → Option hk_St) (rc : Int32 → hk_St → Option hk_St) (v5 : Int32) (s6 : hk_St) : Option hk_St :=
  if ((v3 + v4) - (2 : Int32)) < v5 then
    e0 s6
  else
  (x_tenTo v5).bind fun x9 =>
  (hk_pL [2] 211 s6 th x9).bind fun s10 =>
  xActs_crossed_L39 th p1 p2 v3 v4 v5 (fun (s16 : hk_St) =>
    (hk_gL [2] 210 s16 th).bind fun x34 =>
    hk_nm (x34 - x34 / (10 : Int64) * (10 : Int64)) fun x35 =>
    (hk_gL [2] 210 s16 th).bind fun x36 =>
    (hk_pL [2] 210 s16 th (x36 / (10 : Int64))).bind fun s37 =>
    (xActs_hold th x35 (1 : Int32) s37).bind fun s38 =>
    hk_gd (hk_bf [2] s37 th) <|
    hk_nm (v5 + (1 : Int32)) fun x40 =>
    rc x40 s38) hk_F (0 : Int32) s10
def xActs_crossed_L15 (th : Nat) (p1 : Int64) (p2 : Int64) (v3 : Int32) (v4 : Int32) (e0 : hk_St → Option hk_St) : Nat → Int32 → hk_St → Option hk_St
  | 0 => fun _ _ => none
  | n + 1 => xActs_crossed_L15b th p1 p2 v3 v4 e0 (xActs_crossed_L15 th p1 p2 v3 v4 e0 n)
def xActs_crossed (th : Nat) (p1 : Int64) (p2 : Int64) (s0 : hk_St) : Option hk_St :=
  (x_sizeOf p1).bind fun x1 =>
  (x_sizeOf p2).bind fun x2 =>
  xActs_crossed_L15 th p1 p2 x1 x2 (fun (s7 : hk_St) =>
    some s7) hk_F (0 : Int32) s0
abbrev N_xActs_crossed (l : Launch) : hk_N := (l, cX2_crossed, "HeadReckons$Acts", 13, none, 3, 76, false)
set_option maxHeartbeats 4000000 in
theorem wk_xActs_crossed_L39b {l : Launch} {Gd : hk_G} {th : Nat} {p1 : Int64} {p2 : Int64} {s0 : hk_St} {fin : hk_St} {v11 : Int32} {v12 : Int32} {v13 : Int32} {e0 : hk_St → Option hk_St} {rc : Int32 → hk_St → Option hk_St} (hrc : ∀ (v14 : Int32) (s15 : hk_St), rc v14 s15 = some fin → hk_V Gd (N_xActs_crossed l) (hk_end Gd s0 none fin) 39 [(0, .ref th), (1, .long p1), (3, .long p2), (5, .int v11), (6, .int v12), (7, .int v13), (8, .int v14)] [] s15) (he0 : ∀ (s16 : hk_St), e0 s16 = some fin → hk_V Gd (N_xActs_crossed l) (hk_end Gd s0 none fin) 124 [(0, .ref th), (1, .long p1), (3, .long p2), (5, .int v11), (6, .int v12), (7, .int v13)] [] s16) {v14 : Int32} {s15 : hk_St} (h : xActs_crossed_L39b th p1 p2 v11 v12 v13 e0 rc v14 s15 = some fin) : hk_V Gd (N_xActs_crossed l) (hk_end Gd s0 none fin) 39 [(0, .ref th), (1, .long p1), (3, .long p2), (5, .int v11), (6, .int v12), (7, .int v13), (8, .int v14)] [] s15 := by
  unfold xActs_crossed_L39b at h
  refine hv_iload 6 dX2_crossed_39 rfl ?_
  refine hv_iload 3 dX2_crossed_41 rfl ?_
  refine hv_icmp_ge (tgt := 124) dX2_crossed_43 (by decide) (fun c17 => ?_) (fun c17 => ?_)
  · replace h := hq_ip c17 h
    refine hv_sub [0, 1, 2, 3, 4, 5] rfl ?_
    exact he0 _ h
  · replace h := hq_in c17 h
    refine hv_iload 6 dX2_crossed_46 rfl ?_
    refine hv_iload 5 dX2_crossed_48 rfl ?_
    refine hv_icmp_gt (tgt := 124) dX2_crossed_50 (by decide) (fun c18 => ?_) (fun c18 => ?_)
    · replace h := hq_ip c18 h
      refine hv_sub [0, 1, 2, 3, 4, 5] rfl ?_
      exact he0 _ h
    · replace h := hq_in c18 h
      refine hv_iload 5 dX2_crossed_53 rfl ?_
      refine hv_iload 6 dX2_crossed_55 rfl ?_
      refine hv_isub dX2_crossed_57 ?_
      refine hv_iload 4 dX2_crossed_58 rfl ?_
      refine hv_icmp_lt (tgt := 66) dX2_crossed_60 (by decide) (fun c19 => ?_) (fun c19 => ?_)
      · replace h := hq_ip c19 h
        refine hv_lload_n 1 dX2_crossed_66 rfl rfl ?_
        refine hv_iload 6 dX2_crossed_67 rfl ?_
        obtain ⟨x20, e_x20, h⟩ := hq_ob h
        refine hv_callSN [.int v14] [.long p1] [.long x20, .long p1] (wk_x_tenTo e_x20) cs_X2_117 rfl ⟨Nat.le_of_ble_eq_true rfl, Nat.le_of_ble_eq_true rfl⟩ rfl (Nat.le_of_ble_eq_true rfl) rfl dX2_crossed_69 ?_
        obtain ⟨g21, h⟩ := hq_gd h
        refine hv_ldiv (of_decide_eq_true g21) dX2_crossed_72 ?_
        refine hv_ldc2 q687 dX2_crossed_73 ?_
        refine hv_lrem (by decide) dX2_crossed_76 ?_
        obtain ⟨x22, e_x22, h⟩ := hq_nm h
        rw [← e_x22]
        refine hv_lstore (L' := [(9, .long x22), (0, .ref th), (1, .long p1), (3, .long p2), (5, .int v11), (6, .int v12), (7, .int v13), (8, .int v14)]) dX2_crossed_77 (Nat.le_of_ble_eq_true rfl) rfl ?_
        refine hv_lload_n 3 dX2_crossed_79 rfl rfl ?_
        refine hv_iload 6 dX2_crossed_80 rfl ?_
        refine hv_iload 7 dX2_crossed_82 rfl ?_
        refine hv_isub dX2_crossed_84 ?_
        obtain ⟨x23, e_x23, h⟩ := hq_ob h
        refine hv_callSN [.int (v13 - v14)] [.long p2] [.long x23, .long p2] (wk_x_tenTo e_x23) cs_X2_117 rfl ⟨Nat.le_of_ble_eq_true rfl, Nat.le_of_ble_eq_true rfl⟩ rfl (Nat.le_of_ble_eq_true rfl) rfl dX2_crossed_85 ?_
        obtain ⟨g24, h⟩ := hq_gd h
        refine hv_ldiv (of_decide_eq_true g24) dX2_crossed_88 ?_
        refine hv_ldc2 q687 dX2_crossed_89 ?_
        refine hv_lrem (by decide) dX2_crossed_92 ?_
        obtain ⟨x25, e_x25, h⟩ := hq_nm h
        rw [← e_x25]
        refine hv_lstore (L' := [(11, .long x25), (9, .long x22), (0, .ref th), (1, .long p1), (3, .long p2), (5, .int v11), (6, .int v12), (7, .int v13), (8, .int v14)]) dX2_crossed_93 (Nat.le_of_ble_eq_true rfl) rfl ?_
        refine hv_lload 1 dX2_crossed_95 rfl ?_
        refine hv_lconst (v := 0) dX2_crossed_97 (by decide) ?_
        refine hv_lcmp_le (tgt := 118) dX2_crossed_98 dX2_crossed_99 (by decide) (fun c26 => ?_) (fun c26 => ?_)
        · replace h := hq_ip c26 h
          obtain ⟨x27, e_x27, h⟩ := hq_nm h
          refine hv_iinc (v := x27) (L' := [(8, .int x27), (11, .long x25), (9, .long x22), (0, .ref th), (1, .long p1), (3, .long p2), (5, .int v11), (6, .int v12), (7, .int v13)]) 8 dX2_crossed_118 rfl (by rw [e_x27]; rfl) (Nat.le_of_ble_eq_true rfl) rfl ?_
          refine hv_goto (tgt := 39) dX2_crossed_121 (by decide) ?_
          refine hv_sub [3, 4, 5, 6, 7, 8, 0] rfl ?_
          exact hrc _ _ h
        · replace h := hq_in c26 h
          refine hv_lload 0 dX2_crossed_102 rfl ?_
          refine hv_lconst (v := 0) dX2_crossed_104 (by decide) ?_
          refine hv_lcmp_le (tgt := 118) dX2_crossed_105 dX2_crossed_106 (by decide) (fun c28 => ?_) (fun c28 => ?_)
          · replace h := hq_ip c28 h
            obtain ⟨x29, e_x29, h⟩ := hq_nm h
            refine hv_iinc (v := x29) (L' := [(8, .int x29), (11, .long x25), (9, .long x22), (0, .ref th), (1, .long p1), (3, .long p2), (5, .int v11), (6, .int v12), (7, .int v13)]) 8 dX2_crossed_118 rfl (by rw [e_x29]; rfl) (Nat.le_of_ble_eq_true rfl) rfl ?_
            refine hv_goto (tgt := 39) dX2_crossed_121 (by decide) ?_
            refine hv_sub [3, 4, 5, 6, 7, 8, 0] rfl ?_
            exact hrc _ _ h
          · replace h := hq_in c28 h
            refine hv_aload_n 2 dX2_crossed_109 rfl rfl ?_
            refine hv_lload 1 dX2_crossed_110 rfl ?_
            refine hv_lload 0 dX2_crossed_112 rfl ?_
            refine hv_lconst (v := 1) dX2_crossed_114 (by decide) ?_
            obtain ⟨s30, e_s30, h⟩ := hq_ob h
            obtain ⟨g31, h⟩ := hq_gd h
            refine hv_callV [.long x22, .long x25, .long (1 : Int64)] [] [] (wk_xActs_look e_s30) cs_X2_68 g31 rfl ⟨Nat.le_of_ble_eq_true rfl, Nat.le_of_ble_eq_true rfl⟩ rfl (Nat.le_of_ble_eq_true rfl) rfl dX2_crossed_115 ?_
            obtain ⟨x32, e_x32, h⟩ := hq_nm h
            refine hv_iinc (v := x32) (L' := [(8, .int x32), (11, .long x25), (9, .long x22), (0, .ref th), (1, .long p1), (3, .long p2), (5, .int v11), (6, .int v12), (7, .int v13)]) 8 dX2_crossed_118 rfl (by rw [e_x32]; rfl) (Nat.le_of_ble_eq_true rfl) rfl ?_
            refine hv_goto (tgt := 39) dX2_crossed_121 (by decide) ?_
            refine hv_sub [3, 4, 5, 6, 7, 8, 0] rfl ?_
            exact hrc _ _ h
      · replace h := hq_in c19 h
        refine hv_goto (tgt := 118) dX2_crossed_63 (by decide) ?_
        obtain ⟨x33, e_x33, h⟩ := hq_nm h
        refine hv_iinc (v := x33) (L' := [(8, .int x33), (0, .ref th), (1, .long p1), (3, .long p2), (5, .int v11), (6, .int v12), (7, .int v13)]) 6 dX2_crossed_118 rfl (by rw [e_x33]; rfl) (Nat.le_of_ble_eq_true rfl) rfl ?_
        refine hv_goto (tgt := 39) dX2_crossed_121 (by decide) ?_
        refine hv_sub [1, 2, 3, 4, 5, 6, 0] rfl ?_
        exact hrc _ _ h
theorem wk_xActs_crossed_L39 {l : Launch} {Gd : hk_G} {th : Nat} {p1 : Int64} {p2 : Int64} {s0 : hk_St} {fin : hk_St} {v11 : Int32} {v12 : Int32} {v13 : Int32} {e0 : hk_St → Option hk_St} (he0 : ∀ (s16 : hk_St), e0 s16 = some fin → hk_V Gd (N_xActs_crossed l) (hk_end Gd s0 none fin) 124 [(0, .ref th), (1, .long p1), (3, .long p2), (5, .int v11), (6, .int v12), (7, .int v13)] [] s16) : ∀ (n : Nat) (v14 : Int32) (s15 : hk_St), xActs_crossed_L39 th p1 p2 v11 v12 v13 e0 n v14 s15 = some fin → hk_V Gd (N_xActs_crossed l) (hk_end Gd s0 none fin) 39 [(0, .ref th), (1, .long p1), (3, .long p2), (5, .int v11), (6, .int v12), (7, .int v13), (8, .int v14)] [] s15 := by
  intro n
  induction n with
  | zero => intro v14 s15 h; cases h
  | succ n ih => intro v14 s15 h; exact wk_xActs_crossed_L39b  ih he0 h
set_option maxHeartbeats 4000000 in
theorem wk_xActs_crossed_L15b {l : Launch} {Gd : hk_G} {th : Nat} {p1 : Int64} {p2 : Int64} {s0 : hk_St} {fin : hk_St} {v3 : Int32} {v4 : Int32} {e0 : hk_St → Option hk_St} {rc : Int32 → hk_St → Option hk_St} (hrc : ∀ (v5 : Int32) (s6 : hk_St), rc v5 s6 = some fin → hk_V Gd (N_xActs_crossed l) (hk_end Gd s0 none fin) 15 [(0, .ref th), (1, .long p1), (3, .long p2), (5, .int v3), (6, .int v4), (7, .int v5)] [] s6) (he0 : ∀ (s7 : hk_St), e0 s7 = some fin → hk_V Gd (N_xActs_crossed l) (hk_end Gd s0 none fin) 159 [] [] s7) {v5 : Int32} {s6 : hk_St} (h : xActs_crossed_L15b th p1 p2 v3 v4 e0 rc v5 s6 = some fin) : hk_V Gd (N_xActs_crossed l) (hk_end Gd s0 none fin) 15 [(0, .ref th), (1, .long p1), (3, .long p2), (5, .int v3), (6, .int v4), (7, .int v5)] [] s6 := by
  unfold xActs_crossed_L15b at h
  refine hv_iload 5 dX2_crossed_15 rfl ?_
  refine hv_iload 3 dX2_crossed_17 rfl ?_
  refine hv_iload 4 dX2_crossed_19 rfl ?_
  refine hv_iadd dX2_crossed_21 ?_
  refine hv_iconst (v := 2) dX2_crossed_22 (by decide) ?_
  refine hv_isub dX2_crossed_23 ?_
  refine hv_icmp_gt (tgt := 159) dX2_crossed_24 (by decide) (fun c8 => ?_) (fun c8 => ?_)
  · replace h := hq_ip c8 h
    refine hv_sub [] rfl ?_
    exact he0 _ h
  · replace h := hq_in c8 h
    refine hv_aload_n 0 dX2_crossed_27 rfl rfl ?_
    refine hv_iload 5 dX2_crossed_28 rfl ?_
    obtain ⟨x9, e_x9, h⟩ := hq_ob h
    refine hv_callSN [.int v5] [.ref th] [.long x9, .ref th] (wk_x_tenTo e_x9) cs_X2_117 rfl ⟨Nat.le_of_ble_eq_true rfl, Nat.le_of_ble_eq_true rfl⟩ rfl (Nat.le_of_ble_eq_true rfl) rfl dX2_crossed_30 ?_
    obtain ⟨s10, e_s10, h⟩ := hq_ob h
    refine hv_putL fp_X2_55 e_s10 (fun q => by cases q) dX2_crossed_33 ?_
    refine hv_iconst (v := 0) dX2_crossed_36 (by decide) ?_
    refine hv_istore (L' := [(8, .int (0 : Int32)), (0, .ref th), (1, .long p1), (3, .long p2), (5, .int v3), (6, .int v4), (7, .int v5)]) dX2_crossed_37 (Nat.le_of_ble_eq_true rfl) rfl ?_
    refine hv_sub [1, 2, 3, 4, 5, 6, 0] rfl ?_
    refine wk_xActs_crossed_L39  ?_ hk_F _ _ h
    · intro s16 h
      refine hv_aload_n 0 dX2_crossed_124 rfl rfl ?_
      obtain ⟨x34, e_x34, h⟩ := hq_ob h
      refine hv_getL fl_X2_89 e_x34 dX2_crossed_125 ?_
      refine hv_ldc2 q687 dX2_crossed_128 ?_
      refine hv_lrem (by decide) dX2_crossed_131 ?_
      obtain ⟨x35, e_x35, h⟩ := hq_nm h
      rw [← e_x35]
      refine hv_lstore (L' := [(8, .long x35), (0, .ref th), (1, .long p1), (3, .long p2), (5, .int v3), (6, .int v4), (7, .int v5)]) dX2_crossed_132 (Nat.le_of_ble_eq_true rfl) rfl ?_
      refine hv_aload_n 1 dX2_crossed_134 rfl rfl ?_
      refine hv_dup dX2_crossed_135 rfl ?_
      obtain ⟨x36, e_x36, h⟩ := hq_ob h
      refine hv_getL fl_X2_89 e_x36 dX2_crossed_136 ?_
      refine hv_ldc2 q687 dX2_crossed_139 ?_
      refine hv_ldiv (by decide) dX2_crossed_142 ?_
      obtain ⟨s37, e_s37, h⟩ := hq_ob h
      refine hv_putL fp_X2_89 e_s37 (fun q => by cases q) dX2_crossed_143 ?_
      refine hv_aload_n 1 dX2_crossed_146 rfl rfl ?_
      refine hv_lload 0 dX2_crossed_147 rfl ?_
      refine hv_iconst (v := 1) dX2_crossed_149 (by decide) ?_
      obtain ⟨s38, e_s38, h⟩ := hq_ob h
      obtain ⟨g39, h⟩ := hq_gd h
      refine hv_callV [.long x35, .int (1 : Int32)] [] [] (wk_xActs_hold e_s38) cs_X2_123 g39 rfl ⟨Nat.le_of_ble_eq_true rfl, Nat.le_of_ble_eq_true rfl⟩ rfl (Nat.le_of_ble_eq_true rfl) rfl dX2_crossed_150 ?_
      obtain ⟨x40, e_x40, h⟩ := hq_nm h
      refine hv_iinc (v := x40) (L' := [(7, .int x40), (8, .long x35), (0, .ref th), (1, .long p1), (3, .long p2), (5, .int v3), (6, .int v4)]) 6 dX2_crossed_153 rfl (by rw [e_x40]; rfl) (Nat.le_of_ble_eq_true rfl) rfl ?_
      refine hv_goto (tgt := 15) dX2_crossed_156 (by decide) ?_
      refine hv_sub [2, 3, 4, 5, 6, 0] rfl ?_
      exact hrc _ _ h
theorem wk_xActs_crossed_L15 {l : Launch} {Gd : hk_G} {th : Nat} {p1 : Int64} {p2 : Int64} {s0 : hk_St} {fin : hk_St} {v3 : Int32} {v4 : Int32} {e0 : hk_St → Option hk_St} (he0 : ∀ (s7 : hk_St), e0 s7 = some fin → hk_V Gd (N_xActs_crossed l) (hk_end Gd s0 none fin) 159 [] [] s7) : ∀ (n : Nat) (v5 : Int32) (s6 : hk_St), xActs_crossed_L15 th p1 p2 v3 v4 e0 n v5 s6 = some fin → hk_V Gd (N_xActs_crossed l) (hk_end Gd s0 none fin) 15 [(0, .ref th), (1, .long p1), (3, .long p2), (5, .int v3), (6, .int v4), (7, .int v5)] [] s6 := by
  intro n
  induction n with
  | zero => intro v5 s6 h; cases h
  | succ n ih => intro v5 s6 h; exact wk_xActs_crossed_L15b  ih he0 h
set_option maxHeartbeats 4000000 in
theorem wk_xActs_crossed {l : Launch} {Gd : hk_G} {th : Nat} {p1 : Int64} {p2 : Int64} {s0 : hk_St} {fin : hk_St} (h : xActs_crossed th p1 p2 s0 = some fin) : hk_Met Gd l yX2_crossed cX2_crossed 13 none 3 76 [.ref th, .long p1, .long p2] s0 none fin := by
  refine hk_start "HeadReckons$Acts" false (by decide +kernel) rfl (by decide) (Nat.le_of_ble_eq_true rfl) ?_
  show hk_V Gd (N_xActs_crossed l) (hk_end Gd s0 none fin) 0 [(0, .ref th), (1, .long p1), (3, .long p2)] [] s0
  unfold xActs_crossed at h
  refine hv_lload_n 1 dX2_crossed_0 rfl rfl ?_
  obtain ⟨x1, e_x1, h⟩ := hq_ob h
  refine hv_callSN [.long p1] [] [.int x1] (wk_x_sizeOf e_x1) cs_X2_96 rfl ⟨Nat.le_of_ble_eq_true rfl, Nat.le_of_ble_eq_true rfl⟩ rfl (Nat.le_of_ble_eq_true rfl) rfl dX2_crossed_1 ?_
  refine hv_istore (L' := [(5, .int x1), (0, .ref th), (1, .long p1), (3, .long p2)]) dX2_crossed_4 (Nat.le_of_ble_eq_true rfl) rfl ?_
  refine hv_lload_n 3 dX2_crossed_6 rfl rfl ?_
  obtain ⟨x2, e_x2, h⟩ := hq_ob h
  refine hv_callSN [.long p2] [] [.int x2] (wk_x_sizeOf e_x2) cs_X2_96 rfl ⟨Nat.le_of_ble_eq_true rfl, Nat.le_of_ble_eq_true rfl⟩ rfl (Nat.le_of_ble_eq_true rfl) rfl dX2_crossed_7 ?_
  refine hv_istore (L' := [(6, .int x2), (5, .int x1), (0, .ref th), (1, .long p1), (3, .long p2)]) dX2_crossed_10 (Nat.le_of_ble_eq_true rfl) rfl ?_
  refine hv_iconst (v := 0) dX2_crossed_12 (by decide) ?_
  refine hv_istore (L' := [(7, .int (0 : Int32)), (6, .int x2), (5, .int x1), (0, .ref th), (1, .long p1), (3, .long p2)]) dX2_crossed_13 (Nat.le_of_ble_eq_true rfl) rfl ?_
  refine hv_sub [3, 4, 5, 2, 1, 0] rfl ?_
  refine wk_xActs_crossed_L15  ?_ hk_F _ _ h
  · intro s7 h
    have h := Option.some.inj h
    subst h
    exact hv_vret rfl dX2_crossed_159
