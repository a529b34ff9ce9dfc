set_option maxRecDepth 100000
def x_isBySlip_L10b (th : Nat) (p1 : Int64) (s0 : hk_St) (e0 : Unit → Option (Int32)) (rc : Int32 → Option (Int32)) (v2 : Int32) : Option (Int32) :=
  (hk_gR [0] 9 s0 th).bind fun x3 =>
  hk_nn x3 fun a4 =>
  (hk_gI [2] 206 s0 a4).bind fun x5 =>
  if x5 ≤ v2 then
    e0 ()
  else
  (hk_gR [0] 9 s0 th).bind fun x7 =>
  hk_nn x7 fun a8 =>
  (xActs_canSlip a8 v2 p1 s0).bind fun x9 =>
  hk_gd (hk_bf [2] s0 a8) <|
  if x9 = 0 then
    hk_nm (v2 + (1 : Int32)) fun x12 =>
    rc x12
  else
  some (1 : Int32)
def x_isBySlip_L10 (th : Nat) (p1 : Int64) (s0 : hk_St) (e0 : Unit → Option (Int32)) : Nat → Int32 → Option (Int32)
  | 0 => fun _ => none
  | n + 1 => x_isBySlip_L10b th p1 s0 e0 (x_isBySlip_L10 th p1 s0 e0 n)
def x_isBySlip (th : Nat) (p1 : Int64) (s0 : hk_St) : Option (Int32) :=
  if p1 = (0 : Int64) then
    some (1 : Int32)
  else
  x_isBySlip_L10 th p1 s0  (fun (_ : Unit) =>
      some (0 : Int32)) hk_F (0 : Int32) 
abbrev N_x_isBySlip (l : Launch) : hk_N := (l, cX0_isBySlip, "HeadReckons", 4, (some .boolean), 3, 69, false)
set_option maxHeartbeats 4000000 in
theorem wk_x_isBySlip_L10b {l : Launch} {Gd : hk_G} {th : Nat} {p1 : Int64} {s0 : hk_St} {r : Int32} {e0 : Unit → Option (Int32)} {rc : Int32 → Option (Int32)} (hrc : ∀ (v2 : Int32), rc v2 = some r → hk_V Gd (N_x_isBySlip l) (hk_end Gd s0 (some (.int r)) s0) 10 [(0, .ref th), (1, .long p1), (3, .int v2)] [] s0) (he0 : ∀ (_ : Unit), e0 () = some r → hk_V Gd (N_x_isBySlip l) (hk_end Gd s0 (some (.int r)) s0) 41 [] [] s0) {v2 : Int32} (h : x_isBySlip_L10b th p1 s0 e0 rc v2 = some r) : hk_V Gd (N_x_isBySlip l) (hk_end Gd s0 (some (.int r)) s0) 10 [(0, .ref th), (1, .long p1), (3, .int v2)] [] s0 := by
  unfold x_isBySlip_L10b at h
  refine hv_iload_n 2 dX0_isBySlip_10 rfl rfl ?_
  refine hv_aload_n 0 dX0_isBySlip_11 rfl rfl ?_
  obtain ⟨x3, e_x3, h⟩ := hq_ob h
  refine hv_getR fl_X0_37 e_x3 dX0_isBySlip_12 ?_
  obtain ⟨a4, e_a4, h⟩ := hq_nn h
  rw [e_a4]
  obtain ⟨x5, e_x5, h⟩ := hq_ob h
  refine hv_getI fl_X0_169 e_x5 dX0_isBySlip_15 ?_
  refine hv_icmp_ge (tgt := 41) dX0_isBySlip_18 (by decide) (fun c6 => ?_) (fun c6 => ?_)
  · replace h := hq_ip c6 h
    refine hv_sub [] rfl ?_
    exact he0 () h
  · replace h := hq_in c6 h
    refine hv_aload_n 0 dX0_isBySlip_21 rfl rfl ?_
    obtain ⟨x7, e_x7, h⟩ := hq_ob h
    refine hv_getR fl_X0_37 e_x7 dX0_isBySlip_22 ?_
    refine hv_iload_n 2 dX0_isBySlip_25 rfl rfl ?_
    refine hv_lload_n 1 dX0_isBySlip_26 rfl rfl ?_
    obtain ⟨a8, e_a8, h⟩ := hq_nn h
    rw [e_a8]
    obtain ⟨x9, e_x9, h⟩ := hq_ob h
    obtain ⟨g10, h⟩ := hq_gd h
    refine hv_callV [.int v2, .long p1] [] [.int x9] (wk_xActs_canSlip e_x9) cs_X0_272 g10 rfl ⟨Nat.le_of_ble_eq_true rfl, Nat.le_of_ble_eq_true rfl⟩ rfl (Nat.le_of_ble_eq_true rfl) rfl dX0_isBySlip_27 ?_
    refine hv_if_eq (tgt := 35) dX0_isBySlip_30 (by decide) (fun c11 => ?_) (fun c11 => ?_)
    · replace h := hq_ip c11 h
      obtain ⟨x12, e_x12, h⟩ := hq_nm h
      refine hv_iinc (v := x12) (L' := [(3, .int x12), (0, .ref th), (1, .long p1)]) 2 dX0_isBySlip_35 rfl (by rw [e_x12]; rfl) (Nat.le_of_ble_eq_true rfl) rfl ?_
      refine hv_goto (tgt := 10) dX0_isBySlip_38 (by decide) ?_
      refine hv_sub [1, 2, 0] rfl ?_
      exact hrc _ h
    · replace h := hq_in c11 h
      refine hv_iconst (v := 1) dX0_isBySlip_33 (by decide) ?_
      have h := Option.some.inj h
      subst h
      exact hv_zret (ty := .boolean) rfl rfl dX0_isBySlip_34
theorem wk_x_isBySlip_L10 {l : Launch} {Gd : hk_G} {th : Nat} {p1 : Int64} {s0 : hk_St} {r : Int32} {e0 : Unit → Option (Int32)} (he0 : ∀ (_ : Unit), e0 () = some r → hk_V Gd (N_x_isBySlip l) (hk_end Gd s0 (some (.int r)) s0) 41 [] [] s0) : ∀ (n : Nat) (v2 : Int32), x_isBySlip_L10 th p1 s0 e0 n v2 = some r → hk_V Gd (N_x_isBySlip l) (hk_end Gd s0 (some (.int r)) s0) 10 [(0, .ref th), (1, .long p1), (3, .int v2)] [] s0 := by
  intro n
  induction n with
  | zero => intro v2 h; cases h
  | succ n ih => intro v2 h; exact wk_x_isBySlip_L10b  ih he0 h
set_option maxHeartbeats 4000000 in
theorem wk_x_isBySlip {l : Launch} {Gd : hk_G} {th : Nat} {p1 : Int64} {s0 : hk_St} {r : Int32} (h : x_isBySlip th p1 s0 = some r) : hk_Met Gd l yX0_isBySlip cX0_isBySlip 4 (some .boolean) 3 69 [.ref th, .long p1] s0 (some (.int r)) s0 := by
  refine hk_start "HeadReckons" false (by decide +kernel) rfl (by decide) (Nat.le_of_ble_eq_true rfl) ?_
  show hk_V Gd (N_x_isBySlip l) (hk_end Gd s0 (some (.int r)) s0) 0 [(0, .ref th), (1, .long p1)] [] s0
  unfold x_isBySlip at h
  refine hv_lload_n 1 dX0_isBySlip_0 rfl rfl ?_
  refine hv_lconst (v := 0) dX0_isBySlip_1 (by decide) ?_
  refine hv_lcmp_ne (tgt := 8) dX0_isBySlip_2 dX0_isBySlip_3 (by decide) (fun c1 => ?_) (fun c1 => ?_)
  · replace h := hq_in c1 h
    refine hv_iconst (v := 0) dX0_isBySlip_8 (by decide) ?_
    refine hv_istore_n (L' := [(3, .int (0 : Int32)), (0, .ref th), (1, .long p1)]) dX0_isBySlip_9 rfl (Nat.le_of_ble_eq_true rfl) rfl ?_
    refine hv_sub [1, 2, 0] rfl ?_
    refine wk_x_isBySlip_L10  ?_ hk_F _ h
    · intro _ h
      refine hv_iconst (v := 0) dX0_isBySlip_41 (by decide) ?_
      have h := Option.some.inj h
      subst h
      exact hv_zret (ty := .boolean) rfl rfl dX0_isBySlip_42
  · replace h := hq_ip c1 h
    refine hv_iconst (v := 1) dX0_isBySlip_6 (by decide) ?_
    have h := Option.some.inj h
    subst h
    exact hv_zret (ty := .boolean) rfl rfl dX0_isBySlip_7
def x_doesFit_L3b (th : Nat) (p1 : Nat) (p2 : Int32) (p3 : Int32) (e0 : hk_St → Option (Int32 × hk_St)) (rc : Int32 → hk_St → Option (Int32 × hk_St)) (v1 : Int32) (s2 : hk_St) : Option (Int32 × hk_St) :=
  (hk_gI [0] 11 s2 th).bind fun x4 =>
  if x4 ≤ v1 then
    e0 s2
  else
  (hk_gR [0] 9 s2 th).bind fun x6 =>
  (hk_gR [0] 10 s2 th).bind fun x7 =>
  hk_nn x7 fun a8 =>
  (hk_lR 8 s2 a8 v1).bind fun x9 =>
  hk_nn x9 fun a10 =>
  (hk_gI [13] 1300 s2 a10).bind fun x11 =>
  (hk_gR [0] 10 s2 th).bind fun x12 =>
  hk_nn x12 fun a13 =>
  (hk_lR 8 s2 a13 v1).bind fun x14 =>
  hk_nn x14 fun a15 =>
  (hk_gI [13] 1301 s2 a15).bind fun x16 =>
  hk_nn x6 fun a17 =>
  (xActs_lay a17 p1 p2 x11 x16 s2).bind fun q18 =>
  hk_gd (hk_bf [2] s2 a17) <|
  if q18.1 = 0 then
    some ((0 : Int32), q18.2)
  else
  (hk_gR [0] 9 q18.2 th).bind fun x21 =>
  hk_nn x21 fun a22 =>
  (hk_gI [2] 208 q18.2 a22).bind fun x23 =>
  (hk_gR [0] 10 q18.2 th).bind fun x24 =>
  hk_nn x24 fun a25 =>
  (hk_lR 8 q18.2 a25 v1).bind fun x26 =>
  hk_nn x26 fun a27 =>
  (hk_gI [13] 1302 q18.2 a27).bind fun x28 =>
  if p3 < (j_abs_i (x23 - x28)) then
    some ((0 : Int32), q18.2)
  else
  (hk_gR [0] 10 q18.2 th).bind fun x30 =>
  hk_nn x30 fun a31 =>
  (hk_lR 8 q18.2 a31 v1).bind fun x32 =>
  hk_nn x32 fun a33 =>
  (xSeen_off a33 q18.2).bind fun x34 =>
  hk_gd (hk_bf [13] q18.2 a33) <|
  (x_isBySlip th x34 q18.2).bind fun x36 =>
  hk_gd (hk_bf [0] q18.2 th) <|
  if x36 = 0 then
    some ((0 : Int32), q18.2)
  else
  hk_nm (v1 + (1 : Int32)) fun x39 =>
    rc x39 q18.2
def x_doesFit_L3 (th : Nat) (p1 : Nat) (p2 : Int32) (p3 : Int32) (e0 : hk_St → Option (Int32 × hk_St)) : Nat → Int32 → hk_St → Option (Int32 × hk_St)
  | 0 => fun _ _ => none
  | n + 1 => x_doesFit_L3b th p1 p2 p3 e0 (x_doesFit_L3 th p1 p2 p3 e0 n)
def x_doesFit (th : Nat) (p1 : Nat) (p2 : Int32) (p3 : Int32) (s0 : hk_St) : Option (Int32 × hk_St) :=
  x_doesFit_L3 th p1 p2 p3  (fun (s3 : hk_St) =>
    some ((1 : Int32), s3)) hk_F (0 : Int32) s0
abbrev N_x_doesFit (l : Launch) : hk_N := (l, cX0_doesFit, "HeadReckons", 5, (some .boolean), 6, 159, false)
set_option maxHeartbeats 4000000 in
theorem wk_x_doesFit_L3b {l : Launch} {Gd : hk_G} {th : Nat} {p1 : Nat} {p2 : Int32} {p3 : Int32} {s0 : hk_St} {r : Int32} {fin : hk_St} {e0 : hk_St → Option (Int32 × hk_St)} {rc : Int32 → hk_St → Option (Int32 × hk_St)} (hrc : ∀ (v1 : Int32) (s2 : hk_St), rc v1 s2 = some (r, fin) → hk_V Gd (N_x_doesFit l) (hk_end Gd s0 (some (.int r)) fin) 3 [(0, .ref th), (1, .ref p1), (2, .int p2), (3, .int p3), (4, .int v1)] [] s2) (he0 : ∀ (s3 : hk_St), e0 s3 = some (r, fin) → hk_V Gd (N_x_doesFit l) (hk_end Gd s0 (some (.int r)) fin) 94 [] [] s3) {v1 : Int32} {s2 : hk_St} (h : x_doesFit_L3b th p1 p2 p3 e0 rc v1 s2 = some (r, fin)) : hk_V Gd (N_x_doesFit l) (hk_end Gd s0 (some (.int r)) fin) 3 [(0, .ref th), (1, .ref p1), (2, .int p2), (3, .int p3), (4, .int v1)] [] s2 := by
  unfold x_doesFit_L3b at h
  refine hv_iload 4 dX0_doesFit_3 rfl ?_
  refine hv_aload_n 0 dX0_doesFit_5 rfl rfl ?_
  obtain ⟨x4, e_x4, h⟩ := hq_ob h
  refine hv_getI fl_X0_231 e_x4 dX0_doesFit_6 ?_
  refine hv_icmp_ge (tgt := 94) dX0_doesFit_9 (by decide) (fun c5 => ?_) (fun c5 => ?_)
  · replace h := hq_ip c5 h
    refine hv_sub [] rfl ?_
    exact he0 _ h
  · replace h := hq_in c5 h
    refine hv_aload_n 0 dX0_doesFit_12 rfl rfl ?_
    obtain ⟨x6, e_x6, h⟩ := hq_ob h
    refine hv_getR fl_X0_37 e_x6 dX0_doesFit_13 ?_
    refine hv_aload_n 1 dX0_doesFit_16 rfl rfl ?_
    refine hv_iload_n 2 dX0_doesFit_17 rfl rfl ?_
    refine hv_aload_n 0 dX0_doesFit_18 rfl rfl ?_
    obtain ⟨x7, e_x7, h⟩ := hq_ob h
    refine hv_getR fl_X0_43 e_x7 dX0_doesFit_19 ?_
    refine hv_iload 4 dX0_doesFit_22 rfl ?_
    obtain ⟨a8, e_a8, h⟩ := hq_nn h
    rw [e_a8]
    obtain ⟨x9, e_x9, h⟩ := hq_ob h
    refine hv_aald (by decide) (by decide) rfl e_x9 dX0_doesFit_24 ?_
    obtain ⟨a10, e_a10, h⟩ := hq_nn h
    rw [e_a10]
    obtain ⟨x11, e_x11, h⟩ := hq_ob h
    refine hv_getI fl_X0_259 e_x11 dX0_doesFit_25 ?_
    refine hv_aload_n 0 dX0_doesFit_28 rfl rfl ?_
    obtain ⟨x12, e_x12, h⟩ := hq_ob h
    refine hv_getR fl_X0_43 e_x12 dX0_doesFit_29 ?_
    refine hv_iload 4 dX0_doesFit_32 rfl ?_
    obtain ⟨a13, e_a13, h⟩ := hq_nn h
    rw [e_a13]
    obtain ⟨x14, e_x14, h⟩ := hq_ob h
    refine hv_aald (by decide) (by decide) rfl e_x14 dX0_doesFit_34 ?_
    obtain ⟨a15, e_a15, h⟩ := hq_nn h
    rw [e_a15]
    obtain ⟨x16, e_x16, h⟩ := hq_ob h
    refine hv_getI fl_X0_262 e_x16 dX0_doesFit_35 ?_
    obtain ⟨a17, e_a17, h⟩ := hq_nn h
    rw [e_a17]
    obtain ⟨q18, e_q18, h⟩ := hq_ob h
    obtain ⟨g19, h⟩ := hq_gd h
    refine hv_callV [.ref p1, .int p2, .int x11, .int x16] [] [.int q18.1] (wk_xActs_lay e_q18) cs_X0_150 g19 rfl ⟨Nat.le_of_ble_eq_true rfl, Nat.le_of_ble_eq_true rfl⟩ rfl (Nat.le_of_ble_eq_true rfl) rfl dX0_doesFit_38 ?_
    refine hv_if_eq (tgt := 86) dX0_doesFit_41 (by decide) (fun c20 => ?_) (fun c20 => ?_)
    · replace h := hq_ip c20 h
      refine hv_iconst (v := 0) dX0_doesFit_86 (by decide) ?_
      obtain ⟨h1, h2⟩ := hq_ret h
      subst h1
      subst h2
      exact hv_zret (ty := .boolean) rfl rfl dX0_doesFit_87
    · replace h := hq_in c20 h
      refine hv_aload_n 0 dX0_doesFit_44 rfl rfl ?_
      obtain ⟨x21, e_x21, h⟩ := hq_ob h
      refine hv_getR fl_X0_37 e_x21 dX0_doesFit_45 ?_
      obtain ⟨a22, e_a22, h⟩ := hq_nn h
      rw [e_a22]
      obtain ⟨x23, e_x23, h⟩ := hq_ob h
      refine hv_getI fl_X0_163 e_x23 dX0_doesFit_48 ?_
      refine hv_aload_n 0 dX0_doesFit_51 rfl rfl ?_
      obtain ⟨x24, e_x24, h⟩ := hq_ob h
      refine hv_getR fl_X0_43 e_x24 dX0_doesFit_52 ?_
      refine hv_iload 4 dX0_doesFit_55 rfl ?_
      obtain ⟨a25, e_a25, h⟩ := hq_nn h
      rw [e_a25]
      obtain ⟨x26, e_x26, h⟩ := hq_ob h
      refine hv_aald (by decide) (by decide) rfl e_x26 dX0_doesFit_57 ?_
      obtain ⟨a27, e_a27, h⟩ := hq_nn h
      rw [e_a27]
      obtain ⟨x28, e_x28, h⟩ := hq_ob h
      refine hv_getI fl_X0_265 e_x28 dX0_doesFit_58 ?_
      refine hv_isub dX0_doesFit_61 ?_
      refine hv_callS [.int (x23 - x28)] [] [.int (j_abs_i (x23 - x28))] (wk_j_abs_i rfl) cs_X0_196 rfl ⟨Nat.le_of_ble_eq_true rfl, Nat.le_of_ble_eq_true rfl⟩ rfl (Nat.le_of_ble_eq_true rfl) rfl dX0_doesFit_62 ?_
      refine hv_iload_n 3 dX0_doesFit_65 rfl rfl ?_
      refine hv_icmp_gt (tgt := 86) dX0_doesFit_66 (by decide) (fun c29 => ?_) (fun c29 => ?_)
      · replace h := hq_ip c29 h
        refine hv_iconst (v := 0) dX0_doesFit_86 (by decide) ?_
        obtain ⟨h1, h2⟩ := hq_ret h
        subst h1
        subst h2
        exact hv_zret (ty := .boolean) rfl rfl dX0_doesFit_87
      · replace h := hq_in c29 h
        refine hv_aload_n 0 dX0_doesFit_69 rfl rfl ?_
        refine hv_aload_n 0 dX0_doesFit_70 rfl rfl ?_
        obtain ⟨x30, e_x30, h⟩ := hq_ob h
        refine hv_getR fl_X0_43 e_x30 dX0_doesFit_71 ?_
        refine hv_iload 4 dX0_doesFit_74 rfl ?_
        obtain ⟨a31, e_a31, h⟩ := hq_nn h
        rw [e_a31]
        obtain ⟨x32, e_x32, h⟩ := hq_ob h
        refine hv_aald (by decide) (by decide) rfl e_x32 dX0_doesFit_76 ?_
        obtain ⟨a33, e_a33, h⟩ := hq_nn h
        rw [e_a33]
        obtain ⟨x34, e_x34, h⟩ := hq_ob h
        obtain ⟨g35, h⟩ := hq_gd h
        refine hv_callV [] [.ref th] [.long x34, .ref th] (wk_xSeen_off e_x34) cs_X0_268 g35 rfl ⟨Nat.le_of_ble_eq_true rfl, Nat.le_of_ble_eq_true rfl⟩ rfl (Nat.le_of_ble_eq_true rfl) rfl dX0_doesFit_77 ?_
        obtain ⟨x36, e_x36, h⟩ := hq_ob h
        obtain ⟨g37, h⟩ := hq_gd h
        refine hv_callV [.long x34] [] [.int x36] (wk_x_isBySlip e_x36) cs_X0_276 g37 rfl ⟨Nat.le_of_ble_eq_true rfl, Nat.le_of_ble_eq_true rfl⟩ rfl (Nat.le_of_ble_eq_true rfl) rfl dX0_doesFit_80 ?_
        refine hv_if_ne (tgt := 88) dX0_doesFit_83 (by decide) (fun c38 => ?_) (fun c38 => ?_)
        · replace h := hq_in c38 h
          obtain ⟨x39, e_x39, h⟩ := hq_nm h
          refine hv_iinc (v := x39) (L' := [(4, .int x39), (0, .ref th), (1, .ref p1), (2, .int p2), (3, .int p3)]) 4 dX0_doesFit_88 rfl (by rw [e_x39]; rfl) (Nat.le_of_ble_eq_true rfl) rfl ?_
          refine hv_goto (tgt := 3) dX0_doesFit_91 (by decide) ?_
          refine hv_sub [1, 2, 3, 4, 0] rfl ?_
          exact hrc _ _ h
        · replace h := hq_ip c38 h
          refine hv_iconst (v := 0) dX0_doesFit_86 (by decide) ?_
          obtain ⟨h1, h2⟩ := hq_ret h
          subst h1
          subst h2
          exact hv_zret (ty := .boolean) rfl rfl dX0_doesFit_87
theorem wk_x_doesFit_L3 {l : Launch} {Gd : hk_G} {th : Nat} {p1 : Nat} {p2 : Int32} {p3 : Int32} {s0 : hk_St} {r : Int32} {fin : hk_St} {e0 : hk_St → Option (Int32 × hk_St)} (he0 : ∀ (s3 : hk_St), e0 s3 = some (r, fin) → hk_V Gd (N_x_doesFit l) (hk_end Gd s0 (some (.int r)) fin) 94 [] [] s3) : ∀ (n : Nat) (v1 : Int32) (s2 : hk_St), x_doesFit_L3 th p1 p2 p3 e0 n v1 s2 = some (r, fin) → hk_V Gd (N_x_doesFit l) (hk_end Gd s0 (some (.int r)) fin) 3 [(0, .ref th), (1, .ref p1), (2, .int p2), (3, .int p3), (4, .int v1)] [] s2 := by
  intro n
  induction n with
  | zero => intro v1 s2 h; cases h
  | succ n ih => intro v1 s2 h; exact wk_x_doesFit_L3b  ih he0 h
set_option maxHeartbeats 4000000 in
theorem wk_x_doesFit {l : Launch} {Gd : hk_G} {th : Nat} {p1 : Nat} {p2 : Int32} {p3 : Int32} {s0 : hk_St} {r : Int32} {fin : hk_St} (h : x_doesFit th p1 p2 p3 s0 = some (r, fin)) : hk_Met Gd l yX0_doesFit cX0_doesFit 5 (some .boolean) 6 159 [.ref th, .ref p1, .int p2, .int p3] s0 (some (.int r)) fin := by
  refine hk_start "HeadReckons" false (by decide +kernel) rfl (by decide) (Nat.le_of_ble_eq_true rfl) ?_
  show hk_V Gd (N_x_doesFit l) (hk_end Gd s0 (some (.int r)) fin) 0 [(0, .ref th), (1, .ref p1), (2, .int p2), (3, .int p3)] [] s0
  unfold x_doesFit at h
  refine hv_iconst (v := 0) dX0_doesFit_0 (by decide) ?_
  refine hv_istore (L' := [(4, .int (0 : Int32)), (0, .ref th), (1, .ref p1), (2, .int p2), (3, .int p3)]) dX0_doesFit_1 (Nat.le_of_ble_eq_true rfl) rfl ?_
  refine hv_sub [1, 2, 3, 4, 0] rfl ?_
  refine wk_x_doesFit_L3  ?_ hk_F _ _ h
  · intro s3 h
    refine hv_iconst (v := 1) dX0_doesFit_94 (by decide) ?_
    obtain ⟨h1, h2⟩ := hq_ret h
    subst h1
    subst h2
    exact hv_zret (ty := .boolean) rfl rfl dX0_doesFit_95
def x_fits_L36b (th : Nat) (p1 : Int32) (p2 : Int32) (e0 : Int32 → hk_St → Option (Int32 × hk_St)) (rc : Int32 → Int32 → hk_St → Option (Int32 × hk_St)) (v7 : Int32) (v8 : Int32) (s9 : hk_St) : Option (Int32 × hk_St) :=
  if (7 : Int32) ≤ v8 then
    e0 v7 s9
  else
  (hk_gR [0] 2 s9 th).bind fun x13 =>
  hk_nn x13 fun a14 =>
  (hk_lR 6 s9 a14 p1).bind fun x15 =>
  hk_nn x15 fun a16 =>
  (x_doesFit th a16 v8 p2 s9).bind fun q17 =>
  hk_gd (hk_bf [0] s9 th) <|
  if q17.1 = 0 then
    hk_nm (v8 + (1 : Int32)) fun x20 =>
    rc v7 x20 q17.2
  else
  hk_nm (v7 ||| ((1 : Int32) <<< (v8 &&& 31))) fun x21 =>
  hk_nm (v8 + (1 : Int32)) fun x22 =>
  rc x21 x22 q17.2
def x_fits_L36 (th : Nat) (p1 : Int32) (p2 : Int32) (e0 : Int32 → hk_St → Option (Int32 × hk_St)) : Nat → Int32 → Int32 → hk_St → Option (Int32 × hk_St)
  | 0 => fun _ _ _ => none
  | n + 1 => x_fits_L36b th p1 p2 e0 (x_fits_L36 th p1 p2 e0 n)
def x_fits (th : Nat) (p1 : Int32) (p2 : Int32) (s0 : hk_St) : Option (Int32 × hk_St) :=
  (x_isHead th p1 s0).bind fun x1 =>
  hk_gd (hk_bf [0] s0 th) <|
  if x1 = 0 then
    some ((-1 : Int32), s0)
  else
  if (x_in p2 (0 : Int32) (9999 : Int32)) = 0 then
    some ((-1 : Int32), s0)
  else
  (hk_gI [0] 11 s0 th).bind fun x5 =>
    if x5 = 0 then
      some ((-5 : Int32), s0)
    else
    x_fits_L36 th p1 p2  (fun (v10 : Int32) (s11 : hk_St) =>
        some (v10, s11)) hk_F (0 : Int32) (0 : Int32) s0
abbrev N_x_fits (l : Launch) : hk_N := (l, cX0_fits, "HeadReckons", 5, (some .int), 7, 183, false)
set_option maxHeartbeats 4000000 in
theorem wk_x_fits_L36b {l : Launch} {Gd : hk_G} {th : Nat} {p1 : Int32} {p2 : Int32} {s0 : hk_St} {r : Int32} {fin : hk_St} {e0 : Int32 → hk_St → Option (Int32 × hk_St)} {rc : Int32 → Int32 → hk_St → Option (Int32 × hk_St)} (hrc : ∀ (v7 : Int32) (v8 : Int32) (s9 : hk_St), rc v7 v8 s9 = some (r, fin) → hk_V Gd (N_x_fits l) (hk_end Gd s0 (some (.int r)) fin) 36 [(0, .ref th), (1, .int p1), (2, .int p2), (3, .int v7), (4, .int v8)] [] s9) (he0 : ∀ (v10 : Int32) (s11 : hk_St), e0 v10 s11 = some (r, fin) → hk_V Gd (N_x_fits l) (hk_end Gd s0 (some (.int r)) fin) 72 [(3, .int v10)] [] s11) {v7 : Int32} {v8 : Int32} {s9 : hk_St} (h : x_fits_L36b th p1 p2 e0 rc v7 v8 s9 = some (r, fin)) : hk_V Gd (N_x_fits l) (hk_end Gd s0 (some (.int r)) fin) 36 [(0, .ref th), (1, .int p1), (2, .int p2), (3, .int v7), (4, .int v8)] [] s9 := by
  unfold x_fits_L36b at h
  refine hv_iload 4 dX0_fits_36 rfl ?_
  refine hv_bipush (v := 7) dX0_fits_38 (by decide) ?_
  refine hv_icmp_ge (tgt := 72) dX0_fits_40 (by decide) (fun c12 => ?_) (fun c12 => ?_)
  · replace h := hq_ip c12 h
    refine hv_sub [3] rfl ?_
    exact he0 _ _ h
  · replace h := hq_in c12 h
    refine hv_aload_n 0 dX0_fits_43 rfl rfl ?_
    refine hv_aload_n 0 dX0_fits_44 rfl rfl ?_
    obtain ⟨x13, e_x13, h⟩ := hq_ob h
    refine hv_getR fl_X0_15 e_x13 dX0_fits_45 ?_
    refine hv_iload_n 1 dX0_fits_48 rfl rfl ?_
    obtain ⟨a14, e_a14, h⟩ := hq_nn h
    rw [e_a14]
    obtain ⟨x15, e_x15, h⟩ := hq_ob h
    refine hv_aald (by decide) (by decide) rfl e_x15 dX0_fits_49 ?_
    refine hv_iload 4 dX0_fits_50 rfl ?_
    refine hv_iload_n 2 dX0_fits_52 rfl rfl ?_
    obtain ⟨a16, e_a16, h⟩ := hq_nn h
    rw [e_a16]
    obtain ⟨q17, e_q17, h⟩ := hq_ob h
    obtain ⟨g18, h⟩ := hq_gd h
    refine hv_callV [.ref a16, .int v8, .int p2] [] [.int q17.1] (wk_x_doesFit e_q17) cs_X0_280 g18 rfl ⟨Nat.le_of_ble_eq_true rfl, Nat.le_of_ble_eq_true rfl⟩ rfl (Nat.le_of_ble_eq_true rfl) rfl dX0_fits_53 ?_
    refine hv_if_eq (tgt := 66) dX0_fits_56 (by decide) (fun c19 => ?_) (fun c19 => ?_)
    · replace h := hq_ip c19 h
      obtain ⟨x20, e_x20, h⟩ := hq_nm h
      refine hv_iinc (v := x20) (L' := [(4, .int x20), (0, .ref th), (1, .int p1), (2, .int p2), (3, .int v7)]) 4 dX0_fits_66 rfl (by rw [e_x20]; rfl) (Nat.le_of_ble_eq_true rfl) rfl ?_
      refine hv_goto (tgt := 36) dX0_fits_69 (by decide) ?_
      refine hv_sub [1, 2, 3, 4, 0] rfl ?_
      exact hrc _ _ _ h
    · replace h := hq_in c19 h
      refine hv_iload_n 3 dX0_fits_59 rfl rfl ?_
      refine hv_iconst (v := 1) dX0_fits_60 (by decide) ?_
      refine hv_iload 4 dX0_fits_61 rfl ?_
      refine hv_ishl dX0_fits_63 ?_
      refine hv_ior dX0_fits_64 ?_
      obtain ⟨x21, e_x21, h⟩ := hq_nm h
      rw [← e_x21]
      refine hv_istore_n (L' := [(3, .int x21), (0, .ref th), (1, .int p1), (2, .int p2), (4, .int v8)]) dX0_fits_65 rfl (Nat.le_of_ble_eq_true rfl) rfl ?_
      obtain ⟨x22, e_x22, h⟩ := hq_nm h
      refine hv_iinc (v := x22) (L' := [(4, .int x22), (3, .int x21), (0, .ref th), (1, .int p1), (2, .int p2)]) 4 dX0_fits_66 rfl (by rw [e_x22]; rfl) (Nat.le_of_ble_eq_true rfl) rfl ?_
      refine hv_goto (tgt := 36) dX0_fits_69 (by decide) ?_
      refine hv_sub [2, 3, 4, 1, 0] rfl ?_
      exact hrc _ _ _ h
theorem wk_x_fits_L36 {l : Launch} {Gd : hk_G} {th : Nat} {p1 : Int32} {p2 : Int32} {s0 : hk_St} {r : Int32} {fin : hk_St} {e0 : Int32 → hk_St → Option (Int32 × hk_St)} (he0 : ∀ (v10 : Int32) (s11 : hk_St), e0 v10 s11 = some (r, fin) → hk_V Gd (N_x_fits l) (hk_end Gd s0 (some (.int r)) fin) 72 [(3, .int v10)] [] s11) : ∀ (n : Nat) (v7 : Int32) (v8 : Int32) (s9 : hk_St), x_fits_L36 th p1 p2 e0 n v7 v8 s9 = some (r, fin) → hk_V Gd (N_x_fits l) (hk_end Gd s0 (some (.int r)) fin) 36 [(0, .ref th), (1, .int p1), (2, .int p2), (3, .int v7), (4, .int v8)] [] s9 := by
  intro n
  induction n with
  | zero => intro v7 v8 s9 h; cases h
  | succ n ih => intro v7 v8 s9 h; exact wk_x_fits_L36b  ih he0 h
set_option maxHeartbeats 4000000 in
theorem wk_x_fits {l : Launch} {Gd : hk_G} {th : Nat} {p1 : Int32} {p2 : Int32} {s0 : hk_St} {r : Int32} {fin : hk_St} (h : x_fits th p1 p2 s0 = some (r, fin)) : hk_Met Gd l yX0_fits cX0_fits 5 (some .int) 7 183 [.ref th, .int p1, .int p2] s0 (some (.int r)) fin := by
  refine hk_start "HeadReckons" false (by decide +kernel) rfl (by decide) (Nat.le_of_ble_eq_true rfl) ?_
  show hk_V Gd (N_x_fits l) (hk_end Gd s0 (some (.int r)) fin) 0 [(0, .ref th), (1, .int p1), (2, .int p2)] [] s0
  unfold x_fits at h
  refine hv_aload_n 0 dX0_fits_0 rfl rfl ?_
  refine hv_iload_n 1 dX0_fits_1 rfl rfl ?_
  obtain ⟨x1, e_x1, h⟩ := hq_ob h
  obtain ⟨g2, h⟩ := hq_gd h
  refine hv_callV [.int p1] [] [.int x1] (wk_x_isHead e_x1) cs_X0_89 g2 rfl ⟨Nat.le_of_ble_eq_true rfl, Nat.le_of_ble_eq_true rfl⟩ rfl (Nat.le_of_ble_eq_true rfl) rfl dX0_fits_2 ?_
  refine hv_if_eq (tgt := 19) dX0_fits_5 (by decide) (fun c3 => ?_) (fun c3 => ?_)
  · replace h := hq_ip c3 h
    refine hv_iconst (v := -1) dX0_fits_19 (by decide) ?_
    obtain ⟨h1, h2⟩ := hq_ret h
    subst h1
    subst h2
    exact hv_iret rfl dX0_fits_20
  · replace h := hq_in c3 h
    refine hv_iload_n 2 dX0_fits_8 rfl rfl ?_
    refine hv_iconst (v := 0) dX0_fits_9 (by decide) ?_
    refine hv_sipush (v := 9999) dX0_fits_10 (by decide) ?_
    refine hv_callS [.int p2, .int (0 : Int32), .int (9999 : Int32)] [] [.int (x_in p2 (0 : Int32) (9999 : Int32))] (wk_x_in rfl) cs_X0_73 rfl ⟨Nat.le_of_ble_eq_true rfl, Nat.le_of_ble_eq_true rfl⟩ rfl (Nat.le_of_ble_eq_true rfl) rfl dX0_fits_13 ?_
    refine hv_if_ne (tgt := 21) dX0_fits_16 (by decide) (fun c4 => ?_) (fun c4 => ?_)
    · replace h := hq_in c4 h
      refine hv_aload_n 0 dX0_fits_21 rfl rfl ?_
      obtain ⟨x5, e_x5, h⟩ := hq_ob h
      refine hv_getI fl_X0_231 e_x5 dX0_fits_22 ?_
      refine hv_if_ne (tgt := 31) dX0_fits_25 (by decide) (fun c6 => ?_) (fun c6 => ?_)
      · replace h := hq_in c6 h
        refine hv_iconst (v := 0) dX0_fits_31 (by decide) ?_
        refine hv_istore_n (L' := [(3, .int (0 : Int32)), (0, .ref th), (1, .int p1), (2, .int p2)]) dX0_fits_32 rfl (Nat.le_of_ble_eq_true rfl) rfl ?_
        refine hv_iconst (v := 0) dX0_fits_33 (by decide) ?_
        refine hv_istore (L' := [(4, .int (0 : Int32)), (3, .int (0 : Int32)), (0, .ref th), (1, .int p1), (2, .int p2)]) dX0_fits_34 (Nat.le_of_ble_eq_true rfl) rfl ?_
        refine hv_sub [2, 3, 4, 1, 0] rfl ?_
        refine wk_x_fits_L36  ?_ hk_F _ _ _ h
        · intro v10 s11 h
          refine hv_iload_n 0 dX0_fits_72 rfl rfl ?_
          obtain ⟨h1, h2⟩ := hq_ret h
          subst h1
          subst h2
          exact hv_iret rfl dX0_fits_73
      · replace h := hq_ip c6 h
        refine hv_bipush (v := -5) dX0_fits_28 (by decide) ?_
        obtain ⟨h1, h2⟩ := hq_ret h
        subst h1
        subst h2
        exact hv_iret rfl dX0_fits_30
    · replace h := hq_ip c4 h
      refine hv_iconst (v := -1) dX0_fits_19 (by decide) ?_
      obtain ⟨h1, h2⟩ := hq_ret h
      subst h1
      subst h2
      exact hv_iret rfl dX0_fits_20
def x_differs_L5b (th : Nat) (p1 : Nat) (p2 : Int32) (e0 : Int32 → hk_St → Option (Int32 × hk_St)) (rc : Int32 → Int32 → hk_St → Option (Int32 × hk_St)) (v1 : Int32) (v2 : Int32) (s3 : hk_St) : Option (Int32 × hk_St) :=
  hk_nm (fun (v6 : Int32) (v7 : Int32) (v8 : Int32) (s9 : hk_St) =>
    (hk_gR [0] 9 s9 th).bind fun x10 =>
    (hk_gR [0] 10 s9 th).bind fun x11 =>
    hk_nn x11 fun a12 =>
    (hk_lR 8 s9 a12 v7).bind fun x13 =>
    hk_nn x13 fun a14 =>
    (hk_gI [13] 1300 s9 a14).bind fun x15 =>
    (hk_gR [0] 10 s9 th).bind fun x16 =>
    hk_nn x16 fun a17 =>
    (hk_lR 8 s9 a17 v7).bind fun x18 =>
    hk_nn x18 fun a19 =>
    (hk_gI [13] 1301 s9 a19).bind fun x20 =>
    hk_nn x10 fun a21 =>
    (xActs_lay a21 p1 v8 x15 x20 s9).bind fun q22 =>
    hk_gd (hk_bf [2] s9 a21) <|
    if q22.1 = 0 then
      some ((-1 : Int32), q22.2)
    else
    (hk_gR [0] 9 q22.2 th).bind fun x25 =>
      hk_nn x25 fun a26 =>
      (hk_gI [2] 208 q22.2 a26).bind fun x27 =>
      (hk_gR [0] 10 q22.2 th).bind fun x28 =>
      hk_nn x28 fun a29 =>
      (hk_lR 8 q22.2 a29 v7).bind fun x30 =>
      hk_nn x30 fun a31 =>
      (hk_gI [13] 1302 q22.2 a31).bind fun x32 =>
      hk_nm (v6 + (j_abs_i (x27 - x32))) fun x33 =>
      hk_nm (v7 + (1 : Int32)) fun x34 =>
      rc x33 x34 q22.2) fun k49 =>
  (hk_gI [0] 11 s3 th).bind fun x35 =>
  if x35 ≤ v2 then
    e0 v1 s3
  else
  if p2 = (7 : Int32) then
    (hk_gR [0] 10 s3 th).bind fun x38 =>
  hk_nn x38 fun a39 =>
  (hk_lR 8 s3 a39 v2).bind fun x40 =>
  hk_nn x40 fun a41 =>
  (hk_gI [13] 1300 s3 a41).bind fun x42 =>
  (hk_gR [0] 10 s3 th).bind fun x43 =>
  hk_nn x43 fun a44 =>
  (hk_lR 8 s3 a44 v2).bind fun x45 =>
  hk_nn x45 fun a46 =>
  (hk_gI [13] 1301 s3 a46).bind fun x47 =>
  (x_chosenOf th p1 x42 x47 s3).bind fun q48 =>
  hk_gd (hk_bf [0] s3 th) <|
  k49 v1 v2 q48.1 q48.2
  else
  k49 v1 v2 p2 s3
def x_differs_L5 (th : Nat) (p1 : Nat) (p2 : Int32) (e0 : Int32 → hk_St → Option (Int32 × hk_St)) : Nat → Int32 → Int32 → hk_St → Option (Int32 × hk_St)
  | 0 => fun _ _ _ => none
  | n + 1 => x_differs_L5b th p1 p2 e0 (x_differs_L5 th p1 p2 e0 n)
def x_differs (th : Nat) (p1 : Nat) (p2 : Int32) (s0 : hk_St) : Option (Int32 × hk_St) :=
  x_differs_L5 th p1 p2  (fun (v4 : Int32) (s5 : hk_St) =>
    some (v4, s5)) hk_F (0 : Int32) (0 : Int32) s0
abbrev N_x_differs (l : Launch) : hk_N := (l, cX0_differs, "HeadReckons", 6, (some .int), 223, 12264, false)
set_option maxHeartbeats 4000000 in
theorem wk_x_differs_L5b {l : Launch} {Gd : hk_G} {th : Nat} {p1 : Nat} {p2 : Int32} {s0 : hk_St} {r : Int32} {fin : hk_St} {e0 : Int32 → hk_St → Option (Int32 × hk_St)} {rc : Int32 → Int32 → hk_St → Option (Int32 × hk_St)} (hrc : ∀ (v1 : Int32) (v2 : Int32) (s3 : hk_St), rc v1 v2 s3 = some (r, fin) → hk_V Gd (N_x_differs l) (hk_end Gd s0 (some (.int r)) fin) 5 [(0, .ref th), (1, .ref p1), (2, .int p2), (3, .int v1), (4, .int v2)] [] s3) (he0 : ∀ (v4 : Int32) (s5 : hk_St), e0 v4 s5 = some (r, fin) → hk_V Gd (N_x_differs l) (hk_end Gd s0 (some (.int r)) fin) 116 [(3, .int v4)] [] s5) {v1 : Int32} {v2 : Int32} {s3 : hk_St} (h : x_differs_L5b th p1 p2 e0 rc v1 v2 s3 = some (r, fin)) : hk_V Gd (N_x_differs l) (hk_end Gd s0 (some (.int r)) fin) 5 [(0, .ref th), (1, .ref p1), (2, .int p2), (3, .int v1), (4, .int v2)] [] s3 := by
  unfold x_differs_L5b at h
  obtain ⟨k49, e_k49, h⟩ := hq_nm h
  have wk49 : ∀ (v6 : Int32) (v7 : Int32) (v8 : Int32) (s9 : hk_St), k49 v6 v7 v8 s9 = some (r, fin) → hk_V Gd (N_x_differs l) (hk_end Gd s0 (some (.int r)) fin) 49 [(0, .ref th), (1, .ref p1), (2, .int p2), (3, .int v6), (4, .int v7)] [.int v8] s9 := by
    intro v6 v7 v8 s9 h
    rw [e_k49] at h
    refine hv_istore (L' := [(5, .int v8), (0, .ref th), (1, .ref p1), (2, .int p2), (3, .int v6), (4, .int v7)]) dX0_differs_49 (Nat.le_of_ble_eq_true rfl) rfl ?_
    refine hv_aload_n 1 dX0_differs_51 rfl rfl ?_
    obtain ⟨x10, e_x10, h⟩ := hq_ob h
    refine hv_getR fl_X0_37 e_x10 dX0_differs_52 ?_
    refine hv_aload_n 2 dX0_differs_55 rfl rfl ?_
    refine hv_iload 0 dX0_differs_56 rfl ?_
    refine hv_aload_n 1 dX0_differs_58 rfl rfl ?_
    obtain ⟨x11, e_x11, h⟩ := hq_ob h
    refine hv_getR fl_X0_43 e_x11 dX0_differs_59 ?_
    refine hv_iload 5 dX0_differs_62 rfl ?_
    obtain ⟨a12, e_a12, h⟩ := hq_nn h
    rw [e_a12]
    obtain ⟨x13, e_x13, h⟩ := hq_ob h
    refine hv_aald (by decide) (by decide) rfl e_x13 dX0_differs_64 ?_
    obtain ⟨a14, e_a14, h⟩ := hq_nn h
    rw [e_a14]
    obtain ⟨x15, e_x15, h⟩ := hq_ob h
    refine hv_getI fl_X0_259 e_x15 dX0_differs_65 ?_
    refine hv_aload_n 1 dX0_differs_68 rfl rfl ?_
    obtain ⟨x16, e_x16, h⟩ := hq_ob h
    refine hv_getR fl_X0_43 e_x16 dX0_differs_69 ?_
    refine hv_iload 5 dX0_differs_72 rfl ?_
    obtain ⟨a17, e_a17, h⟩ := hq_nn h
    rw [e_a17]
    obtain ⟨x18, e_x18, h⟩ := hq_ob h
    refine hv_aald (by decide) (by decide) rfl e_x18 dX0_differs_74 ?_
    obtain ⟨a19, e_a19, h⟩ := hq_nn h
    rw [e_a19]
    obtain ⟨x20, e_x20, h⟩ := hq_ob h
    refine hv_getI fl_X0_262 e_x20 dX0_differs_75 ?_
    obtain ⟨a21, e_a21, h⟩ := hq_nn h
    rw [e_a21]
    obtain ⟨q22, e_q22, h⟩ := hq_ob h
    obtain ⟨g23, h⟩ := hq_gd h
    refine hv_callV [.ref p1, .int v8, .int x15, .int x20] [] [.int q22.1] (wk_xActs_lay e_q22) cs_X0_150 g23 rfl ⟨Nat.le_of_ble_eq_true rfl, Nat.le_of_ble_eq_true rfl⟩ rfl (Nat.le_of_ble_eq_true rfl) rfl dX0_differs_78 ?_
    refine hv_if_ne (tgt := 86) dX0_differs_81 (by decide) (fun c24 => ?_) (fun c24 => ?_)
    · replace h := hq_in c24 h
      refine hv_iload_n 4 dX0_differs_86 rfl rfl ?_
      refine hv_aload_n 1 dX0_differs_87 rfl rfl ?_
      obtain ⟨x25, e_x25, h⟩ := hq_ob h
      refine hv_getR fl_X0_37 e_x25 dX0_differs_88 ?_
      obtain ⟨a26, e_a26, h⟩ := hq_nn h
      rw [e_a26]
      obtain ⟨x27, e_x27, h⟩ := hq_ob h
      refine hv_getI fl_X0_163 e_x27 dX0_differs_91 ?_
      refine hv_aload_n 1 dX0_differs_94 rfl rfl ?_
      obtain ⟨x28, e_x28, h⟩ := hq_ob h
      refine hv_getR fl_X0_43 e_x28 dX0_differs_95 ?_
      refine hv_iload 5 dX0_differs_98 rfl ?_
      obtain ⟨a29, e_a29, h⟩ := hq_nn h
      rw [e_a29]
      obtain ⟨x30, e_x30, h⟩ := hq_ob h
      refine hv_aald (by decide) (by decide) rfl e_x30 dX0_differs_100 ?_
      obtain ⟨a31, e_a31, h⟩ := hq_nn h
      rw [e_a31]
      obtain ⟨x32, e_x32, h⟩ := hq_ob h
      refine hv_getI fl_X0_265 e_x32 dX0_differs_101 ?_
      refine hv_isub dX0_differs_104 ?_
      refine hv_callS [.int (x27 - x32)] [.int v6] [.int (j_abs_i (x27 - x32)), .int v6] (wk_j_abs_i rfl) cs_X0_196 rfl ⟨Nat.le_of_ble_eq_true rfl, Nat.le_of_ble_eq_true rfl⟩ rfl (Nat.le_of_ble_eq_true rfl) rfl dX0_differs_105 ?_
      refine hv_iadd dX0_differs_108 ?_
      obtain ⟨x33, e_x33, h⟩ := hq_nm h
      rw [← e_x33]
      refine hv_istore_n (L' := [(3, .int x33), (5, .int v8), (0, .ref th), (1, .ref p1), (2, .int p2), (4, .int v7)]) dX0_differs_109 rfl (Nat.le_of_ble_eq_true rfl) rfl ?_
      obtain ⟨x34, e_x34, h⟩ := hq_nm h
      refine hv_iinc (v := x34) (L' := [(4, .int x34), (3, .int x33), (5, .int v8), (0, .ref th), (1, .ref p1), (2, .int p2)]) 5 dX0_differs_110 rfl (by rw [e_x34]; rfl) (Nat.le_of_ble_eq_true rfl) rfl ?_
      refine hv_goto (tgt := 5) dX0_differs_113 (by decide) ?_
      refine hv_sub [3, 4, 5, 1, 0] rfl ?_
      exact hrc _ _ _ h
    · replace h := hq_ip c24 h
      refine hv_iconst (v := -1) dX0_differs_84 (by decide) ?_
      obtain ⟨h1, h2⟩ := hq_ret h
      subst h1
      subst h2
      exact hv_iret rfl dX0_differs_85
  clear e_k49
  refine hv_iload 4 dX0_differs_5 rfl ?_
  refine hv_aload_n 0 dX0_differs_7 rfl rfl ?_
  obtain ⟨x35, e_x35, h⟩ := hq_ob h
  refine hv_getI fl_X0_231 e_x35 dX0_differs_8 ?_
  refine hv_icmp_ge (tgt := 116) dX0_differs_11 (by decide) (fun c36 => ?_) (fun c36 => ?_)
  · replace h := hq_ip c36 h
    refine hv_sub [3] rfl ?_
    exact he0 _ _ h
  · replace h := hq_in c36 h
    refine hv_iload_n 2 dX0_differs_14 rfl rfl ?_
    refine hv_bipush (v := 7) dX0_differs_15 (by decide) ?_
    refine hv_icmp_ne (tgt := 48) dX0_differs_17 (by decide) (fun c37 => ?_) (fun c37 => ?_)
    · replace h := hq_in c37 h
      refine hv_iload_n 2 dX0_differs_48 rfl rfl ?_
      exact wk49 _ _ _ _ h
    · replace h := hq_ip c37 h
      refine hv_aload_n 0 dX0_differs_20 rfl rfl ?_
      refine hv_aload_n 1 dX0_differs_21 rfl rfl ?_
      refine hv_aload_n 0 dX0_differs_22 rfl rfl ?_
      obtain ⟨x38, e_x38, h⟩ := hq_ob h
      refine hv_getR fl_X0_43 e_x38 dX0_differs_23 ?_
      refine hv_iload 4 dX0_differs_26 rfl ?_
      obtain ⟨a39, e_a39, h⟩ := hq_nn h
      rw [e_a39]
      obtain ⟨x40, e_x40, h⟩ := hq_ob h
      refine hv_aald (by decide) (by decide) rfl e_x40 dX0_differs_28 ?_
      obtain ⟨a41, e_a41, h⟩ := hq_nn h
      rw [e_a41]
      obtain ⟨x42, e_x42, h⟩ := hq_ob h
      refine hv_getI fl_X0_259 e_x42 dX0_differs_29 ?_
      refine hv_aload_n 0 dX0_differs_32 rfl rfl ?_
      obtain ⟨x43, e_x43, h⟩ := hq_ob h
      refine hv_getR fl_X0_43 e_x43 dX0_differs_33 ?_
      refine hv_iload 4 dX0_differs_36 rfl ?_
      obtain ⟨a44, e_a44, h⟩ := hq_nn h
      rw [e_a44]
      obtain ⟨x45, e_x45, h⟩ := hq_ob h
      refine hv_aald (by decide) (by decide) rfl e_x45 dX0_differs_38 ?_
      obtain ⟨a46, e_a46, h⟩ := hq_nn h
      rw [e_a46]
      obtain ⟨x47, e_x47, h⟩ := hq_ob h
      refine hv_getI fl_X0_262 e_x47 dX0_differs_39 ?_
      obtain ⟨q48, e_q48, h⟩ := hq_ob h
      obtain ⟨g49, h⟩ := hq_gd h
      refine hv_callV [.ref p1, .int x42, .int x47] [] [.int q48.1] (wk_x_chosenOf e_q48) cs_X0_207 g49 rfl ⟨Nat.le_of_ble_eq_true rfl, Nat.le_of_ble_eq_true rfl⟩ rfl (Nat.le_of_ble_eq_true rfl) rfl dX0_differs_42 ?_
      refine hv_goto (tgt := 49) dX0_differs_45 (by decide) ?_
      exact wk49 _ _ _ _ h
theorem wk_x_differs_L5 {l : Launch} {Gd : hk_G} {th : Nat} {p1 : Nat} {p2 : Int32} {s0 : hk_St} {r : Int32} {fin : hk_St} {e0 : Int32 → hk_St → Option (Int32 × hk_St)} (he0 : ∀ (v4 : Int32) (s5 : hk_St), e0 v4 s5 = some (r, fin) → hk_V Gd (N_x_differs l) (hk_end Gd s0 (some (.int r)) fin) 116 [(3, .int v4)] [] s5) : ∀ (n : Nat) (v1 : Int32) (v2 : Int32) (s3 : hk_St), x_differs_L5 th p1 p2 e0 n v1 v2 s3 = some (r, fin) → hk_V Gd (N_x_differs l) (hk_end Gd s0 (some (.int r)) fin) 5 [(0, .ref th), (1, .ref p1), (2, .int p2), (3, .int v1), (4, .int v2)] [] s3 := by
  intro n
  induction n with
  | zero => intro v1 v2 s3 h; cases h
  | succ n ih => intro v1 v2 s3 h; exact wk_x_differs_L5b  ih he0 h
set_option maxHeartbeats 4000000 in
theorem wk_x_differs {l : Launch} {Gd : hk_G} {th : Nat} {p1 : Nat} {p2 : Int32} {s0 : hk_St} {r : Int32} {fin : hk_St} (h : x_differs th p1 p2 s0 = some (r, fin)) : hk_Met Gd l yX0_differs cX0_differs 6 (some .int) 223 12264 [.ref th, .ref p1, .int p2] s0 (some (.int r)) fin := by
  refine hk_start "HeadReckons" false (by decide +kernel) rfl (by decide) (Nat.le_of_ble_eq_true rfl) ?_
  show hk_V Gd (N_x_differs l) (hk_end Gd s0 (some (.int r)) fin) 0 [(0, .ref th), (1, .ref p1), (2, .int p2)] [] s0
  unfold x_differs at h
  refine hv_iconst (v := 0) dX0_differs_0 (by decide) ?_
  refine hv_istore_n (L' := [(3, .int (0 : Int32)), (0, .ref th), (1, .ref p1), (2, .int p2)]) dX0_differs_1 rfl (Nat.le_of_ble_eq_true rfl) rfl ?_
  refine hv_iconst (v := 0) dX0_differs_2 (by decide) ?_
  refine hv_istore (L' := [(4, .int (0 : Int32)), (3, .int (0 : Int32)), (0, .ref th), (1, .ref p1), (2, .int p2)]) dX0_differs_3 (Nat.le_of_ble_eq_true rfl) rfl ?_
  refine hv_sub [2, 3, 4, 1, 0] rfl ?_
  refine wk_x_differs_L5  ?_ hk_F _ _ _ h
  · intro v4 s5 h
    refine hv_iload_n 0 dX0_differs_116 rfl rfl ?_
    obtain ⟨h1, h2⟩ := hq_ret h
    subst h1
    subst h2
    exact hv_iret rfl dX0_differs_117
def x_best_L37b (th : Nat) (p1 : Int32) (p2 : Int32) (e0 : Int32 → Int32 → hk_St → Option (Int32 × hk_St)) (rc : Int32 → Int32 → Int32 → hk_St → Option (Int32 × hk_St)) (v7 : Int32) (v8 : Int32) (v9 : Int32) (s10 : hk_St) : Option (Int32 × hk_St) :=
  if (7 : Int32) < v9 then
    e0 v7 v8 s10
  else
  (hk_gR [0] 2 s10 th).bind fun x15 =>
  hk_nn x15 fun a16 =>
  (hk_lR 6 s10 a16 p1).bind fun x17 =>
  hk_nn x17 fun a18 =>
  (x_differs th a18 v9 s10).bind fun q19 =>
  hk_gd (hk_bf [0] s10 th) <|
  if q19.1 < 0 then
    hk_nm (v9 + (1 : Int32)) fun x22 =>
    rc v7 v8 x22 q19.2
  else
  if v7 < 0 then
    hk_nm (v9 + (1 : Int32)) fun x24 =>
    rc v9 q19.1 x24 q19.2
  else
  if q19.1 < v8 then
    hk_nm (v9 + (1 : Int32)) fun x26 =>
    rc v9 q19.1 x26 q19.2
  else
  hk_nm (v9 + (1 : Int32)) fun x27 =>
  rc v7 v8 x27 q19.2
def x_best_L37 (th : Nat) (p1 : Int32) (p2 : Int32) (e0 : Int32 → Int32 → hk_St → Option (Int32 × hk_St)) : Nat → Int32 → Int32 → Int32 → hk_St → Option (Int32 × hk_St)
  | 0 => fun _ _ _ _ => none
  | n + 1 => x_best_L37b th p1 p2 e0 (x_best_L37 th p1 p2 e0 n)
def x_best (th : Nat) (p1 : Int32) (p2 : Int32) (s0 : hk_St) : Option (Int32 × hk_St) :=
  (x_isHead th p1 s0).bind fun x1 =>
  hk_gd (hk_bf [0] s0 th) <|
  if x1 = 0 then
    some ((-1 : Int32), s0)
  else
  if (x_in p2 (0 : Int32) (1 : Int32)) = 0 then
    some ((-1 : Int32), s0)
  else
  (hk_gI [0] 11 s0 th).bind fun x5 =>
    if x5 = 0 then
      some ((-5 : Int32), s0)
    else
    x_best_L37 th p1 p2  (fun (v11 : Int32) (v12 : Int32) (s13 : hk_St) =>
        if p2 = 0 then
          some (v11, s13)
        else
        some (v12, s13)) hk_F (-1 : Int32) (0 : Int32) (0 : Int32) s0
abbrev N_x_best (l : Launch) : hk_N := (l, cX0_best, "HeadReckons", 7, (some .int), 224, 12289, false)
set_option maxHeartbeats 4000000 in
theorem wk_x_best_L37b {l : Launch} {Gd : hk_G} {th : Nat} {p1 : Int32} {p2 : Int32} {s0 : hk_St} {r : Int32} {fin : hk_St} {e0 : Int32 → Int32 → hk_St → Option (Int32 × hk_St)} {rc : Int32 → Int32 → Int32 → hk_St → Option (Int32 × hk_St)} (hrc : ∀ (v7 : Int32) (v8 : Int32) (v9 : Int32) (s10 : hk_St), rc v7 v8 v9 s10 = some (r, fin) → hk_V Gd (N_x_best l) (hk_end Gd s0 (some (.int r)) fin) 37 [(0, .ref th), (1, .int p1), (2, .int p2), (3, .int v7), (4, .int v8), (5, .int v9)] [] s10) (he0 : ∀ (v11 : Int32) (v12 : Int32) (s13 : hk_St), e0 v11 v12 s13 = some (r, fin) → hk_V Gd (N_x_best l) (hk_end Gd s0 (some (.int r)) fin) 90 [(2, .int p2), (3, .int v11), (4, .int v12)] [] s13) {v7 : Int32} {v8 : Int32} {v9 : Int32} {s10 : hk_St} (h : x_best_L37b th p1 p2 e0 rc v7 v8 v9 s10 = some (r, fin)) : hk_V Gd (N_x_best l) (hk_end Gd s0 (some (.int r)) fin) 37 [(0, .ref th), (1, .int p1), (2, .int p2), (3, .int v7), (4, .int v8), (5, .int v9)] [] s10 := by
  unfold x_best_L37b at h
  refine hv_iload 5 dX0_best_37 rfl ?_
  refine hv_bipush (v := 7) dX0_best_39 (by decide) ?_
  refine hv_icmp_gt (tgt := 90) dX0_best_41 (by decide) (fun c14 => ?_) (fun c14 => ?_)
  · replace h := hq_ip c14 h
    refine hv_sub [2, 3, 4] rfl ?_
    exact he0 _ _ _ h
  · replace h := hq_in c14 h
    refine hv_aload_n 0 dX0_best_44 rfl rfl ?_
    refine hv_aload_n 0 dX0_best_45 rfl rfl ?_
    obtain ⟨x15, e_x15, h⟩ := hq_ob h
    refine hv_getR fl_X0_15 e_x15 dX0_best_46 ?_
    refine hv_iload_n 1 dX0_best_49 rfl rfl ?_
    obtain ⟨a16, e_a16, h⟩ := hq_nn h
    rw [e_a16]
    obtain ⟨x17, e_x17, h⟩ := hq_ob h
    refine hv_aald (by decide) (by decide) rfl e_x17 dX0_best_50 ?_
    refine hv_iload 5 dX0_best_51 rfl ?_
    obtain ⟨a18, e_a18, h⟩ := hq_nn h
    rw [e_a18]
    obtain ⟨q19, e_q19, h⟩ := hq_ob h
    obtain ⟨g20, h⟩ := hq_gd h
    refine hv_callV [.ref a18, .int v9] [] [.int q19.1] (wk_x_differs e_q19) cs_X0_284 g20 rfl ⟨Nat.le_of_ble_eq_true rfl, Nat.le_of_ble_eq_true rfl⟩ rfl (Nat.le_of_ble_eq_true rfl) rfl dX0_best_53 ?_
    refine hv_istore (L' := [(6, .int q19.1), (0, .ref th), (1, .int p1), (2, .int p2), (3, .int v7), (4, .int v8), (5, .int v9)]) dX0_best_56 (Nat.le_of_ble_eq_true rfl) rfl ?_
    refine hv_iload 0 dX0_best_58 rfl ?_
    refine hv_if_lt (tgt := 84) dX0_best_60 (by decide) (fun c21 => ?_) (fun c21 => ?_)
    · replace h := hq_ip c21 h
      obtain ⟨x22, e_x22, h⟩ := hq_nm h
      refine hv_iinc (v := x22) (L' := [(5, .int x22), (6, .int q19.1), (0, .ref th), (1, .int p1), (2, .int p2), (3, .int v7), (4, .int v8)]) 6 dX0_best_84 rfl (by rw [e_x22]; rfl) (Nat.le_of_ble_eq_true rfl) rfl ?_
      refine hv_goto (tgt := 37) dX0_best_87 (by decide) ?_
      refine hv_sub [2, 3, 4, 5, 6, 0] rfl ?_
      exact hrc _ _ _ _ h
    · replace h := hq_in c21 h
      refine hv_iload_n 4 dX0_best_63 rfl rfl ?_
      refine hv_if_lt (tgt := 77) dX0_best_64 (by decide) (fun c23 => ?_) (fun c23 => ?_)
      · replace h := hq_ip c23 h
        refine hv_iload 6 dX0_best_77 rfl ?_
        refine hv_istore_n (L' := [(3, .int v9), (6, .int q19.1), (0, .ref th), (1, .int p1), (2, .int p2), (4, .int v8), (5, .int v9)]) dX0_best_79 rfl (Nat.le_of_ble_eq_true rfl) rfl ?_
        refine hv_iload 1 dX0_best_80 rfl ?_
        refine hv_istore (L' := [(4, .int q19.1), (3, .int v9), (6, .int q19.1), (0, .ref th), (1, .int p1), (2, .int p2), (5, .int v9)]) dX0_best_82 (Nat.le_of_ble_eq_true rfl) rfl ?_
        obtain ⟨x24, e_x24, h⟩ := hq_nm h
        refine hv_iinc (v := x24) (L' := [(5, .int x24), (4, .int q19.1), (3, .int v9), (6, .int q19.1), (0, .ref th), (1, .int p1), (2, .int p2)]) 6 dX0_best_84 rfl (by rw [e_x24]; rfl) (Nat.le_of_ble_eq_true rfl) rfl ?_
        refine hv_goto (tgt := 37) dX0_best_87 (by decide) ?_
        refine hv_sub [4, 5, 6, 2, 1, 0] rfl ?_
        exact hrc _ _ _ _ h
      · replace h := hq_in c23 h
        refine hv_iload 0 dX0_best_67 rfl ?_
        refine hv_iload 5 dX0_best_69 rfl ?_
        refine hv_icmp_lt (tgt := 77) dX0_best_71 (by decide) (fun c25 => ?_) (fun c25 => ?_)
        · replace h := hq_ip c25 h
          refine hv_iload 6 dX0_best_77 rfl ?_
          refine hv_istore_n (L' := [(3, .int v9), (6, .int q19.1), (0, .ref th), (1, .int p1), (2, .int p2), (4, .int v8), (5, .int v9)]) dX0_best_79 rfl (Nat.le_of_ble_eq_true rfl) rfl ?_
          refine hv_iload 1 dX0_best_80 rfl ?_
          refine hv_istore (L' := [(4, .int q19.1), (3, .int v9), (6, .int q19.1), (0, .ref th), (1, .int p1), (2, .int p2), (5, .int v9)]) dX0_best_82 (Nat.le_of_ble_eq_true rfl) rfl ?_
          obtain ⟨x26, e_x26, h⟩ := hq_nm h
          refine hv_iinc (v := x26) (L' := [(5, .int x26), (4, .int q19.1), (3, .int v9), (6, .int q19.1), (0, .ref th), (1, .int p1), (2, .int p2)]) 6 dX0_best_84 rfl (by rw [e_x26]; rfl) (Nat.le_of_ble_eq_true rfl) rfl ?_
          refine hv_goto (tgt := 37) dX0_best_87 (by decide) ?_
          refine hv_sub [4, 5, 6, 2, 1, 0] rfl ?_
          exact hrc _ _ _ _ h
        · replace h := hq_in c25 h
          refine hv_goto (tgt := 84) dX0_best_74 (by decide) ?_
          obtain ⟨x27, e_x27, h⟩ := hq_nm h
          refine hv_iinc (v := x27) (L' := [(5, .int x27), (6, .int q19.1), (0, .ref th), (1, .int p1), (2, .int p2), (3, .int v7), (4, .int v8)]) 6 dX0_best_84 rfl (by rw [e_x27]; rfl) (Nat.le_of_ble_eq_true rfl) rfl ?_
          refine hv_goto (tgt := 37) dX0_best_87 (by decide) ?_
          refine hv_sub [2, 3, 4, 5, 6, 0] rfl ?_
          exact hrc _ _ _ _ h
theorem wk_x_best_L37 {l : Launch} {Gd : hk_G} {th : Nat} {p1 : Int32} {p2 : Int32} {s0 : hk_St} {r : Int32} {fin : hk_St} {e0 : Int32 → Int32 → hk_St → Option (Int32 × hk_St)} (he0 : ∀ (v11 : Int32) (v12 : Int32) (s13 : hk_St), e0 v11 v12 s13 = some (r, fin) → hk_V Gd (N_x_best l) (hk_end Gd s0 (some (.int r)) fin) 90 [(2, .int p2), (3, .int v11), (4, .int v12)] [] s13) : ∀ (n : Nat) (v7 : Int32) (v8 : Int32) (v9 : Int32) (s10 : hk_St), x_best_L37 th p1 p2 e0 n v7 v8 v9 s10 = some (r, fin) → hk_V Gd (N_x_best l) (hk_end Gd s0 (some (.int r)) fin) 37 [(0, .ref th), (1, .int p1), (2, .int p2), (3, .int v7), (4, .int v8), (5, .int v9)] [] s10 := by
  intro n
  induction n with
  | zero => intro v7 v8 v9 s10 h; cases h
  | succ n ih => intro v7 v8 v9 s10 h; exact wk_x_best_L37b  ih he0 h
set_option maxHeartbeats 4000000 in
theorem wk_x_best {l : Launch} {Gd : hk_G} {th : Nat} {p1 : Int32} {p2 : Int32} {s0 : hk_St} {r : Int32} {fin : hk_St} (h : x_best th p1 p2 s0 = some (r, fin)) : hk_Met Gd l yX0_best cX0_best 7 (some .int) 224 12289 [.ref th, .int p1, .int p2] s0 (some (.int r)) fin := by
  refine hk_start "HeadReckons" false (by decide +kernel) rfl (by decide) (Nat.le_of_ble_eq_true rfl) ?_
  show hk_V Gd (N_x_best l) (hk_end Gd s0 (some (.int r)) fin) 0 [(0, .ref th), (1, .int p1), (2, .int p2)] [] s0
  unfold x_best at h
  refine hv_aload_n 0 dX0_best_0 rfl rfl ?_
  refine hv_iload_n 1 dX0_best_1 rfl rfl ?_
  obtain ⟨x1, e_x1, h⟩ := hq_ob h
  obtain ⟨g2, h⟩ := hq_gd h
  refine hv_callV [.int p1] [] [.int x1] (wk_x_isHead e_x1) cs_X0_89 g2 rfl ⟨Nat.le_of_ble_eq_true rfl, Nat.le_of_ble_eq_true rfl⟩ rfl (Nat.le_of_ble_eq_true rfl) rfl dX0_best_2 ?_
  refine hv_if_eq (tgt := 17) dX0_best_5 (by decide) (fun c3 => ?_) (fun c3 => ?_)
  · replace h := hq_ip c3 h
    refine hv_iconst (v := -1) dX0_best_17 (by decide) ?_
    obtain ⟨h1, h2⟩ := hq_ret h
    subst h1
    subst h2
    exact hv_iret rfl dX0_best_18
  · replace h := hq_in c3 h
    refine hv_iload_n 2 dX0_best_8 rfl rfl ?_
    refine hv_iconst (v := 0) dX0_best_9 (by decide) ?_
    refine hv_iconst (v := 1) dX0_best_10 (by decide) ?_
    refine hv_callS [.int p2, .int (0 : Int32), .int (1 : Int32)] [] [.int (x_in p2 (0 : Int32) (1 : Int32))] (wk_x_in rfl) cs_X0_73 rfl ⟨Nat.le_of_ble_eq_true rfl, Nat.le_of_ble_eq_true rfl⟩ rfl (Nat.le_of_ble_eq_true rfl) rfl dX0_best_11 ?_
    refine hv_if_ne (tgt := 19) dX0_best_14 (by decide) (fun c4 => ?_) (fun c4 => ?_)
    · replace h := hq_in c4 h
      refine hv_aload_n 0 dX0_best_19 rfl rfl ?_
      obtain ⟨x5, e_x5, h⟩ := hq_ob h
      refine hv_getI fl_X0_231 e_x5 dX0_best_20 ?_
      refine hv_if_ne (tgt := 29) dX0_best_23 (by decide) (fun c6 => ?_) (fun c6 => ?_)
      · replace h := hq_in c6 h
        refine hv_iconst (v := -1) dX0_best_29 (by decide) ?_
        refine hv_istore_n (L' := [(3, .int (-1 : Int32)), (0, .ref th), (1, .int p1), (2, .int p2)]) dX0_best_30 rfl (Nat.le_of_ble_eq_true rfl) rfl ?_
        refine hv_iconst (v := 0) dX0_best_31 (by decide) ?_
        refine hv_istore (L' := [(4, .int (0 : Int32)), (3, .int (-1 : Int32)), (0, .ref th), (1, .int p1), (2, .int p2)]) dX0_best_32 (Nat.le_of_ble_eq_true rfl) rfl ?_
        refine hv_iconst (v := 0) dX0_best_34 (by decide) ?_
        refine hv_istore (L' := [(5, .int (0 : Int32)), (4, .int (0 : Int32)), (3, .int (-1 : Int32)), (0, .ref th), (1, .int p1), (2, .int p2)]) dX0_best_35 (Nat.le_of_ble_eq_true rfl) rfl ?_
        refine hv_sub [3, 4, 5, 2, 1, 0] rfl ?_
        refine wk_x_best_L37  ?_ hk_F _ _ _ _ h
        · intro v11 v12 s13 h
          refine hv_iload_n 0 dX0_best_90 rfl rfl ?_
          refine hv_if_ne (tgt := 98) dX0_best_91 (by decide) (fun c28 => ?_) (fun c28 => ?_)
          · replace h := hq_in c28 h
            refine hv_iload 2 dX0_best_98 rfl ?_
            obtain ⟨h1, h2⟩ := hq_ret h
            subst h1
            subst h2
            exact hv_iret rfl dX0_best_100
          · replace h := hq_ip c28 h
            refine hv_iload_n 1 dX0_best_94 rfl rfl ?_
            refine hv_goto (tgt := 100) dX0_best_95 (by decide) ?_
            obtain ⟨h1, h2⟩ := hq_ret h
            subst h1
            subst h2
            exact hv_iret rfl dX0_best_100
      · replace h := hq_ip c6 h
        refine hv_bipush (v := -5) dX0_best_26 (by decide) ?_
        obtain ⟨h1, h2⟩ := hq_ret h
        subst h1
        subst h2
        exact hv_iret rfl dX0_best_28
    · replace h := hq_ip c4 h
      refine hv_iconst (v := -1) dX0_best_17 (by decide) ?_
      obtain ⟨h1, h2⟩ := hq_ret h
      subst h1
      subst h2
      exact hv_iret rfl dX0_best_18
def x_slip_L95b (th : Nat) (p1 : Int32) (p2 : Int32) (p3 : Int32) (v30 : Nat) (e0 : Int32 → Int32 → hk_St → Option (Int32 × hk_St)) (rc : Int32 → Int32 → Int32 → hk_St → Option (Int32 × hk_St)) (v31 : Int32) (v32 : Int32) (v33 : Int32) (s34 : hk_St) : Option (Int32 × hk_St) :=
  (hk_gR [0] 9 s34 th).bind fun x38 =>
  hk_nn x38 fun a39 =>
  (hk_gI [2] 206 s34 a39).bind fun x40 =>
  if x40 ≤ v33 then
    e0 v31 v32 s34
  else
  (hk_gR [0] 9 s34 th).bind fun x42 =>
  (xSeen_off v30 s34).bind fun x43 =>
  hk_gd (hk_bf [13] s34 v30) <|
  hk_nn x42 fun a45 =>
  (xActs_canSlip a45 v33 x43 s34).bind fun x46 =>
  hk_gd (hk_bf [2] s34 a45) <|
  if x46 = 0 then
    hk_nm (v33 + (1 : Int32)) fun x54 =>
  rc v31 v32 x54 s34
  else
  if v32 = 0 then
      hk_nm (v32 + (1 : Int32)) fun x52 =>
    hk_nm (v33 + (1 : Int32)) fun x53 =>
    rc v33 x52 x53 s34
    else
    hk_nm (v32 + (1 : Int32)) fun x50 =>
      hk_nm (v33 + (1 : Int32)) fun x51 =>
      rc v31 x50 x51 s34
def x_slip_L95 (th : Nat) (p1 : Int32) (p2 : Int32) (p3 : Int32) (v30 : Nat) (e0 : Int32 → Int32 → hk_St → Option (Int32 × hk_St)) : Nat → Int32 → Int32 → Int32 → hk_St → Option (Int32 × hk_St)
  | 0 => fun _ _ _ _ => none
  | n + 1 => x_slip_L95b th p1 p2 p3 v30 e0 (x_slip_L95 th p1 p2 p3 v30 e0 n)
def x_slip (th : Nat) (p1 : Int32) (p2 : Int32) (p3 : Int32) (s0 : hk_St) : Option (Int32 × hk_St) :=
  (x_isBy th p1 s0).bind fun x1 =>
  hk_gd (hk_bf [0] s0 th) <|
  if x1 = 0 then
    some ((-1 : Int32), s0)
  else
  (x_isAsk th p2 s0).bind fun x4 =>
  hk_gd (hk_bf [0] s0 th) <|
  if x4 = 0 then
    some ((-1 : Int32), s0)
  else
  if (x_in p3 (0 : Int32) (1 : Int32)) = 0 then
    some ((-1 : Int32), s0)
  else
  (hk_gR [0] 10 s0 th).bind fun x8 =>
  hk_nn x8 fun a9 =>
  (hk_lR 8 s0 a9 p2).bind fun x10 =>
  hk_nn x10 fun a11 =>
  (xSeen_off a11 s0).bind fun x12 =>
  hk_gd (hk_bf [13] s0 a11) <|
  if x12 = (0 : Int64) then
    some ((-1 : Int32), s0)
  else
  (hk_gR [0] 10 s0 th).bind fun x15 =>
    hk_nn x15 fun a16 =>
    (hk_lR 8 s0 a16 p2).bind fun x17 =>
    (hk_gR [0] 9 s0 th).bind fun x18 =>
    (hk_gR [0] 2 s0 th).bind fun x19 =>
    hk_nn x19 fun a20 =>
    (hk_lR 6 s0 a20 (p1 / (10 : Int32))).bind fun x21 =>
    hk_nn x17 fun a22 =>
    (hk_gI [13] 1300 s0 a22).bind fun x23 =>
    (hk_gI [13] 1301 s0 a22).bind fun x24 =>
    hk_nn x18 fun a25 =>
    hk_nn x21 fun a26 =>
    (xActs_lay a25 a26 (p1 - p1 / (10 : Int32) * (10 : Int32)) x23 x24 s0).bind fun q27 =>
    hk_gd (hk_bf [2] s0 a25) <|
    if q27.1 = 0 then
      some ((-2 : Int32), q27.2)
    else
    x_slip_L95 th p1 p2 p3 a22 (fun (v35 : Int32) (v36 : Int32) (s37 : hk_St) =>
        if p3 = 0 then
          some (v35, s37)
        else
        some (v36, s37)) hk_F (-2 : Int32) (0 : Int32) (0 : Int32) q27.2
abbrev N_x_slip (l : Launch) : hk_N := (l, cX0_slip, "HeadReckons", 8, (some .int), 6, 159, false)
set_option maxHeartbeats 4000000 in
theorem wk_x_slip_L95b {l : Launch} {Gd : hk_G} {th : Nat} {p1 : Int32} {p2 : Int32} {p3 : Int32} {s0 : hk_St} {r : Int32} {fin : hk_St} {v30 : Nat} {e0 : Int32 → Int32 → hk_St → Option (Int32 × hk_St)} {rc : Int32 → Int32 → Int32 → hk_St → Option (Int32 × hk_St)} (hrc : ∀ (v31 : Int32) (v32 : Int32) (v33 : Int32) (s34 : hk_St), rc v31 v32 v33 s34 = some (r, fin) → hk_V Gd (N_x_slip l) (hk_end Gd s0 (some (.int r)) fin) 95 [(0, .ref th), (3, .int p3), (4, .ref v30), (5, .int v31), (6, .int v32), (7, .int v33)] [] s34) (he0 : ∀ (v35 : Int32) (v36 : Int32) (s37 : hk_St), e0 v35 v36 s37 = some (r, fin) → hk_V Gd (N_x_slip l) (hk_end Gd s0 (some (.int r)) fin) 145 [(3, .int p3), (5, .int v35), (6, .int v36)] [] s37) {v31 : Int32} {v32 : Int32} {v33 : Int32} {s34 : hk_St} (h : x_slip_L95b th p1 p2 p3 v30 e0 rc v31 v32 v33 s34 = some (r, fin)) : hk_V Gd (N_x_slip l) (hk_end Gd s0 (some (.int r)) fin) 95 [(0, .ref th), (3, .int p3), (4, .ref v30), (5, .int v31), (6, .int v32), (7, .int v33)] [] s34 := by
  unfold x_slip_L95b at h
  refine hv_iload 5 dX0_slip_95 rfl ?_
  refine hv_aload_n 0 dX0_slip_97 rfl rfl ?_
  obtain ⟨x38, e_x38, h⟩ := hq_ob h
  refine hv_getR fl_X0_37 e_x38 dX0_slip_98 ?_
  obtain ⟨a39, e_a39, h⟩ := hq_nn h
  rw [e_a39]
  obtain ⟨x40, e_x40, h⟩ := hq_ob h
  refine hv_getI fl_X0_169 e_x40 dX0_slip_101 ?_
  refine hv_icmp_ge (tgt := 145) dX0_slip_104 (by decide) (fun c41 => ?_) (fun c41 => ?_)
  · replace h := hq_ip c41 h
    refine hv_sub [1, 3, 4] rfl ?_
    exact he0 _ _ _ h
  · replace h := hq_in c41 h
    refine hv_aload_n 0 dX0_slip_107 rfl rfl ?_
    obtain ⟨x42, e_x42, h⟩ := hq_ob h
    refine hv_getR fl_X0_37 e_x42 dX0_slip_108 ?_
    refine hv_iload 5 dX0_slip_111 rfl ?_
    refine hv_aload 2 dX0_slip_113 rfl ?_
    obtain ⟨x43, e_x43, h⟩ := hq_ob h
    obtain ⟨g44, h⟩ := hq_gd h
    refine hv_callV [] [.int v33, va_rf x42] [.long x43, .int v33, va_rf x42] (wk_xSeen_off e_x43) cs_X0_268 g44 rfl ⟨Nat.le_of_ble_eq_true rfl, Nat.le_of_ble_eq_true rfl⟩ rfl (by simp only [List.map, hk_cat]; exact Nat.le_of_ble_eq_true rfl) rfl dX0_slip_115 ?_
    obtain ⟨a45, e_a45, h⟩ := hq_nn h
    rw [e_a45]
    obtain ⟨x46, e_x46, h⟩ := hq_ob h
    obtain ⟨g47, h⟩ := hq_gd h
    refine hv_callV [.int v33, .long x43] [] [.int x46] (wk_xActs_canSlip e_x46) cs_X0_272 g47 rfl ⟨Nat.le_of_ble_eq_true rfl, Nat.le_of_ble_eq_true rfl⟩ rfl (Nat.le_of_ble_eq_true rfl) rfl dX0_slip_118 ?_
    refine hv_if_ne (tgt := 127) dX0_slip_121 (by decide) (fun c48 => ?_) (fun c48 => ?_)
    · replace h := hq_in c48 h
      refine hv_iload 4 dX0_slip_127 rfl ?_
      refine hv_if_ne (tgt := 136) dX0_slip_129 (by decide) (fun c49 => ?_) (fun c49 => ?_)
      · replace h := hq_in c49 h
        obtain ⟨x50, e_x50, h⟩ := hq_nm h
        refine hv_iinc (v := x50) (L' := [(6, .int x50), (0, .ref th), (3, .int p3), (4, .ref v30), (5, .int v31), (7, .int v33)]) 4 dX0_slip_136 rfl (by rw [e_x50]; rfl) (Nat.le_of_ble_eq_true rfl) rfl ?_
        obtain ⟨x51, e_x51, h⟩ := hq_nm h
        refine hv_iinc (v := x51) (L' := [(7, .int x51), (6, .int x50), (0, .ref th), (3, .int p3), (4, .ref v30), (5, .int v31)]) 5 dX0_slip_139 rfl (by rw [e_x51]; rfl) (Nat.le_of_ble_eq_true rfl) rfl ?_
        refine hv_goto (tgt := 95) dX0_slip_142 (by decide) ?_
        refine hv_sub [2, 3, 4, 5, 1, 0] rfl ?_
        exact hrc _ _ _ _ h
      · replace h := hq_ip c49 h
        refine hv_iload 5 dX0_slip_132 rfl ?_
        refine hv_istore (L' := [(5, .int v33), (0, .ref th), (3, .int p3), (4, .ref v30), (6, .int v32), (7, .int v33)]) dX0_slip_134 (Nat.le_of_ble_eq_true rfl) rfl ?_
        obtain ⟨x52, e_x52, h⟩ := hq_nm h
        refine hv_iinc (v := x52) (L' := [(6, .int x52), (5, .int v33), (0, .ref th), (3, .int p3), (4, .ref v30), (7, .int v33)]) 4 dX0_slip_136 rfl (by rw [e_x52]; rfl) (Nat.le_of_ble_eq_true rfl) rfl ?_
        obtain ⟨x53, e_x53, h⟩ := hq_nm h
        refine hv_iinc (v := x53) (L' := [(7, .int x53), (6, .int x52), (5, .int v33), (0, .ref th), (3, .int p3), (4, .ref v30)]) 5 dX0_slip_139 rfl (by rw [e_x53]; rfl) (Nat.le_of_ble_eq_true rfl) rfl ?_
        refine hv_goto (tgt := 95) dX0_slip_142 (by decide) ?_
        refine hv_sub [3, 4, 5, 2, 1, 0] rfl ?_
        exact hrc _ _ _ _ h
    · replace h := hq_ip c48 h
      refine hv_goto (tgt := 139) dX0_slip_124 (by decide) ?_
      obtain ⟨x54, e_x54, h⟩ := hq_nm h
      refine hv_iinc (v := x54) (L' := [(7, .int x54), (0, .ref th), (3, .int p3), (4, .ref v30), (5, .int v31), (6, .int v32)]) 5 dX0_slip_139 rfl (by rw [e_x54]; rfl) (Nat.le_of_ble_eq_true rfl) rfl ?_
      refine hv_goto (tgt := 95) dX0_slip_142 (by decide) ?_
      refine hv_sub [1, 2, 3, 4, 5, 0] rfl ?_
      exact hrc _ _ _ _ h
theorem wk_x_slip_L95 {l : Launch} {Gd : hk_G} {th : Nat} {p1 : Int32} {p2 : Int32} {p3 : Int32} {s0 : hk_St} {r : Int32} {fin : hk_St} {v30 : Nat} {e0 : Int32 → Int32 → hk_St → Option (Int32 × hk_St)} (he0 : ∀ (v35 : Int32) (v36 : Int32) (s37 : hk_St), e0 v35 v36 s37 = some (r, fin) → hk_V Gd (N_x_slip l) (hk_end Gd s0 (some (.int r)) fin) 145 [(3, .int p3), (5, .int v35), (6, .int v36)] [] s37) : ∀ (n : Nat) (v31 : Int32) (v32 : Int32) (v33 : Int32) (s34 : hk_St), x_slip_L95 th p1 p2 p3 v30 e0 n v31 v32 v33 s34 = some (r, fin) → hk_V Gd (N_x_slip l) (hk_end Gd s0 (some (.int r)) fin) 95 [(0, .ref th), (3, .int p3), (4, .ref v30), (5, .int v31), (6, .int v32), (7, .int v33)] [] s34 := by
  intro n
  induction n with
  | zero => intro v31 v32 v33 s34 h; cases h
  | succ n ih => intro v31 v32 v33 s34 h; exact wk_x_slip_L95b  ih he0 h
set_option maxHeartbeats 4000000 in
theorem wk_x_slip {l : Launch} {Gd : hk_G} {th : Nat} {p1 : Int32} {p2 : Int32} {p3 : Int32} {s0 : hk_St} {r : Int32} {fin : hk_St} (h : x_slip th p1 p2 p3 s0 = some (r, fin)) : hk_Met Gd l yX0_slip cX0_slip 8 (some .int) 6 159 [.ref th, .int p1, .int p2, .int p3] s0 (some (.int r)) fin := by
  refine hk_start "HeadReckons" false (by decide +kernel) rfl (by decide) (Nat.le_of_ble_eq_true rfl) ?_
  show hk_V Gd (N_x_slip l) (hk_end Gd s0 (some (.int r)) fin) 0 [(0, .ref th), (1, .int p1), (2, .int p2), (3, .int p3)] [] s0
  unfold x_slip at h
  refine hv_aload_n 0 dX0_slip_0 rfl rfl ?_
  refine hv_iload_n 1 dX0_slip_1 rfl rfl ?_
  obtain ⟨x1, e_x1, h⟩ := hq_ob h
  obtain ⟨g2, h⟩ := hq_gd h
  refine hv_callV [.int p1] [] [.int x1] (wk_x_isBy e_x1) cs_X0_154 g2 rfl ⟨Nat.le_of_ble_eq_true rfl, Nat.le_of_ble_eq_true rfl⟩ rfl (Nat.le_of_ble_eq_true rfl) rfl dX0_slip_2 ?_
  refine hv_if_eq (tgt := 39) dX0_slip_5 (by decide) (fun c3 => ?_) (fun c3 => ?_)
  · replace h := hq_ip c3 h
    refine hv_iconst (v := -1) dX0_slip_39 (by decide) ?_
    obtain ⟨h1, h2⟩ := hq_ret h
    subst h1
    subst h2
    exact hv_iret rfl dX0_slip_40
  · replace h := hq_in c3 h
    refine hv_aload_n 0 dX0_slip_8 rfl rfl ?_
    refine hv_iload_n 2 dX0_slip_9 rfl rfl ?_
    obtain ⟨x4, e_x4, h⟩ := hq_ob h
    obtain ⟨g5, h⟩ := hq_gd h
    refine hv_callV [.int p2] [] [.int x4] (wk_x_isAsk e_x4) cs_X0_256 g5 rfl ⟨Nat.le_of_ble_eq_true rfl, Nat.le_of_ble_eq_true rfl⟩ rfl (Nat.le_of_ble_eq_true rfl) rfl dX0_slip_10 ?_
    refine hv_if_eq (tgt := 39) dX0_slip_13 (by decide) (fun c6 => ?_) (fun c6 => ?_)
    · replace h := hq_ip c6 h
      refine hv_iconst (v := -1) dX0_slip_39 (by decide) ?_
      obtain ⟨h1, h2⟩ := hq_ret h
      subst h1
      subst h2
      exact hv_iret rfl dX0_slip_40
    · replace h := hq_in c6 h
      refine hv_iload_n 3 dX0_slip_16 rfl rfl ?_
      refine hv_iconst (v := 0) dX0_slip_17 (by decide) ?_
      refine hv_iconst (v := 1) dX0_slip_18 (by decide) ?_
      refine hv_callS [.int p3, .int (0 : Int32), .int (1 : Int32)] [] [.int (x_in p3 (0 : Int32) (1 : Int32))] (wk_x_in rfl) cs_X0_73 rfl ⟨Nat.le_of_ble_eq_true rfl, Nat.le_of_ble_eq_true rfl⟩ rfl (Nat.le_of_ble_eq_true rfl) rfl dX0_slip_19 ?_
      refine hv_if_eq (tgt := 39) dX0_slip_22 (by decide) (fun c7 => ?_) (fun c7 => ?_)
      · replace h := hq_ip c7 h
        refine hv_iconst (v := -1) dX0_slip_39 (by decide) ?_
        obtain ⟨h1, h2⟩ := hq_ret h
        subst h1
        subst h2
        exact hv_iret rfl dX0_slip_40
      · replace h := hq_in c7 h
        refine hv_aload_n 0 dX0_slip_25 rfl rfl ?_
        obtain ⟨x8, e_x8, h⟩ := hq_ob h
        refine hv_getR fl_X0_43 e_x8 dX0_slip_26 ?_
        refine hv_iload_n 2 dX0_slip_29 rfl rfl ?_
        obtain ⟨a9, e_a9, h⟩ := hq_nn h
        rw [e_a9]
        obtain ⟨x10, e_x10, h⟩ := hq_ob h
        refine hv_aald (by decide) (by decide) rfl e_x10 dX0_slip_30 ?_
        obtain ⟨a11, e_a11, h⟩ := hq_nn h
        rw [e_a11]
        obtain ⟨x12, e_x12, h⟩ := hq_ob h
        obtain ⟨g13, h⟩ := hq_gd h
        refine hv_callV [] [] [.long x12] (wk_xSeen_off e_x12) cs_X0_268 g13 rfl ⟨Nat.le_of_ble_eq_true rfl, Nat.le_of_ble_eq_true rfl⟩ rfl (Nat.le_of_ble_eq_true rfl) rfl dX0_slip_31 ?_
        refine hv_lconst (v := 0) dX0_slip_34 (by decide) ?_
        refine hv_lcmp_ne (tgt := 41) dX0_slip_35 dX0_slip_36 (by decide) (fun c14 => ?_) (fun c14 => ?_)
        · replace h := hq_in c14 h
          refine hv_aload_n 0 dX0_slip_41 rfl rfl ?_
          obtain ⟨x15, e_x15, h⟩ := hq_ob h
          refine hv_getR fl_X0_43 e_x15 dX0_slip_42 ?_
          refine hv_iload_n 2 dX0_slip_45 rfl rfl ?_
          obtain ⟨a16, e_a16, h⟩ := hq_nn h
          rw [e_a16]
          obtain ⟨x17, e_x17, h⟩ := hq_ob h
          refine hv_aald (by decide) (by decide) rfl e_x17 dX0_slip_46 ?_
          refine hv_astoreq (L' := [(4, va_rf x17), (0, .ref th), (1, .int p1), (2, .int p2), (3, .int p3)]) dX0_slip_47 (Nat.le_of_ble_eq_true rfl) rfl ?_
          refine hv_aload_n 1 dX0_slip_49 rfl rfl ?_
          obtain ⟨x18, e_x18, h⟩ := hq_ob h
          refine hv_getR fl_X0_37 e_x18 dX0_slip_50 ?_
          refine hv_aload_n 1 dX0_slip_53 rfl rfl ?_
          obtain ⟨x19, e_x19, h⟩ := hq_ob h
          refine hv_getR fl_X0_15 e_x19 dX0_slip_54 ?_
          refine hv_iload_n 2 dX0_slip_57 rfl rfl ?_
          refine hv_bipush (v := 10) dX0_slip_58 (by decide) ?_
          refine hv_idiv (by decide) dX0_slip_60 ?_
          obtain ⟨a20, e_a20, h⟩ := hq_nn h
          rw [e_a20]
          obtain ⟨x21, e_x21, h⟩ := hq_ob h
          refine hv_aald (by decide) (by decide) rfl e_x21 dX0_slip_61 ?_
          refine hv_iload_n 2 dX0_slip_62 rfl rfl ?_
          refine hv_bipush (v := 10) dX0_slip_63 (by decide) ?_
          refine hv_irem (by decide) dX0_slip_65 ?_
          refine hv_aloadq 0 dX0_slip_66 rfl ?_
          obtain ⟨a22, e_a22, h⟩ := hq_nn h
          rw [e_a22]
          obtain ⟨x23, e_x23, h⟩ := hq_ob h
          refine hv_getI fl_X0_259 e_x23 dX0_slip_68 ?_
          refine hv_aload 0 dX0_slip_71 rfl ?_
          obtain ⟨x24, e_x24, h⟩ := hq_ob h
          refine hv_getI fl_X0_262 e_x24 dX0_slip_73 ?_
          obtain ⟨a25, e_a25, h⟩ := hq_nn h
          rw [e_a25]
          obtain ⟨a26, e_a26, h⟩ := hq_nn h
          rw [e_a26]
          obtain ⟨q27, e_q27, h⟩ := hq_ob h
          obtain ⟨g28, h⟩ := hq_gd h
          refine hv_callV [.ref a26, .int (p1 - p1 / (10 : Int32) * (10 : Int32)), .int x23, .int x24] [] [.int q27.1] (wk_xActs_lay e_q27) cs_X0_150 g28 rfl ⟨Nat.le_of_ble_eq_true rfl, Nat.le_of_ble_eq_true rfl⟩ rfl (Nat.le_of_ble_eq_true rfl) rfl dX0_slip_76 ?_
          refine hv_if_ne (tgt := 85) dX0_slip_79 (by decide) (fun c29 => ?_) (fun c29 => ?_)
          · replace h := hq_in c29 h
            refine hv_bipush (v := -2) dX0_slip_85 (by decide) ?_
            refine hv_istore (L' := [(5, .int (-2 : Int32)), (4, .ref a22), (0, .ref th), (1, .int p1), (2, .int p2), (3, .int p3)]) dX0_slip_87 (Nat.le_of_ble_eq_true rfl) rfl ?_
            refine hv_iconst (v := 0) dX0_slip_89 (by decide) ?_
            refine hv_istore (L' := [(6, .int (0 : Int32)), (5, .int (-2 : Int32)), (4, .ref a22), (0, .ref th), (1, .int p1), (2, .int p2), (3, .int p3)]) dX0_slip_90 (Nat.le_of_ble_eq_true rfl) rfl ?_
            refine hv_iconst (v := 0) dX0_slip_92 (by decide) ?_
            refine hv_istore (L' := [(7, .int (0 : Int32)), (6, .int (0 : Int32)), (5, .int (-2 : Int32)), (4, .ref a22), (0, .ref th), (1, .int p1), (2, .int p2), (3, .int p3)]) dX0_slip_93 (Nat.le_of_ble_eq_true rfl) rfl ?_
            refine hv_sub [4, 7, 3, 2, 1, 0] rfl ?_
            refine wk_x_slip_L95  ?_ hk_F _ _ _ _ h
            · intro v35 v36 s37 h
              refine hv_iload_n 0 dX0_slip_145 rfl rfl ?_
              refine hv_if_ne (tgt := 154) dX0_slip_146 (by decide) (fun c55 => ?_) (fun c55 => ?_)
              · replace h := hq_in c55 h
                refine hv_iload 2 dX0_slip_154 rfl ?_
                obtain ⟨h1, h2⟩ := hq_ret h
                subst h1
                subst h2
                exact hv_iret rfl dX0_slip_156
              · replace h := hq_ip c55 h
                refine hv_iload 1 dX0_slip_149 rfl ?_
                refine hv_goto (tgt := 156) dX0_slip_151 (by decide) ?_
                obtain ⟨h1, h2⟩ := hq_ret h
                subst h1
                subst h2
                exact hv_iret rfl dX0_slip_156
          · replace h := hq_ip c29 h
            refine hv_bipush (v := -2) dX0_slip_82 (by decide) ?_
            obtain ⟨h1, h2⟩ := hq_ret h
            subst h1
            subst h2
            exact hv_iret rfl dX0_slip_84
        · replace h := hq_ip c14 h
          refine hv_iconst (v := -1) dX0_slip_39 (by decide) ?_
          obtain ⟨h1, h2⟩ := hq_ret h
          subst h1
          subst h2
          exact hv_iret rfl dX0_slip_40
def x_suits_L24b (th : Nat) (p1 : Int32) (e0 : Int32 → hk_St → Option (Int32 × hk_St)) (rc : Int32 → Int32 → hk_St → Option (Int32 × hk_St)) (v6 : Int32) (v7 : Int32) (s8 : hk_St) : Option (Int32 × hk_St) :=
  (hk_gI [0] 11 s8 th).bind fun x11 =>
  if x11 ≤ v7 then
    e0 v6 s8
  else
  (hk_gR [0] 2 s8 th).bind fun x13 =>
  hk_nn x13 fun a14 =>
  (hk_lR 6 s8 a14 p1).bind fun x15 =>
  (hk_gR [0] 10 s8 th).bind fun x16 =>
  hk_nn x16 fun a17 =>
  (hk_lR 8 s8 a17 v7).bind fun x18 =>
  hk_nn x18 fun a19 =>
  (hk_gI [13] 1300 s8 a19).bind fun x20 =>
  (hk_gR [0] 10 s8 th).bind fun x21 =>
  hk_nn x21 fun a22 =>
  (hk_lR 8 s8 a22 v7).bind fun x23 =>
  hk_nn x23 fun a24 =>
  (hk_gI [13] 1301 s8 a24).bind fun x25 =>
  hk_nn x15 fun a26 =>
  (x_chosenSeconds th a26 x20 x25 s8).bind fun q27 =>
  hk_gd (hk_bf [0] s8 th) <|
  (hk_gR [0] 9 q27.2 th).bind fun x29 =>
  (hk_gR [0] 2 q27.2 th).bind fun x30 =>
  hk_nn x30 fun a31 =>
  (hk_lR 6 q27.2 a31 p1).bind fun x32 =>
  (hk_gR [0] 10 q27.2 th).bind fun x33 =>
  hk_nn x33 fun a34 =>
  (hk_lR 8 q27.2 a34 v7).bind fun x35 =>
  hk_nn x35 fun a36 =>
  (hk_gI [13] 1300 q27.2 a36).bind fun x37 =>
  (hk_gR [0] 10 q27.2 th).bind fun x38 =>
  hk_nn x38 fun a39 =>
  (hk_lR 8 q27.2 a39 v7).bind fun x40 =>
  hk_nn x40 fun a41 =>
  (hk_gI [13] 1301 q27.2 a41).bind fun x42 =>
  hk_nn x29 fun a43 =>
  hk_nn x32 fun a44 =>
  (xActs_lay a43 a44 (1 : Int32) x37 x42 q27.2).bind fun q45 =>
  hk_gd (hk_bf [2] q27.2 a43) <|
  (hk_gR [0] 9 q45.2 th).bind fun x47 =>
  hk_nn x47 fun a48 =>
  (hk_gI [2] 208 q45.2 a48).bind fun x49 =>
  if (x49 / (2 : Int32)) < q27.1 then
    hk_nm (v6 + (0 : Int32)) fun x51 =>
    hk_nm (v7 + (1 : Int32)) fun x52 =>
    rc x51 x52 q45.2
  else
  hk_nm (v6 + (1 : Int32)) fun x53 =>
  hk_nm (v7 + (1 : Int32)) fun x54 =>
  rc x53 x54 q45.2
def x_suits_L24 (th : Nat) (p1 : Int32) (e0 : Int32 → hk_St → Option (Int32 × hk_St)) : Nat → Int32 → Int32 → hk_St → Option (Int32 × hk_St)
  | 0 => fun _ _ _ => none
  | n + 1 => x_suits_L24b th p1 e0 (x_suits_L24 th p1 e0 n)
def x_suits (th : Nat) (p1 : Int32) (s0 : hk_St) : Option (Int32 × hk_St) :=
  (x_isHead th p1 s0).bind fun x1 =>
  hk_gd (hk_bf [0] s0 th) <|
  if x1 = 0 then
    some ((-1 : Int32), s0)
  else
  (hk_gI [0] 11 s0 th).bind fun x4 =>
    if x4 = 0 then
      some ((-5 : Int32), s0)
    else
    x_suits_L24 th p1  (fun (v9 : Int32) (s10 : hk_St) =>
        (hk_gI [0] 11 s10 th).bind fun x55 =>
        hk_gd (decide (¬ x55 = 0)) <|
        some (((1000 : Int32) * v9) / x55, s10)) hk_F (0 : Int32) (0 : Int32) s0
abbrev N_x_suits (l : Launch) : hk_N := (l, cX0_suits, "HeadReckons", 5, (some .int), 224, 12287, false)
set_option maxHeartbeats 4000000 in
theorem wk_x_suits_L24b {l : Launch} {Gd : hk_G} {th : Nat} {p1 : Int32} {s0 : hk_St} {r : Int32} {fin : hk_St} {e0 : Int32 → hk_St → Option (Int32 × hk_St)} {rc : Int32 → Int32 → hk_St → Option (Int32 × hk_St)} (hrc : ∀ (v6 : Int32) (v7 : Int32) (s8 : hk_St), rc v6 v7 s8 = some (r, fin) → hk_V Gd (N_x_suits l) (hk_end Gd s0 (some (.int r)) fin) 24 [(0, .ref th), (1, .int p1), (2, .int v6), (3, .int v7)] [] s8) (he0 : ∀ (v9 : Int32) (s10 : hk_St), e0 v9 s10 = some (r, fin) → hk_V Gd (N_x_suits l) (hk_end Gd s0 (some (.int r)) fin) 123 [(0, .ref th), (2, .int v9)] [] s10) {v6 : Int32} {v7 : Int32} {s8 : hk_St} (h : x_suits_L24b th p1 e0 rc v6 v7 s8 = some (r, fin)) : hk_V Gd (N_x_suits l) (hk_end Gd s0 (some (.int r)) fin) 24 [(0, .ref th), (1, .int p1), (2, .int v6), (3, .int v7)] [] s8 := by
  unfold x_suits_L24b at h
  refine hv_iload_n 3 dX0_suits_24 rfl rfl ?_
  refine hv_aload_n 0 dX0_suits_25 rfl rfl ?_
  obtain ⟨x11, e_x11, h⟩ := hq_ob h
  refine hv_getI fl_X0_231 e_x11 dX0_suits_26 ?_
  refine hv_icmp_ge (tgt := 123) dX0_suits_29 (by decide) (fun c12 => ?_) (fun c12 => ?_)
  · replace h := hq_ip c12 h
    refine hv_sub [0, 2] rfl ?_
    exact he0 _ _ h
  · replace h := hq_in c12 h
    refine hv_aload_n 0 dX0_suits_32 rfl rfl ?_
    refine hv_aload_n 0 dX0_suits_33 rfl rfl ?_
    obtain ⟨x13, e_x13, h⟩ := hq_ob h
    refine hv_getR fl_X0_15 e_x13 dX0_suits_34 ?_
    refine hv_iload_n 1 dX0_suits_37 rfl rfl ?_
    obtain ⟨a14, e_a14, h⟩ := hq_nn h
    rw [e_a14]
    obtain ⟨x15, e_x15, h⟩ := hq_ob h
    refine hv_aald (by decide) (by decide) rfl e_x15 dX0_suits_38 ?_
    refine hv_aload_n 0 dX0_suits_39 rfl rfl ?_
    obtain ⟨x16, e_x16, h⟩ := hq_ob h
    refine hv_getR fl_X0_43 e_x16 dX0_suits_40 ?_
    refine hv_iload_n 3 dX0_suits_43 rfl rfl ?_
    obtain ⟨a17, e_a17, h⟩ := hq_nn h
    rw [e_a17]
    obtain ⟨x18, e_x18, h⟩ := hq_ob h
    refine hv_aald (by decide) (by decide) rfl e_x18 dX0_suits_44 ?_
    obtain ⟨a19, e_a19, h⟩ := hq_nn h
    rw [e_a19]
    obtain ⟨x20, e_x20, h⟩ := hq_ob h
    refine hv_getI fl_X0_259 e_x20 dX0_suits_45 ?_
    refine hv_aload_n 0 dX0_suits_48 rfl rfl ?_
    obtain ⟨x21, e_x21, h⟩ := hq_ob h
    refine hv_getR fl_X0_43 e_x21 dX0_suits_49 ?_
    refine hv_iload_n 3 dX0_suits_52 rfl rfl ?_
    obtain ⟨a22, e_a22, h⟩ := hq_nn h
    rw [e_a22]
    obtain ⟨x23, e_x23, h⟩ := hq_ob h
    refine hv_aald (by decide) (by decide) rfl e_x23 dX0_suits_53 ?_
    obtain ⟨a24, e_a24, h⟩ := hq_nn h
    rw [e_a24]
    obtain ⟨x25, e_x25, h⟩ := hq_ob h
    refine hv_getI fl_X0_262 e_x25 dX0_suits_54 ?_
    obtain ⟨a26, e_a26, h⟩ := hq_nn h
    rw [e_a26]
    obtain ⟨q27, e_q27, h⟩ := hq_ob h
    obtain ⟨g28, h⟩ := hq_gd h
    refine hv_callV [.ref a26, .int x20, .int x25] [] [.int q27.1] (wk_x_chosenSeconds e_q27) cs_X0_223 g28 rfl ⟨Nat.le_of_ble_eq_true rfl, Nat.le_of_ble_eq_true rfl⟩ rfl (Nat.le_of_ble_eq_true rfl) rfl dX0_suits_57 ?_
    refine hv_istore (L' := [(4, .int q27.1), (0, .ref th), (1, .int p1), (2, .int v6), (3, .int v7)]) dX0_suits_60 (Nat.le_of_ble_eq_true rfl) rfl ?_
    refine hv_aload_n 1 dX0_suits_62 rfl rfl ?_
    obtain ⟨x29, e_x29, h⟩ := hq_ob h
    refine hv_getR fl_X0_37 e_x29 dX0_suits_63 ?_
    refine hv_aload_n 1 dX0_suits_66 rfl rfl ?_
    obtain ⟨x30, e_x30, h⟩ := hq_ob h
    refine hv_getR fl_X0_15 e_x30 dX0_suits_67 ?_
    refine hv_iload_n 2 dX0_suits_70 rfl rfl ?_
    obtain ⟨a31, e_a31, h⟩ := hq_nn h
    rw [e_a31]
    obtain ⟨x32, e_x32, h⟩ := hq_ob h
    refine hv_aald (by decide) (by decide) rfl e_x32 dX0_suits_71 ?_
    refine hv_iconst (v := 1) dX0_suits_72 (by decide) ?_
    refine hv_aload_n 1 dX0_suits_73 rfl rfl ?_
    obtain ⟨x33, e_x33, h⟩ := hq_ob h
    refine hv_getR fl_X0_43 e_x33 dX0_suits_74 ?_
    refine hv_iload_n 4 dX0_suits_77 rfl rfl ?_
    obtain ⟨a34, e_a34, h⟩ := hq_nn h
    rw [e_a34]
    obtain ⟨x35, e_x35, h⟩ := hq_ob h
    refine hv_aald (by decide) (by decide) rfl e_x35 dX0_suits_78 ?_
    obtain ⟨a36, e_a36, h⟩ := hq_nn h
    rw [e_a36]
    obtain ⟨x37, e_x37, h⟩ := hq_ob h
    refine hv_getI fl_X0_259 e_x37 dX0_suits_79 ?_
    refine hv_aload_n 1 dX0_suits_82 rfl rfl ?_
    obtain ⟨x38, e_x38, h⟩ := hq_ob h
    refine hv_getR fl_X0_43 e_x38 dX0_suits_83 ?_
    refine hv_iload_n 4 dX0_suits_86 rfl rfl ?_
    obtain ⟨a39, e_a39, h⟩ := hq_nn h
    rw [e_a39]
    obtain ⟨x40, e_x40, h⟩ := hq_ob h
    refine hv_aald (by decide) (by decide) rfl e_x40 dX0_suits_87 ?_
    obtain ⟨a41, e_a41, h⟩ := hq_nn h
    rw [e_a41]
    obtain ⟨x42, e_x42, h⟩ := hq_ob h
    refine hv_getI fl_X0_262 e_x42 dX0_suits_88 ?_
    obtain ⟨a43, e_a43, h⟩ := hq_nn h
    rw [e_a43]
    obtain ⟨a44, e_a44, h⟩ := hq_nn h
    rw [e_a44]
    obtain ⟨q45, e_q45, h⟩ := hq_ob h
    obtain ⟨g46, h⟩ := hq_gd h
    refine hv_callV [.ref a44, .int (1 : Int32), .int x37, .int x42] [] [.int q45.1] (wk_xActs_lay e_q45) cs_X0_150 g46 rfl ⟨Nat.le_of_ble_eq_true rfl, Nat.le_of_ble_eq_true rfl⟩ rfl (Nat.le_of_ble_eq_true rfl) rfl dX0_suits_91 ?_
    refine hv_pop dX0_suits_94 rfl ?_
    refine hv_iload_n 3 dX0_suits_95 rfl rfl ?_
    refine hv_iload 0 dX0_suits_96 rfl ?_
    refine hv_aload_n 1 dX0_suits_98 rfl rfl ?_
    obtain ⟨x47, e_x47, h⟩ := hq_ob h
    refine hv_getR fl_X0_37 e_x47 dX0_suits_99 ?_
    obtain ⟨a48, e_a48, h⟩ := hq_nn h
    rw [e_a48]
    obtain ⟨x49, e_x49, h⟩ := hq_ob h
    refine hv_getI fl_X0_163 e_x49 dX0_suits_102 ?_
    refine hv_iconst (v := 2) dX0_suits_105 (by decide) ?_
    refine hv_idiv (by decide) dX0_suits_106 ?_
    refine hv_icmp_gt (tgt := 114) dX0_suits_107 (by decide) (fun c50 => ?_) (fun c50 => ?_)
    · replace h := hq_ip c50 h
      refine hv_iconst (v := 0) dX0_suits_114 (by decide) ?_
      refine hv_iadd dX0_suits_115 ?_
      obtain ⟨x51, e_x51, h⟩ := hq_nm h
      rw [← e_x51]
      refine hv_istore_n (L' := [(2, .int x51), (4, .int q27.1), (0, .ref th), (1, .int p1), (3, .int v7)]) dX0_suits_116 rfl (Nat.le_of_ble_eq_true rfl) rfl ?_
      obtain ⟨x52, e_x52, h⟩ := hq_nm h
      refine hv_iinc (v := x52) (L' := [(3, .int x52), (2, .int x51), (4, .int q27.1), (0, .ref th), (1, .int p1)]) 4 dX0_suits_117 rfl (by rw [e_x52]; rfl) (Nat.le_of_ble_eq_true rfl) rfl ?_
      refine hv_goto (tgt := 24) dX0_suits_120 (by decide) ?_
      refine hv_sub [3, 4, 1, 0] rfl ?_
      exact hrc _ _ _ h
    · replace h := hq_in c50 h
      refine hv_iconst (v := 1) dX0_suits_110 (by decide) ?_
      refine hv_goto (tgt := 115) dX0_suits_111 (by decide) ?_
      refine hv_iadd dX0_suits_115 ?_
      obtain ⟨x53, e_x53, h⟩ := hq_nm h
      rw [← e_x53]
      refine hv_istore_n (L' := [(2, .int x53), (4, .int q27.1), (0, .ref th), (1, .int p1), (3, .int v7)]) dX0_suits_116 rfl (Nat.le_of_ble_eq_true rfl) rfl ?_
      obtain ⟨x54, e_x54, h⟩ := hq_nm h
      refine hv_iinc (v := x54) (L' := [(3, .int x54), (2, .int x53), (4, .int q27.1), (0, .ref th), (1, .int p1)]) 4 dX0_suits_117 rfl (by rw [e_x54]; rfl) (Nat.le_of_ble_eq_true rfl) rfl ?_
      refine hv_goto (tgt := 24) dX0_suits_120 (by decide) ?_
      refine hv_sub [3, 4, 1, 0] rfl ?_
      exact hrc _ _ _ h
theorem wk_x_suits_L24 {l : Launch} {Gd : hk_G} {th : Nat} {p1 : Int32} {s0 : hk_St} {r : Int32} {fin : hk_St} {e0 : Int32 → hk_St → Option (Int32 × hk_St)} (he0 : ∀ (v9 : Int32) (s10 : hk_St), e0 v9 s10 = some (r, fin) → hk_V Gd (N_x_suits l) (hk_end Gd s0 (some (.int r)) fin) 123 [(0, .ref th), (2, .int v9)] [] s10) : ∀ (n : Nat) (v6 : Int32) (v7 : Int32) (s8 : hk_St), x_suits_L24 th p1 e0 n v6 v7 s8 = some (r, fin) → hk_V Gd (N_x_suits l) (hk_end Gd s0 (some (.int r)) fin) 24 [(0, .ref th), (1, .int p1), (2, .int v6), (3, .int v7)] [] s8 := by
  intro n
  induction n with
  | zero => intro v6 v7 s8 h; cases h
  | succ n ih => intro v6 v7 s8 h; exact wk_x_suits_L24b  ih he0 h
set_option maxHeartbeats 4000000 in
theorem wk_x_suits {l : Launch} {Gd : hk_G} {th : Nat} {p1 : Int32} {s0 : hk_St} {r : Int32} {fin : hk_St} (h : x_suits th p1 s0 = some (r, fin)) : hk_Met Gd l yX0_suits cX0_suits 5 (some .int) 224 12287 [.ref th, .int p1] s0 (some (.int r)) fin := by
  refine hk_start "HeadReckons" false (by decide +kernel) rfl (by decide) (Nat.le_of_ble_eq_true rfl) ?_
  show hk_V Gd (N_x_suits l) (hk_end Gd s0 (some (.int r)) fin) 0 [(0, .ref th), (1, .int p1)] [] s0
  unfold x_suits at h
  refine hv_aload_n 0 dX0_suits_0 rfl rfl ?_
  refine hv_iload_n 1 dX0_suits_1 rfl rfl ?_
  obtain ⟨x1, e_x1, h⟩ := hq_ob h
  obtain ⟨g2, h⟩ := hq_gd h
  refine hv_callV [.int p1] [] [.int x1] (wk_x_isHead e_x1) cs_X0_89 g2 rfl ⟨Nat.le_of_ble_eq_true rfl, Nat.le_of_ble_eq_true rfl⟩ rfl (Nat.le_of_ble_eq_true rfl) rfl dX0_suits_2 ?_
  refine hv_if_ne (tgt := 10) dX0_suits_5 (by decide) (fun c3 => ?_) (fun c3 => ?_)
  · replace h := hq_in c3 h
    refine hv_aload_n 0 dX0_suits_10 rfl rfl ?_
    obtain ⟨x4, e_x4, h⟩ := hq_ob h
    refine hv_getI fl_X0_231 e_x4 dX0_suits_11 ?_
    refine hv_if_ne (tgt := 20) dX0_suits_14 (by decide) (fun c5 => ?_) (fun c5 => ?_)
    · replace h := hq_in c5 h
      refine hv_iconst (v := 0) dX0_suits_20 (by decide) ?_
      refine hv_istore_n (L' := [(2, .int (0 : Int32)), (0, .ref th), (1, .int p1)]) dX0_suits_21 rfl (Nat.le_of_ble_eq_true rfl) rfl ?_
      refine hv_iconst (v := 0) dX0_suits_22 (by decide) ?_
      refine hv_istore_n (L' := [(3, .int (0 : Int32)), (2, .int (0 : Int32)), (0, .ref th), (1, .int p1)]) dX0_suits_23 rfl (Nat.le_of_ble_eq_true rfl) rfl ?_
      refine hv_sub [2, 3, 1, 0] rfl ?_
      refine wk_x_suits_L24  ?_ hk_F _ _ _ h
      · intro v9 s10 h
        refine hv_sipush (v := 1000) dX0_suits_123 (by decide) ?_
        refine hv_iload_n 1 dX0_suits_126 rfl rfl ?_
        refine hv_imul dX0_suits_127 ?_
        refine hv_aload_n 0 dX0_suits_128 rfl rfl ?_
        obtain ⟨x55, e_x55, h⟩ := hq_ob h
        refine hv_getI fl_X0_231 e_x55 dX0_suits_129 ?_
        obtain ⟨g56, h⟩ := hq_gd h
        refine hv_idiv (of_decide_eq_true g56) dX0_suits_132 ?_
        obtain ⟨h1, h2⟩ := hq_ret h
        subst h1
        subst h2
        exact hv_iret rfl dX0_suits_133
    · replace h := hq_ip c5 h
      refine hv_bipush (v := -5) dX0_suits_17 (by decide) ?_
      obtain ⟨h1, h2⟩ := hq_ret h
      subst h1
      subst h2
      exact hv_iret rfl dX0_suits_19
  · replace h := hq_ip c3 h
    refine hv_iconst (v := -1) dX0_suits_8 (by decide) ?_
    obtain ⟨h1, h2⟩ := hq_ret h
    subst h1
    subst h2
    exact hv_iret rfl dX0_suits_9
def x_tell (th : Nat) (p1 : Int32) (s0 : hk_St) : Option (Int32 × hk_St) :=
  if (x_isPair p1) = 0 then
    some ((-1 : Int32), s0)
  else
  (hk_gI [0] 13 s0 th).bind fun x2 =>
    if x2 = (8 : Int32) then
      some ((-3 : Int32), s0)
    else
    (hk_gR [0] 12 s0 th).bind fun x4 =>
      (hk_gI [0] 13 s0 th).bind fun x5 =>
      hk_nn x4 fun a6 =>
      (hk_tI 0 s0 a6 x5 p1).bind fun s7 =>
      (hk_gI [0] 13 s7 th).bind fun x8 =>
      (hk_pI [0] 13 s7 th (x8 + (1 : Int32))).bind fun s9 =>
      (hk_gI [0] 13 s9 th).bind fun x10 =>
      some (x10, s9)
abbrev N_x_tell (l : Launch) : hk_N := (l, cX0_tell, "HeadReckons", 2, (some .int), 2, 42, false)
set_option maxHeartbeats 4000000 in
theorem wk_x_tell {l : Launch} {Gd : hk_G} {th : Nat} {p1 : Int32} {s0 : hk_St} {r : Int32} {fin : hk_St} (h : x_tell th p1 s0 = some (r, fin)) : hk_Met Gd l yX0_tell cX0_tell 2 (some .int) 2 42 [.ref th, .int p1] s0 (some (.int r)) fin := by
  refine hk_start "HeadReckons" false (by decide +kernel) rfl (by decide) (Nat.le_of_ble_eq_true rfl) ?_
  show hk_V Gd (N_x_tell l) (hk_end Gd s0 (some (.int r)) fin) 0 [(0, .ref th), (1, .int p1)] [] s0
  unfold x_tell at h
  refine hv_iload_n 1 dX0_tell_0 rfl rfl ?_
  refine hv_callS [.int p1] [] [.int (x_isPair p1)] (wk_x_isPair rfl) cs_X0_157 rfl ⟨Nat.le_of_ble_eq_true rfl, Nat.le_of_ble_eq_true rfl⟩ rfl (Nat.le_of_ble_eq_true rfl) rfl dX0_tell_1 ?_
  refine hv_if_ne (tgt := 9) dX0_tell_4 (by decide) (fun c1 => ?_) (fun c1 => ?_)
  · replace h := hq_in c1 h
    refine hv_aload_n 0 dX0_tell_9 rfl rfl ?_
    obtain ⟨x2, e_x2, h⟩ := hq_ob h
    refine hv_getI fl_X0_288 e_x2 dX0_tell_10 ?_
    refine hv_bipush (v := 8) dX0_tell_13 (by decide) ?_
    refine hv_icmp_ne (tgt := 21) dX0_tell_15 (by decide) (fun c3 => ?_) (fun c3 => ?_)
    · replace h := hq_in c3 h
      refine hv_aload_n 0 dX0_tell_21 rfl rfl ?_
      obtain ⟨x4, e_x4, h⟩ := hq_ob h
      refine hv_getR fl_X0_47 e_x4 dX0_tell_22 ?_
      refine hv_aload_n 0 dX0_tell_25 rfl rfl ?_
      obtain ⟨x5, e_x5, h⟩ := hq_ob h
      refine hv_getI fl_X0_288 e_x5 dX0_tell_26 ?_
      refine hv_iload_n 1 dX0_tell_29 rfl rfl ?_
      obtain ⟨a6, e_a6, h⟩ := hq_nn h
      rw [e_a6]
      obtain ⟨s7, e_s7, h⟩ := hq_ob h
      refine hv_iast e_s7 dX0_tell_30 ?_
      refine hv_aload_n 0 dX0_tell_31 rfl rfl ?_
      refine hv_dup dX0_tell_32 rfl ?_
      obtain ⟨x8, e_x8, h⟩ := hq_ob h
      refine hv_getI fl_X0_288 e_x8 dX0_tell_33 ?_
      refine hv_iconst (v := 1) dX0_tell_36 (by decide) ?_
      refine hv_iadd dX0_tell_37 ?_
      obtain ⟨s9, e_s9, h⟩ := hq_ob h
      refine hv_putI fp_X0_288 e_s9 (fun q => by cases q) dX0_tell_38 ?_
      refine hv_aload_n 0 dX0_tell_41 rfl rfl ?_
      obtain ⟨x10, e_x10, h⟩ := hq_ob h
      refine hv_getI fl_X0_288 e_x10 dX0_tell_42 ?_
      obtain ⟨h1, h2⟩ := hq_ret h
      subst h1
      subst h2
      exact hv_iret rfl dX0_tell_45
    · replace h := hq_ip c3 h
      refine hv_bipush (v := -3) dX0_tell_18 (by decide) ?_
      obtain ⟨h1, h2⟩ := hq_ret h
      subst h1
      subst h2
      exact hv_iret rfl dX0_tell_20
  · replace h := hq_ip c1 h
    refine hv_iconst (v := -1) dX0_tell_7 (by decide) ?_
    obtain ⟨h1, h2⟩ := hq_ret h
    subst h1
    subst h2
    exact hv_iret rfl dX0_tell_8
def x_untell (th : Nat) (s0 : hk_St) : Option (Int32 × hk_St) :=
  (hk_gI [0] 13 s0 th).bind fun x1 =>
  (hk_pI [0] 13 s0 th (0 : Int32)).bind fun s2 =>
  some (x1, s2)
abbrev N_x_untell (l : Launch) : hk_N := (l, cX0_untell, "HeadReckons", 2, (some .int), 0, 0, false)
set_option maxHeartbeats 4000000 in
theorem wk_x_untell {l : Launch} {Gd : hk_G} {th : Nat} {s0 : hk_St} {r : Int32} {fin : hk_St} (h : x_untell th s0 = some (r, fin)) : hk_Met Gd l yX0_untell cX0_untell 2 (some .int) 0 0 [.ref th] s0 (some (.int r)) fin := by
  refine hk_start "HeadReckons" false (by decide +kernel) rfl (by decide) (Nat.le_of_ble_eq_true rfl) ?_
  show hk_V Gd (N_x_untell l) (hk_end Gd s0 (some (.int r)) fin) 0 [(0, .ref th)] [] s0
  unfold x_untell at h
  refine hv_aload_n 0 dX0_untell_0 rfl rfl ?_
  obtain ⟨x1, e_x1, h⟩ := hq_ob h
  refine hv_getI fl_X0_288 e_x1 dX0_untell_1 ?_
  refine hv_istore_n (L' := [(1, .int x1), (0, .ref th)]) dX0_untell_4 rfl (Nat.le_of_ble_eq_true rfl) rfl ?_
  refine hv_aload_n 1 dX0_untell_5 rfl rfl ?_
  refine hv_iconst (v := 0) dX0_untell_6 (by decide) ?_
  obtain ⟨s2, e_s2, h⟩ := hq_ob h
  refine hv_putI fp_X0_288 e_s2 (fun q => by cases q) dX0_untell_7 ?_
  refine hv_iload_n 0 dX0_untell_10 rfl rfl ?_
  obtain ⟨h1, h2⟩ := hq_ret h
  subst h1
  subst h2
  exact hv_iret rfl dX0_untell_11
def x_parts_L68b (th : Nat) (p1 : Int32) (p2 : Int32) (p3 : Int32) (v18 : Int32) (v19 : Int32) (v20 : Int32) (e0 : Int32 → Int32 → hk_St → Option (Int32 × hk_St)) (rc : Int32 → Int32 → Int32 → hk_St → Option (Int32 × hk_St)) (v21 : Int32) (v22 : Int32) (v23 : Int32) (s24 : hk_St) : Option (Int32 × hk_St) :=
  hk_nm (fun (v28 : Int32) (v29 : Int32) (v30 : Int32) (s31 : hk_St) =>
    (hk_gR [0] 9 s31 th).bind fun x32 =>
    hk_nn x32 fun a33 =>
    (hk_gI [2] 208 s31 a33).bind fun x34 =>
    hk_nm (j_max_i v28 x34) fun x35 =>
    hk_nm (v29 + (1 : Int32)) fun x36 =>
    rc v30 x35 x36 s31) fun k135 =>
  if (7 : Int32) ≤ v23 then
    e0 v21 v22 s24
  else
  if ((p2 >>> (v23 &&& 31)) &&& (1 : Int32)) = 0 then
    hk_nm (v23 + (1 : Int32)) fun x39 =>
    rc v21 v22 x39 s24
  else
  (hk_gR [0] 12 s24 th).bind fun x40 =>
  hk_nn x40 fun a41 =>
  (hk_lI 0 s24 a41 v20).bind fun x42 =>
  (x_lays th (((10 : Int32) * p1) + v23) x42 s24).bind fun q43 =>
  hk_gd (hk_bf [0] s24 th) <|
  if q43.1 = 0 then
    hk_nm (v23 + (1 : Int32)) fun x53 =>
  rc v21 v22 x53 q43.2
  else
  if 0 ≤ v21 then
      (hk_gR [0] 9 q43.2 th).bind fun x47 =>
      hk_nn x47 fun a48 =>
      (hk_gI [2] 208 q43.2 a48).bind fun x49 =>
      k135 v22 v23 (j_min_i v21 x49) q43.2
    else
    (hk_gR [0] 9 q43.2 th).bind fun x50 =>
    hk_nn x50 fun a51 =>
    (hk_gI [2] 208 q43.2 a51).bind fun x52 =>
    k135 v22 v23 x52 q43.2
def x_parts_L68 (th : Nat) (p1 : Int32) (p2 : Int32) (p3 : Int32) (v18 : Int32) (v19 : Int32) (v20 : Int32) (e0 : Int32 → Int32 → hk_St → Option (Int32 × hk_St)) : Nat → Int32 → Int32 → Int32 → hk_St → Option (Int32 × hk_St)
  | 0 => fun _ _ _ _ => none
  | n + 1 => x_parts_L68b th p1 p2 p3 v18 v19 v20 e0 (x_parts_L68 th p1 p2 p3 v18 v19 v20 e0 n)
def x_parts_L50b (th : Nat) (p1 : Int32) (p2 : Int32) (p3 : Int32) (e0 : Int32 → Int32 → hk_St → Option (Int32 × hk_St)) (rc : Int32 → Int32 → Int32 → hk_St → Option (Int32 × hk_St)) (v9 : Int32) (v10 : Int32) (v11 : Int32) (s12 : hk_St) : Option (Int32 × hk_St) :=
  (hk_gI [0] 13 s12 th).bind fun x16 =>
  if x16 ≤ v11 then
    e0 v9 v10 s12
  else
  x_parts_L68 th p1 p2 p3 v9 v10 v11 (fun (v25 : Int32) (v26 : Int32) (s27 : hk_St) =>
    if v25 < 0 then
      hk_nm (v11 + (1 : Int32)) fun x55 =>
      rc v9 v10 x55 s27
    else
    if v10 < (v26 - v25) then
      hk_nm (v26 - v25) fun x57 =>
      hk_nm (v11 + (1 : Int32)) fun x58 =>
      rc v11 x57 x58 s27
    else
    hk_nm (v11 + (1 : Int32)) fun x59 =>
    rc v9 v10 x59 s27) hk_F (-1 : Int32) (-1 : Int32) (0 : Int32) s12
def x_parts_L50 (th : Nat) (p1 : Int32) (p2 : Int32) (p3 : Int32) (e0 : Int32 → Int32 → hk_St → Option (Int32 × hk_St)) : Nat → Int32 → Int32 → Int32 → hk_St → Option (Int32 × hk_St)
  | 0 => fun _ _ _ _ => none
  | n + 1 => x_parts_L50b th p1 p2 p3 e0 (x_parts_L50 th p1 p2 p3 e0 n)
def x_parts (th : Nat) (p1 : Int32) (p2 : Int32) (p3 : Int32) (s0 : hk_St) : Option (Int32 × hk_St) :=
  (x_isHead th p1 s0).bind fun x1 =>
  hk_gd (hk_bf [0] s0 th) <|
  if x1 = 0 then
    some ((-1 : Int32), s0)
  else
  if p2 < 0 then
    some ((-1 : Int32), s0)
  else
  if (p2 >>> ((7 : Int32) &&& 31)) = 0 then
    if (x_in p3 (0 : Int32) (1 : Int32)) = 0 then
    some ((-1 : Int32), s0)
  else
  (hk_gI [0] 13 s0 th).bind fun x7 =>
    if x7 = 0 then
      some ((-5 : Int32), s0)
    else
    x_parts_L50 th p1 p2 p3  (fun (v13 : Int32) (v14 : Int32) (s15 : hk_St) =>
        if 0 ≤ v13 then
          if p3 = 0 then
            some (v13, s15)
          else
          some (v14, s15)
        else
        some ((-2 : Int32), s15)) hk_F (-2 : Int32) (-1 : Int32) (0 : Int32) s0
  else
  some ((-1 : Int32), s0)
abbrev N_x_parts (l : Launch) : hk_N := (l, cX0_parts, "HeadReckons", 10, (some .int), 7, 181, false)
set_option maxHeartbeats 4000000 in
theorem wk_x_parts_L68b {l : Launch} {Gd : hk_G} {th : Nat} {p1 : Int32} {p2 : Int32} {p3 : Int32} {s0 : hk_St} {r : Int32} {fin : hk_St} {v18 : Int32} {v19 : Int32} {v20 : Int32} {e0 : Int32 → Int32 → hk_St → Option (Int32 × hk_St)} {rc : Int32 → Int32 → Int32 → hk_St → Option (Int32 × hk_St)} (hrc : ∀ (v21 : Int32) (v22 : Int32) (v23 : Int32) (s24 : hk_St), rc v21 v22 v23 s24 = some (r, fin) → hk_V Gd (N_x_parts l) (hk_end Gd s0 (some (.int r)) fin) 68 [(0, .ref th), (1, .int p1), (2, .int p2), (3, .int p3), (4, .int v18), (5, .int v19), (6, .int v20), (7, .int v21), (8, .int v22), (9, .int v23)] [] s24) (he0 : ∀ (v25 : Int32) (v26 : Int32) (s27 : hk_St), e0 v25 v26 s27 = some (r, fin) → hk_V Gd (N_x_parts l) (hk_end Gd s0 (some (.int r)) fin) 157 [(0, .ref th), (1, .int p1), (2, .int p2), (3, .int p3), (4, .int v18), (5, .int v19), (6, .int v20), (7, .int v25), (8, .int v26)] [] s27) {v21 : Int32} {v22 : Int32} {v23 : Int32} {s24 : hk_St} (h : x_parts_L68b th p1 p2 p3 v18 v19 v20 e0 rc v21 v22 v23 s24 = some (r, fin)) : hk_V Gd (N_x_parts l) (hk_end Gd s0 (some (.int r)) fin) 68 [(0, .ref th), (1, .int p1), (2, .int p2), (3, .int p3), (4, .int v18), (5, .int v19), (6, .int v20), (7, .int v21), (8, .int v22), (9, .int v23)] [] s24 := by
  unfold x_parts_L68b at h
  obtain ⟨k135, e_k135, h⟩ := hq_nm h
  have wk135 : ∀ (v28 : Int32) (v29 : Int32) (v30 : Int32) (s31 : hk_St), k135 v28 v29 v30 s31 = some (r, fin) → hk_V Gd (N_x_parts l) (hk_end Gd s0 (some (.int r)) fin) 135 [(0, .ref th), (1, .int p1), (2, .int p2), (3, .int p3), (4, .int v18), (5, .int v19), (6, .int v20), (8, .int v28), (9, .int v29)] [.int v30] s31 := by
    intro v28 v29 v30 s31 h
    rw [e_k135] at h
    refine hv_istore (L' := [(7, .int v30), (0, .ref th), (1, .int p1), (2, .int p2), (3, .int p3), (4, .int v18), (5, .int v19), (6, .int v20), (8, .int v28), (9, .int v29)]) dX0_parts_135 (Nat.le_of_ble_eq_true rfl) rfl ?_
    refine hv_iload 8 dX0_parts_137 rfl ?_
    refine hv_aload_n 1 dX0_parts_139 rfl rfl ?_
    obtain ⟨x32, e_x32, h⟩ := hq_ob h
    refine hv_getR fl_X0_37 e_x32 dX0_parts_140 ?_
    obtain ⟨a33, e_a33, h⟩ := hq_nn h
    rw [e_a33]
    obtain ⟨x34, e_x34, h⟩ := hq_ob h
    refine hv_getI fl_X0_163 e_x34 dX0_parts_143 ?_
    refine hv_callS [.int v28, .int x34] [] [.int (j_max_i v28 x34)] (wk_j_max_i rfl) cs_X0_291 rfl ⟨Nat.le_of_ble_eq_true rfl, Nat.le_of_ble_eq_true rfl⟩ rfl (Nat.le_of_ble_eq_true rfl) rfl dX0_parts_146 ?_
    obtain ⟨x35, e_x35, h⟩ := hq_nm h
    rw [← e_x35]
    refine hv_istore (L' := [(8, .int x35), (7, .int v30), (0, .ref th), (1, .int p1), (2, .int p2), (3, .int p3), (4, .int v18), (5, .int v19), (6, .int v20), (9, .int v29)]) dX0_parts_149 (Nat.le_of_ble_eq_true rfl) rfl ?_
    obtain ⟨x36, e_x36, h⟩ := hq_nm h
    refine hv_iinc (v := x36) (L' := [(9, .int x36), (8, .int x35), (7, .int v30), (0, .ref th), (1, .int p1), (2, .int p2), (3, .int p3), (4, .int v18), (5, .int v19), (6, .int v20)]) 9 dX0_parts_151 rfl (by rw [e_x36]; rfl) (Nat.le_of_ble_eq_true rfl) rfl ?_
    refine hv_goto (tgt := 68) dX0_parts_154 (by decide) ?_
    refine hv_sub [3, 4, 5, 6, 7, 8, 9, 2, 1, 0] rfl ?_
    exact hrc _ _ _ _ h
  clear e_k135
  refine hv_iload 9 dX0_parts_68 rfl ?_
  refine hv_bipush (v := 7) dX0_parts_70 (by decide) ?_
  refine hv_icmp_ge (tgt := 157) dX0_parts_72 (by decide) (fun c37 => ?_) (fun c37 => ?_)
  · replace h := hq_ip c37 h
    refine hv_sub [0, 1, 2, 3, 4, 5, 6, 7, 8] rfl ?_
    exact he0 _ _ _ h
  · replace h := hq_in c37 h
    refine hv_iload_n 2 dX0_parts_75 rfl rfl ?_
    refine hv_iload 9 dX0_parts_76 rfl ?_
    refine hv_ishr dX0_parts_78 ?_
    refine hv_iconst (v := 1) dX0_parts_79 (by decide) ?_
    refine hv_iand dX0_parts_80 ?_
    refine hv_if_eq (tgt := 151) dX0_parts_81 (by decide) (fun c38 => ?_) (fun c38 => ?_)
    · replace h := hq_ip c38 h
      obtain ⟨x39, e_x39, h⟩ := hq_nm h
      refine hv_iinc (v := x39) (L' := [(9, .int x39), (0, .ref th), (1, .int p1), (2, .int p2), (3, .int p3), (4, .int v18), (5, .int v19), (6, .int v20), (7, .int v21), (8, .int v22)]) 9 dX0_parts_151 rfl (by rw [e_x39]; rfl) (Nat.le_of_ble_eq_true rfl) rfl ?_
      refine hv_goto (tgt := 68) dX0_parts_154 (by decide) ?_
      refine hv_sub [1, 2, 3, 4, 5, 6, 7, 8, 9, 0] rfl ?_
      exact hrc _ _ _ _ h
    · replace h := hq_in c38 h
      refine hv_aload_n 0 dX0_parts_84 rfl rfl ?_
      refine hv_bipush (v := 10) dX0_parts_85 (by decide) ?_
      refine hv_iload_n 1 dX0_parts_87 rfl rfl ?_
      refine hv_imul dX0_parts_88 ?_
      refine hv_iload 9 dX0_parts_89 rfl ?_
      refine hv_iadd dX0_parts_91 ?_
      refine hv_aload_n 0 dX0_parts_92 rfl rfl ?_
      obtain ⟨x40, e_x40, h⟩ := hq_ob h
      refine hv_getR fl_X0_47 e_x40 dX0_parts_93 ?_
      refine hv_iload 6 dX0_parts_96 rfl ?_
      obtain ⟨a41, e_a41, h⟩ := hq_nn h
      rw [e_a41]
      obtain ⟨x42, e_x42, h⟩ := hq_ob h
      refine hv_iald e_x42 dX0_parts_98 ?_
      obtain ⟨q43, e_q43, h⟩ := hq_ob h
      obtain ⟨g44, h⟩ := hq_gd h
      refine hv_callV [.int (((10 : Int32) * p1) + v23), .int x42] [] [.int q43.1] (wk_x_lays e_q43) cs_X0_160 g44 rfl ⟨Nat.le_of_ble_eq_true rfl, Nat.le_of_ble_eq_true rfl⟩ rfl (Nat.le_of_ble_eq_true rfl) rfl dX0_parts_99 ?_
      refine hv_if_ne (tgt := 108) dX0_parts_102 (by decide) (fun c45 => ?_) (fun c45 => ?_)
      · replace h := hq_in c45 h
        refine hv_iload 7 dX0_parts_108 rfl ?_
        refine hv_if_ge (tgt := 123) dX0_parts_110 (by decide) (fun c46 => ?_) (fun c46 => ?_)
        · replace h := hq_ip c46 h
          refine hv_iload 7 dX0_parts_123 rfl ?_
          refine hv_aload_n 0 dX0_parts_125 rfl rfl ?_
          obtain ⟨x47, e_x47, h⟩ := hq_ob h
          refine hv_getR fl_X0_37 e_x47 dX0_parts_126 ?_
          obtain ⟨a48, e_a48, h⟩ := hq_nn h
          rw [e_a48]
          obtain ⟨x49, e_x49, h⟩ := hq_ob h
          refine hv_getI fl_X0_163 e_x49 dX0_parts_129 ?_
          refine hv_callS [.int v21, .int x49] [] [.int (j_min_i v21 x49)] (wk_j_min_i rfl) cs_X0_212 rfl ⟨Nat.le_of_ble_eq_true rfl, Nat.le_of_ble_eq_true rfl⟩ rfl (Nat.le_of_ble_eq_true rfl) rfl dX0_parts_132 ?_
          refine hv_sub [0, 1, 2, 3, 4, 5, 6, 8, 9] rfl ?_
          exact wk135 _ _ _ _ h
        · replace h := hq_in c46 h
          refine hv_aload_n 0 dX0_parts_113 rfl rfl ?_
          obtain ⟨x50, e_x50, h⟩ := hq_ob h
          refine hv_getR fl_X0_37 e_x50 dX0_parts_114 ?_
          obtain ⟨a51, e_a51, h⟩ := hq_nn h
          rw [e_a51]
          obtain ⟨x52, e_x52, h⟩ := hq_ob h
          refine hv_getI fl_X0_163 e_x52 dX0_parts_117 ?_
          refine hv_goto (tgt := 135) dX0_parts_120 (by decide) ?_
          refine hv_sub [0, 1, 2, 3, 4, 5, 6, 8, 9] rfl ?_
          exact wk135 _ _ _ _ h
      · replace h := hq_ip c45 h
        refine hv_goto (tgt := 151) dX0_parts_105 (by decide) ?_
        obtain ⟨x53, e_x53, h⟩ := hq_nm h
        refine hv_iinc (v := x53) (L' := [(9, .int x53), (0, .ref th), (1, .int p1), (2, .int p2), (3, .int p3), (4, .int v18), (5, .int v19), (6, .int v20), (7, .int v21), (8, .int v22)]) 9 dX0_parts_151 rfl (by rw [e_x53]; rfl) (Nat.le_of_ble_eq_true rfl) rfl ?_
        refine hv_goto (tgt := 68) dX0_parts_154 (by decide) ?_
        refine hv_sub [1, 2, 3, 4, 5, 6, 7, 8, 9, 0] rfl ?_
        exact hrc _ _ _ _ h
theorem wk_x_parts_L68 {l : Launch} {Gd : hk_G} {th : Nat} {p1 : Int32} {p2 : Int32} {p3 : Int32} {s0 : hk_St} {r : Int32} {fin : hk_St} {v18 : Int32} {v19 : Int32} {v20 : Int32} {e0 : Int32 → Int32 → hk_St → Option (Int32 × hk_St)} (he0 : ∀ (v25 : Int32) (v26 : Int32) (s27 : hk_St), e0 v25 v26 s27 = some (r, fin) → hk_V Gd (N_x_parts l) (hk_end Gd s0 (some (.int r)) fin) 157 [(0, .ref th), (1, .int p1), (2, .int p2), (3, .int p3), (4, .int v18), (5, .int v19), (6, .int v20), (7, .int v25), (8, .int v26)] [] s27) : ∀ (n : Nat) (v21 : Int32) (v22 : Int32) (v23 : Int32) (s24 : hk_St), x_parts_L68 th p1 p2 p3 v18 v19 v20 e0 n v21 v22 v23 s24 = some (r, fin) → hk_V Gd (N_x_parts l) (hk_end Gd s0 (some (.int r)) fin) 68 [(0, .ref th), (1, .int p1), (2, .int p2), (3, .int p3), (4, .int v18), (5, .int v19), (6, .int v20), (7, .int v21), (8, .int v22), (9, .int v23)] [] s24 := by
  intro n
  induction n with
  | zero => intro v21 v22 v23 s24 h; cases h
  | succ n ih => intro v21 v22 v23 s24 h; exact wk_x_parts_L68b  ih he0 h
set_option maxHeartbeats 4000000 in
theorem wk_x_parts_L50b {l : Launch} {Gd : hk_G} {th : Nat} {p1 : Int32} {p2 : Int32} {p3 : Int32} {s0 : hk_St} {r : Int32} {fin : hk_St} {e0 : Int32 → Int32 → hk_St → Option (Int32 × hk_St)} {rc : Int32 → Int32 → Int32 → hk_St → Option (Int32 × hk_St)} (hrc : ∀ (v9 : Int32) (v10 : Int32) (v11 : Int32) (s12 : hk_St), rc v9 v10 v11 s12 = some (r, fin) → hk_V Gd (N_x_parts l) (hk_end Gd s0 (some (.int r)) fin) 50 [(0, .ref th), (1, .int p1), (2, .int p2), (3, .int p3), (4, .int v9), (5, .int v10), (6, .int v11)] [] s12) (he0 : ∀ (v13 : Int32) (v14 : Int32) (s15 : hk_St), e0 v13 v14 s15 = some (r, fin) → hk_V Gd (N_x_parts l) (hk_end Gd s0 (some (.int r)) fin) 192 [(3, .int p3), (4, .int v13), (5, .int v14)] [] s15) {v9 : Int32} {v10 : Int32} {v11 : Int32} {s12 : hk_St} (h : x_parts_L50b th p1 p2 p3 e0 rc v9 v10 v11 s12 = some (r, fin)) : hk_V Gd (N_x_parts l) (hk_end Gd s0 (some (.int r)) fin) 50 [(0, .ref th), (1, .int p1), (2, .int p2), (3, .int p3), (4, .int v9), (5, .int v10), (6, .int v11)] [] s12 := by
  unfold x_parts_L50b at h
  refine hv_iload 6 dX0_parts_50 rfl ?_
  refine hv_aload_n 0 dX0_parts_52 rfl rfl ?_
  obtain ⟨x16, e_x16, h⟩ := hq_ob h
  refine hv_getI fl_X0_288 e_x16 dX0_parts_53 ?_
  refine hv_icmp_ge (tgt := 192) dX0_parts_56 (by decide) (fun c17 => ?_) (fun c17 => ?_)
  · replace h := hq_ip c17 h
    refine hv_sub [3, 4, 5] rfl ?_
    exact he0 _ _ _ h
  · replace h := hq_in c17 h
    refine hv_iconst (v := -1) dX0_parts_59 (by decide) ?_
    refine hv_istore (L' := [(7, .int (-1 : Int32)), (0, .ref th), (1, .int p1), (2, .int p2), (3, .int p3), (4, .int v9), (5, .int v10), (6, .int v11)]) dX0_parts_60 (Nat.le_of_ble_eq_true rfl) rfl ?_
    refine hv_iconst (v := -1) dX0_parts_62 (by decide) ?_
    refine hv_istore (L' := [(8, .int (-1 : Int32)), (7, .int (-1 : Int32)), (0, .ref th), (1, .int p1), (2, .int p2), (3, .int p3), (4, .int v9), (5, .int v10), (6, .int v11)]) dX0_parts_63 (Nat.le_of_ble_eq_true rfl) rfl ?_
    refine hv_iconst (v := 0) dX0_parts_65 (by decide) ?_
    refine hv_istore (L' := [(9, .int (0 : Int32)), (8, .int (-1 : Int32)), (7, .int (-1 : Int32)), (0, .ref th), (1, .int p1), (2, .int p2), (3, .int p3), (4, .int v9), (5, .int v10), (6, .int v11)]) dX0_parts_66 (Nat.le_of_ble_eq_true rfl) rfl ?_
    refine hv_sub [3, 4, 5, 6, 7, 8, 9, 2, 1, 0] rfl ?_
    refine wk_x_parts_L68  ?_ hk_F _ _ _ _ h
    · intro v25 v26 s27 h
      refine hv_iload 7 dX0_parts_157 rfl ?_
      refine hv_if_lt (tgt := 186) dX0_parts_159 (by decide) (fun c54 => ?_) (fun c54 => ?_)
      · replace h := hq_ip c54 h
        obtain ⟨x55, e_x55, h⟩ := hq_nm h
        refine hv_iinc (v := x55) (L' := [(6, .int x55), (0, .ref th), (1, .int p1), (2, .int p2), (3, .int p3), (4, .int v9), (5, .int v10), (7, .int v25), (8, .int v26)]) 6 dX0_parts_186 rfl (by rw [e_x55]; rfl) (Nat.le_of_ble_eq_true rfl) rfl ?_
        refine hv_goto (tgt := 50) dX0_parts_189 (by decide) ?_
        refine hv_sub [1, 2, 3, 4, 5, 6, 0] rfl ?_
        exact hrc _ _ _ _ h
      · replace h := hq_in c54 h
        refine hv_iload 8 dX0_parts_162 rfl ?_
        refine hv_iload 7 dX0_parts_164 rfl ?_
        refine hv_isub dX0_parts_166 ?_
        refine hv_iload 5 dX0_parts_167 rfl ?_
        refine hv_icmp_gt (tgt := 175) dX0_parts_169 (by decide) (fun c56 => ?_) (fun c56 => ?_)
        · replace h := hq_ip c56 h
          refine hv_iload 6 dX0_parts_175 rfl ?_
          refine hv_istore (L' := [(4, .int v11), (0, .ref th), (1, .int p1), (2, .int p2), (3, .int p3), (5, .int v10), (6, .int v11), (7, .int v25), (8, .int v26)]) dX0_parts_177 (Nat.le_of_ble_eq_true rfl) rfl ?_
          refine hv_iload 8 dX0_parts_179 rfl ?_
          refine hv_iload 7 dX0_parts_181 rfl ?_
          refine hv_isub dX0_parts_183 ?_
          obtain ⟨x57, e_x57, h⟩ := hq_nm h
          rw [← e_x57]
          refine hv_istore (L' := [(5, .int x57), (4, .int v11), (0, .ref th), (1, .int p1), (2, .int p2), (3, .int p3), (6, .int v11), (7, .int v25), (8, .int v26)]) dX0_parts_184 (Nat.le_of_ble_eq_true rfl) rfl ?_
          obtain ⟨x58, e_x58, h⟩ := hq_nm h
          refine hv_iinc (v := x58) (L' := [(6, .int x58), (5, .int x57), (4, .int v11), (0, .ref th), (1, .int p1), (2, .int p2), (3, .int p3), (7, .int v25), (8, .int v26)]) 6 dX0_parts_186 rfl (by rw [e_x58]; rfl) (Nat.le_of_ble_eq_true rfl) rfl ?_
          refine hv_goto (tgt := 50) dX0_parts_189 (by decide) ?_
          refine hv_sub [3, 4, 5, 6, 2, 1, 0] rfl ?_
          exact hrc _ _ _ _ h
        · replace h := hq_in c56 h
          refine hv_goto (tgt := 186) dX0_parts_172 (by decide) ?_
          obtain ⟨x59, e_x59, h⟩ := hq_nm h
          refine hv_iinc (v := x59) (L' := [(6, .int x59), (0, .ref th), (1, .int p1), (2, .int p2), (3, .int p3), (4, .int v9), (5, .int v10), (7, .int v25), (8, .int v26)]) 6 dX0_parts_186 rfl (by rw [e_x59]; rfl) (Nat.le_of_ble_eq_true rfl) rfl ?_
          refine hv_goto (tgt := 50) dX0_parts_189 (by decide) ?_
          refine hv_sub [1, 2, 3, 4, 5, 6, 0] rfl ?_
          exact hrc _ _ _ _ h
theorem wk_x_parts_L50 {l : Launch} {Gd : hk_G} {th : Nat} {p1 : Int32} {p2 : Int32} {p3 : Int32} {s0 : hk_St} {r : Int32} {fin : hk_St} {e0 : Int32 → Int32 → hk_St → Option (Int32 × hk_St)} (he0 : ∀ (v13 : Int32) (v14 : Int32) (s15 : hk_St), e0 v13 v14 s15 = some (r, fin) → hk_V Gd (N_x_parts l) (hk_end Gd s0 (some (.int r)) fin) 192 [(3, .int p3), (4, .int v13), (5, .int v14)] [] s15) : ∀ (n : Nat) (v9 : Int32) (v10 : Int32) (v11 : Int32) (s12 : hk_St), x_parts_L50 th p1 p2 p3 e0 n v9 v10 v11 s12 = some (r, fin) → hk_V Gd (N_x_parts l) (hk_end Gd s0 (some (.int r)) fin) 50 [(0, .ref th), (1, .int p1), (2, .int p2), (3, .int p3), (4, .int v9), (5, .int v10), (6, .int v11)] [] s12 := by
  intro n
  induction n with
  | zero => intro v9 v10 v11 s12 h; cases h
  | succ n ih => intro v9 v10 v11 s12 h; exact wk_x_parts_L50b  ih he0 h
set_option maxHeartbeats 4000000 in
theorem wk_x_parts {l : Launch} {Gd : hk_G} {th : Nat} {p1 : Int32} {p2 : Int32} {p3 : Int32} {s0 : hk_St} {r : Int32} {fin : hk_St} (h : x_parts th p1 p2 p3 s0 = some (r, fin)) : hk_Met Gd l yX0_parts cX0_parts 10 (some .int) 7 181 [.ref th, .int p1, .int p2, .int p3] s0 (some (.int r)) fin := by
  refine hk_start "HeadReckons" false (by decide +kernel) rfl (by decide) (Nat.le_of_ble_eq_true rfl) ?_
  show hk_V Gd (N_x_parts l) (hk_end Gd s0 (some (.int r)) fin) 0 [(0, .ref th), (1, .int p1), (2, .int p2), (3, .int p3)] [] s0
  unfold x_parts at h
  refine hv_aload_n 0 dX0_parts_0 rfl rfl ?_
  refine hv_iload_n 1 dX0_parts_1 rfl rfl ?_
  obtain ⟨x1, e_x1, h⟩ := hq_ob h
  obtain ⟨g2, h⟩ := hq_gd h
  refine hv_callV [.int p1] [] [.int x1] (wk_x_isHead e_x1) cs_X0_89 g2 rfl ⟨Nat.le_of_ble_eq_true rfl, Nat.le_of_ble_eq_true rfl⟩ rfl (Nat.le_of_ble_eq_true rfl) rfl dX0_parts_2 ?_
  refine hv_if_eq (tgt := 28) dX0_parts_5 (by decide) (fun c3 => ?_) (fun c3 => ?_)
  · replace h := hq_ip c3 h
    refine hv_iconst (v := -1) dX0_parts_28 (by decide) ?_
    obtain ⟨h1, h2⟩ := hq_ret h
    subst h1
    subst h2
    exact hv_iret rfl dX0_parts_29
  · replace h := hq_in c3 h
    refine hv_iload_n 2 dX0_parts_8 rfl rfl ?_
    refine hv_if_lt (tgt := 28) dX0_parts_9 (by decide) (fun c4 => ?_) (fun c4 => ?_)
    · replace h := hq_ip c4 h
      refine hv_iconst (v := -1) dX0_parts_28 (by decide) ?_
      obtain ⟨h1, h2⟩ := hq_ret h
      subst h1
      subst h2
      exact hv_iret rfl dX0_parts_29
    · replace h := hq_in c4 h
      refine hv_iload_n 2 dX0_parts_12 rfl rfl ?_
      refine hv_bipush (v := 7) dX0_parts_13 (by decide) ?_
      refine hv_ishr dX0_parts_15 ?_
      refine hv_if_ne (tgt := 28) dX0_parts_16 (by decide) (fun c5 => ?_) (fun c5 => ?_)
      · replace h := hq_in c5 h
        refine hv_iconst (v := -1) dX0_parts_28 (by decide) ?_
        obtain ⟨h1, h2⟩ := hq_ret h
        subst h1
        subst h2
        exact hv_iret rfl dX0_parts_29
      · replace h := hq_ip c5 h
        refine hv_iload_n 3 dX0_parts_19 rfl rfl ?_
        refine hv_iconst (v := 0) dX0_parts_20 (by decide) ?_
        refine hv_iconst (v := 1) dX0_parts_21 (by decide) ?_
        refine hv_callS [.int p3, .int (0 : Int32), .int (1 : Int32)] [] [.int (x_in p3 (0 : Int32) (1 : Int32))] (wk_x_in rfl) cs_X0_73 rfl ⟨Nat.le_of_ble_eq_true rfl, Nat.le_of_ble_eq_true rfl⟩ rfl (Nat.le_of_ble_eq_true rfl) rfl dX0_parts_22 ?_
        refine hv_if_ne (tgt := 30) dX0_parts_25 (by decide) (fun c6 => ?_) (fun c6 => ?_)
        · replace h := hq_in c6 h
          refine hv_aload_n 0 dX0_parts_30 rfl rfl ?_
          obtain ⟨x7, e_x7, h⟩ := hq_ob h
          refine hv_getI fl_X0_288 e_x7 dX0_parts_31 ?_
          refine hv_if_ne (tgt := 40) dX0_parts_34 (by decide) (fun c8 => ?_) (fun c8 => ?_)
          · replace h := hq_in c8 h
            refine hv_bipush (v := -2) dX0_parts_40 (by decide) ?_
            refine hv_istore (L' := [(4, .int (-2 : Int32)), (0, .ref th), (1, .int p1), (2, .int p2), (3, .int p3)]) dX0_parts_42 (Nat.le_of_ble_eq_true rfl) rfl ?_
            refine hv_iconst (v := -1) dX0_parts_44 (by decide) ?_
            refine hv_istore (L' := [(5, .int (-1 : Int32)), (4, .int (-2 : Int32)), (0, .ref th), (1, .int p1), (2, .int p2), (3, .int p3)]) dX0_parts_45 (Nat.le_of_ble_eq_true rfl) rfl ?_
            refine hv_iconst (v := 0) dX0_parts_47 (by decide) ?_
            refine hv_istore (L' := [(6, .int (0 : Int32)), (5, .int (-1 : Int32)), (4, .int (-2 : Int32)), (0, .ref th), (1, .int p1), (2, .int p2), (3, .int p3)]) dX0_parts_48 (Nat.le_of_ble_eq_true rfl) rfl ?_
            refine hv_sub [3, 4, 5, 6, 2, 1, 0] rfl ?_
            refine wk_x_parts_L50  ?_ hk_F _ _ _ _ h
            · intro v13 v14 s15 h
              refine hv_iload 1 dX0_parts_192 rfl ?_
              refine hv_if_ge (tgt := 202) dX0_parts_194 (by decide) (fun c60 => ?_) (fun c60 => ?_)
              · replace h := hq_ip c60 h
                refine hv_iload_n 0 dX0_parts_202 rfl rfl ?_
                refine hv_if_ne (tgt := 211) dX0_parts_203 (by decide) (fun c61 => ?_) (fun c61 => ?_)
                · replace h := hq_in c61 h
                  refine hv_iload 2 dX0_parts_211 rfl ?_
                  obtain ⟨h1, h2⟩ := hq_ret h
                  subst h1
                  subst h2
                  exact hv_iret rfl dX0_parts_213
                · replace h := hq_ip c61 h
                  refine hv_iload 1 dX0_parts_206 rfl ?_
                  refine hv_goto (tgt := 213) dX0_parts_208 (by decide) ?_
                  obtain ⟨h1, h2⟩ := hq_ret h
                  subst h1
                  subst h2
                  exact hv_iret rfl dX0_parts_213
              · replace h := hq_in c60 h
                refine hv_bipush (v := -2) dX0_parts_197 (by decide) ?_
                refine hv_goto (tgt := 213) dX0_parts_199 (by decide) ?_
                obtain ⟨h1, h2⟩ := hq_ret h
                subst h1
                subst h2
                exact hv_iret rfl dX0_parts_213
          · replace h := hq_ip c8 h
            refine hv_bipush (v := -5) dX0_parts_37 (by decide) ?_
            obtain ⟨h1, h2⟩ := hq_ret h
            subst h1
            subst h2
            exact hv_iret rfl dX0_parts_39
        · replace h := hq_ip c6 h
          refine hv_iconst (v := -1) dX0_parts_28 (by decide) ?_
          obtain ⟨h1, h2⟩ := hq_ret h
          subst h1
          subst h2
          exact hv_iret rfl dX0_parts_29
