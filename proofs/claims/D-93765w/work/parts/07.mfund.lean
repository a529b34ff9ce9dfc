set_option maxRecDepth 100000
def m_size (p1 : Int32) : Int32 :=
  if 0 ≤ p1 then
    p1
  else
  -p1
abbrev N_m_size (l : Launch) : hk_N := (l, cX4_size, "HeadReckonsModel", 1, (some .int), 0, 0, false)
set_option maxHeartbeats 4000000 in
theorem wk_m_size {l : Launch} {Gd : hk_G} {st : hk_St} {p1 : Int32} {r : Int32} (h : m_size p1 = r) : hk_Met Gd l yX4_size cX4_size 1 (some .int) 0 0 [.int p1] st (some (.int r)) st := by
  refine hk_start "HeadReckonsModel" false (by decide +kernel) rfl (by decide) (Nat.le_of_ble_eq_true rfl) ?_
  show hk_V Gd (N_m_size l) (hk_end Gd st (some (.int r)) st) 0 [(0, .int p1)] [] st
  unfold m_size at h
  refine hv_iload_n 0 dX4_size_0 rfl rfl ?_
  refine hv_if_ge (tgt := 9) dX4_size_1 (by decide) (fun c1 => ?_) (fun c1 => ?_)
  · replace h := hq_ip c1 h
    refine hv_iload_n 0 dX4_size_9 rfl rfl ?_
    subst h
    exact hv_iret rfl dX4_size_10
  · replace h := hq_in c1 h
    refine hv_iload_n 0 dX4_size_4 rfl rfl ?_
    refine hv_ineg dX4_size_5 ?_
    refine hv_goto (tgt := 10) dX4_size_6 (by decide) ?_
    subst h
    exact hv_iret rfl dX4_size_10
def m_goSquared (p1 : Int32) (p2 : Int32) (s0 : hk_Ms) : Option (Int32 × hk_Ms) :=
  if ((p1 + p2) - (p1 + p2) / (2 : Int32) * (2 : Int32)) = (1 : Int32) then
    some ((0 : Int32), s0)
  else
  hk_nm ((p1 + p2) / (2 : Int32)) fun x2 =>
    hk_nm ((m_size (p1 - p2)) / (2 : Int32)) fun x3 =>
    (m_goLeft x2 x2 s0).bind fun s4 =>
    (m_holds  s4).bind fun s5 =>
    (m_goLeft x3 x3 s5).bind fun s6 =>
    hk_nm (hm_sI s6 28 (0 : Int32)) fun s7 =>
    hk_nm (hm_sI s7 29 (p1 * p2)) fun s8 =>
    (m_acts (1 : Int32) (hm_I s8 29) (0 : Int32) (0 : Int32) s8).bind fun s9 =>
    some ((1 : Int32), s9)
abbrev N_m_goSquared (l : Launch) : hk_N := (l, cX4_goSquared, "HeadReckonsModel", 5, (some .boolean), 4, 99, false)
set_option maxHeartbeats 4000000 in
theorem wk_m_goSquared {l : Launch} {Gd : hk_G} {m0 : Nat} {st : hk_St} (KM : hk_KM m0 st) {p1 : Int32} {p2 : Int32} {s0 : hk_Ms} {r : Int32} {fin : hk_Ms} (h : m_goSquared p1 p2 s0 = some (r, fin)) : hk_Met Gd l yX4_goSquared cX4_goSquared 5 (some .boolean) 4 99 [.ref m0, .int p1, .int p2] (hk_mU m0 st s0) (some (.int r)) (hk_mU m0 st fin) := by
  refine hk_start "HeadReckonsModel" false (by decide +kernel) rfl (by decide) (Nat.le_of_ble_eq_true rfl) ?_
  show hk_V Gd (N_m_goSquared l) (hk_end Gd (hk_mU m0 st s0) (some (.int r)) (hk_mU m0 st fin)) 0 [(0, .ref m0), (1, .int p1), (2, .int p2)] [] (hk_mU m0 st s0)
  unfold m_goSquared at h
  refine hv_iload_n 1 dX4_goSquared_0 rfl rfl ?_
  refine hv_iload_n 2 dX4_goSquared_1 rfl rfl ?_
  refine hv_iadd dX4_goSquared_2 ?_
  refine hv_iconst (v := 2) dX4_goSquared_3 (by decide) ?_
  refine hv_irem (by decide) dX4_goSquared_4 ?_
  refine hv_iconst (v := 1) dX4_goSquared_5 (by decide) ?_
  refine hv_icmp_ne (tgt := 11) dX4_goSquared_6 (by decide) (fun c1 => ?_) (fun c1 => ?_)
  · replace h := hq_in c1 h
    refine hv_iload_n 1 dX4_goSquared_11 rfl rfl ?_
    refine hv_iload_n 2 dX4_goSquared_12 rfl rfl ?_
    refine hv_iadd dX4_goSquared_13 ?_
    refine hv_iconst (v := 2) dX4_goSquared_14 (by decide) ?_
    refine hv_idiv (by decide) dX4_goSquared_15 ?_
    obtain ⟨x2, e_x2, h⟩ := hq_nm h
    rw [← e_x2]
    refine hv_istore_n (L' := [(3, .int x2), (0, .ref m0), (1, .int p1), (2, .int p2)]) dX4_goSquared_16 rfl (Nat.le_of_ble_eq_true rfl) rfl ?_
    refine hv_iload_n 2 dX4_goSquared_17 rfl rfl ?_
    refine hv_iload_n 3 dX4_goSquared_18 rfl rfl ?_
    refine hv_isub dX4_goSquared_19 ?_
    refine hv_callS [.int (p1 - p2)] [] [.int (m_size (p1 - p2))] (wk_m_size rfl) cs_X4_250 rfl ⟨Nat.le_of_ble_eq_true rfl, Nat.le_of_ble_eq_true rfl⟩ rfl (Nat.le_of_ble_eq_true rfl) rfl dX4_goSquared_20 ?_
    refine hv_iconst (v := 2) dX4_goSquared_23 (by decide) ?_
    refine hv_idiv (by decide) dX4_goSquared_24 ?_
    obtain ⟨x3, e_x3, h⟩ := hq_nm h
    rw [← e_x3]
    refine hv_istore (L' := [(4, .int x3), (3, .int x2), (0, .ref m0), (1, .int p1), (2, .int p2)]) dX4_goSquared_25 (Nat.le_of_ble_eq_true rfl) rfl ?_
    refine hv_aload_n 2 dX4_goSquared_27 rfl rfl ?_
    refine hv_iload_n 1 dX4_goSquared_28 rfl rfl ?_
    refine hv_iload_n 1 dX4_goSquared_29 rfl rfl ?_
    obtain ⟨s4, e_s4, h⟩ := hq_ob h
    refine hv_callV [.int x2, .int x2] [] [] (wk_m_goLeft KM e_s4) cs_X4_243 KM.recv rfl ⟨Nat.le_of_ble_eq_true rfl, Nat.le_of_ble_eq_true rfl⟩ rfl (Nat.le_of_ble_eq_true rfl) rfl dX4_goSquared_30 ?_
    refine hv_aload_n 2 dX4_goSquared_33 rfl rfl ?_
    obtain ⟨s5, e_s5, h⟩ := hq_ob h
    refine hv_callV [] [] [] (wk_m_holds KM e_s5) cs_X4_247 KM.recv rfl ⟨Nat.le_of_ble_eq_true rfl, Nat.le_of_ble_eq_true rfl⟩ rfl (Nat.le_of_ble_eq_true rfl) rfl dX4_goSquared_34 ?_
    refine hv_aload_n 2 dX4_goSquared_37 rfl rfl ?_
    refine hv_iload 0 dX4_goSquared_38 rfl ?_
    refine hv_iload 0 dX4_goSquared_40 rfl ?_
    obtain ⟨s6, e_s6, h⟩ := hq_ob h
    refine hv_callV [.int x3, .int x3] [] [] (wk_m_goLeft KM e_s6) cs_X4_243 KM.recv rfl ⟨Nat.le_of_ble_eq_true rfl, Nat.le_of_ble_eq_true rfl⟩ rfl (Nat.le_of_ble_eq_true rfl) rfl dX4_goSquared_42 ?_
    refine hv_aload_n 2 dX4_goSquared_45 rfl rfl ?_
    refine hv_iconst (v := 0) dX4_goSquared_46 (by decide) ?_
    obtain ⟨s7, e_s7, h⟩ := hq_nm h
    refine hm_putI (f := 28) KM (fp_X4_223) e_s7 dX4_goSquared_47 ?_
    refine hv_aload_n 2 dX4_goSquared_50 rfl rfl ?_
    refine hv_iload_n 3 dX4_goSquared_51 rfl rfl ?_
    refine hv_iload_n 4 dX4_goSquared_52 rfl rfl ?_
    refine hv_imul dX4_goSquared_53 ?_
    obtain ⟨s8, e_s8, h⟩ := hq_nm h
    refine hm_putI (f := 29) KM (fp_X4_226) e_s8 dX4_goSquared_54 ?_
    refine hv_aload_n 2 dX4_goSquared_57 rfl rfl ?_
    refine hv_iconst (v := 1) dX4_goSquared_58 (by decide) ?_
    refine hv_aload_n 2 dX4_goSquared_59 rfl rfl ?_
    refine hm_getI (f := 29) KM (fl_X4_226) dX4_goSquared_60 ?_
    refine hv_iconst (v := 0) dX4_goSquared_63 (by decide) ?_
    refine hv_iconst (v := 0) dX4_goSquared_64 (by decide) ?_
    obtain ⟨s9, e_s9, h⟩ := hq_ob h
    refine hv_callV [.int (1 : Int32), .int (hm_I s8 29), .int (0 : Int32), .int (0 : Int32)] [] [] (wk_m_acts KM e_s9) cs_X4_229 KM.recv rfl ⟨Nat.le_of_ble_eq_true rfl, Nat.le_of_ble_eq_true rfl⟩ rfl (Nat.le_of_ble_eq_true rfl) rfl dX4_goSquared_65 ?_
    refine hv_iconst (v := 1) dX4_goSquared_68 (by decide) ?_
    obtain ⟨h1, h2⟩ := hq_ret h
    subst h1
    subst h2
    exact hv_zret (ty := .boolean) rfl rfl dX4_goSquared_69
  · replace h := hq_ip c1 h
    refine hv_iconst (v := 0) dX4_goSquared_9 (by decide) ?_
    obtain ⟨h1, h2⟩ := hq_ret h
    subst h1
    subst h2
    exact hv_zret (ty := .boolean) rfl rfl dX4_goSquared_10
def m_goSplit_L5b (p1 : Int32) (p2 : Int32) (e0 : hk_Ms → Option (Int32 × hk_Ms)) (rc : Int32 → hk_Ms → Option (Int32 × hk_Ms)) (v2 : Int32) (s3 : hk_Ms) : Option (Int32 × hk_Ms) :=
  if v2 < (2 : Int32) then
    e0 s3
  else
  hk_gd (decide (¬ v2 = 0)) <|
  if (p2 - p2 / v2 * v2) = 0 then
    hk_gd (decide (¬ v2 = 0)) <|
  if (p2 / v2) ≤ (1 : Int32) then
    hk_nm (v2 + (-1 : Int32)) fun x11 =>
    rc x11 s3
  else
  (m_goLeft p1 v2 s3).bind fun s12 =>
  (m_holds  s12).bind fun s13 =>
  hk_gd (decide (¬ v2 = 0)) <|
  (m_goLeft (p1 * v2) (p2 / v2) s13).bind fun s15 =>
  some ((1 : Int32), s15)
  else
  hk_nm (v2 + (-1 : Int32)) fun x8 =>
    rc x8 s3
def m_goSplit_L5 (p1 : Int32) (p2 : Int32) (e0 : hk_Ms → Option (Int32 × hk_Ms)) : Nat → Int32 → hk_Ms → Option (Int32 × hk_Ms)
  | 0 => fun _ _ => none
  | n + 1 => m_goSplit_L5b p1 p2 e0 (m_goSplit_L5 p1 p2 e0 n)
def m_goSplit (p1 : Int32) (p2 : Int32) (s0 : hk_Ms) : Option (Int32 × hk_Ms) :=
  hk_nm (hm_I s0 31) fun x1 =>
  m_goSplit_L5 p1 p2  (fun (s4 : hk_Ms) =>
    some ((0 : Int32), s4)) hk_F x1 s0
abbrev N_m_goSplit (l : Launch) : hk_N := (l, cX4_goSplit, "HeadReckonsModel", 4, (some .boolean), 4, 99, false)
set_option maxHeartbeats 4000000 in
theorem wk_m_goSplit_L5b {l : Launch} {Gd : hk_G} {m0 : Nat} {st : hk_St} (KM : hk_KM m0 st) {p1 : Int32} {p2 : Int32} {s0 : hk_Ms} {r : Int32} {fin : hk_Ms} {e0 : hk_Ms → Option (Int32 × hk_Ms)} {rc : Int32 → hk_Ms → Option (Int32 × hk_Ms)} (hrc : ∀ (v2 : Int32) (s3 : hk_Ms), rc v2 s3 = some (r, fin) → hk_V Gd (N_m_goSplit l) (hk_end Gd (hk_mU m0 st s0) (some (.int r)) (hk_mU m0 st fin)) 5 [(0, .ref m0), (1, .int p1), (2, .int p2), (3, .int v2)] [] (hk_mU m0 st s3)) (he0 : ∀ (s4 : hk_Ms), e0 s4 = some (r, fin) → hk_V Gd (N_m_goSplit l) (hk_end Gd (hk_mU m0 st s0) (some (.int r)) (hk_mU m0 st fin)) 51 [] [] (hk_mU m0 st s4)) {v2 : Int32} {s3 : hk_Ms} (h : m_goSplit_L5b p1 p2 e0 rc v2 s3 = some (r, fin)) : hk_V Gd (N_m_goSplit l) (hk_end Gd (hk_mU m0 st s0) (some (.int r)) (hk_mU m0 st fin)) 5 [(0, .ref m0), (1, .int p1), (2, .int p2), (3, .int v2)] [] (hk_mU m0 st s3) := by
  unfold m_goSplit_L5b at h
  refine hv_iload_n 3 dX4_goSplit_5 rfl rfl ?_
  refine hv_iconst (v := 2) dX4_goSplit_6 (by decide) ?_
  refine hv_icmp_lt (tgt := 51) dX4_goSplit_7 (by decide) (fun c5 => ?_) (fun c5 => ?_)
  · replace h := hq_ip c5 h
    refine hv_sub [] rfl ?_
    exact he0 _ h
  · replace h := hq_in c5 h
    refine hv_iload_n 2 dX4_goSplit_10 rfl rfl ?_
    refine hv_iload_n 3 dX4_goSplit_11 rfl rfl ?_
    obtain ⟨g6, h⟩ := hq_gd h
    refine hv_irem (of_decide_eq_true g6) dX4_goSplit_12 ?_
    refine hv_if_ne (tgt := 45) dX4_goSplit_13 (by decide) (fun c7 => ?_) (fun c7 => ?_)
    · replace h := hq_in c7 h
      obtain ⟨x8, e_x8, h⟩ := hq_nm h
      refine hv_iinc (v := x8) (L' := [(3, .int x8), (0, .ref m0), (1, .int p1), (2, .int p2)]) 3 dX4_goSplit_45 rfl (by rw [e_x8]; rfl) (Nat.le_of_ble_eq_true rfl) rfl ?_
      refine hv_goto (tgt := 5) dX4_goSplit_48 (by decide) ?_
      refine hv_sub [1, 2, 3, 0] rfl ?_
      exact hrc _ _ h
    · replace h := hq_ip c7 h
      refine hv_iload_n 2 dX4_goSplit_16 rfl rfl ?_
      refine hv_iload_n 3 dX4_goSplit_17 rfl rfl ?_
      obtain ⟨g9, h⟩ := hq_gd h
      refine hv_idiv (of_decide_eq_true g9) dX4_goSplit_18 ?_
      refine hv_iconst (v := 1) dX4_goSplit_19 (by decide) ?_
      refine hv_icmp_le (tgt := 45) dX4_goSplit_20 (by decide) (fun c10 => ?_) (fun c10 => ?_)
      · replace h := hq_ip c10 h
        obtain ⟨x11, e_x11, h⟩ := hq_nm h
        refine hv_iinc (v := x11) (L' := [(3, .int x11), (0, .ref m0), (1, .int p1), (2, .int p2)]) 3 dX4_goSplit_45 rfl (by rw [e_x11]; rfl) (Nat.le_of_ble_eq_true rfl) rfl ?_
        refine hv_goto (tgt := 5) dX4_goSplit_48 (by decide) ?_
        refine hv_sub [1, 2, 3, 0] rfl ?_
        exact hrc _ _ h
      · replace h := hq_in c10 h
        refine hv_aload_n 0 dX4_goSplit_23 rfl rfl ?_
        refine hv_iload_n 1 dX4_goSplit_24 rfl rfl ?_
        refine hv_iload_n 3 dX4_goSplit_25 rfl rfl ?_
        obtain ⟨s12, e_s12, h⟩ := hq_ob h
        refine hv_callV [.int p1, .int v2] [] [] (wk_m_goLeft KM e_s12) cs_X4_243 KM.recv rfl ⟨Nat.le_of_ble_eq_true rfl, Nat.le_of_ble_eq_true rfl⟩ rfl (Nat.le_of_ble_eq_true rfl) rfl dX4_goSplit_26 ?_
        refine hv_aload_n 0 dX4_goSplit_29 rfl rfl ?_
        obtain ⟨s13, e_s13, h⟩ := hq_ob h
        refine hv_callV [] [] [] (wk_m_holds KM e_s13) cs_X4_247 KM.recv rfl ⟨Nat.le_of_ble_eq_true rfl, Nat.le_of_ble_eq_true rfl⟩ rfl (Nat.le_of_ble_eq_true rfl) rfl dX4_goSplit_30 ?_
        refine hv_aload_n 0 dX4_goSplit_33 rfl rfl ?_
        refine hv_iload_n 1 dX4_goSplit_34 rfl rfl ?_
        refine hv_iload_n 3 dX4_goSplit_35 rfl rfl ?_
        refine hv_imul dX4_goSplit_36 ?_
        refine hv_iload_n 2 dX4_goSplit_37 rfl rfl ?_
        refine hv_iload_n 3 dX4_goSplit_38 rfl rfl ?_
        obtain ⟨g14, h⟩ := hq_gd h
        refine hv_idiv (of_decide_eq_true g14) dX4_goSplit_39 ?_
        obtain ⟨s15, e_s15, h⟩ := hq_ob h
        refine hv_callV [.int (p1 * v2), .int (p2 / v2)] [] [] (wk_m_goLeft KM e_s15) cs_X4_243 KM.recv rfl ⟨Nat.le_of_ble_eq_true rfl, Nat.le_of_ble_eq_true rfl⟩ rfl (Nat.le_of_ble_eq_true rfl) rfl dX4_goSplit_40 ?_
        refine hv_iconst (v := 1) dX4_goSplit_43 (by decide) ?_
        obtain ⟨h1, h2⟩ := hq_ret h
        subst h1
        subst h2
        exact hv_zret (ty := .boolean) rfl rfl dX4_goSplit_44
theorem wk_m_goSplit_L5 {l : Launch} {Gd : hk_G} {m0 : Nat} {st : hk_St} (KM : hk_KM m0 st) {p1 : Int32} {p2 : Int32} {s0 : hk_Ms} {r : Int32} {fin : hk_Ms} {e0 : hk_Ms → Option (Int32 × hk_Ms)} (he0 : ∀ (s4 : hk_Ms), e0 s4 = some (r, fin) → hk_V Gd (N_m_goSplit l) (hk_end Gd (hk_mU m0 st s0) (some (.int r)) (hk_mU m0 st fin)) 51 [] [] (hk_mU m0 st s4)) : ∀ (n : Nat) (v2 : Int32) (s3 : hk_Ms), m_goSplit_L5 p1 p2 e0 n v2 s3 = some (r, fin) → hk_V Gd (N_m_goSplit l) (hk_end Gd (hk_mU m0 st s0) (some (.int r)) (hk_mU m0 st fin)) 5 [(0, .ref m0), (1, .int p1), (2, .int p2), (3, .int v2)] [] (hk_mU m0 st s3) := by
  intro n
  induction n with
  | zero => intro v2 s3 h; cases h
  | succ n ih => intro v2 s3 h; exact wk_m_goSplit_L5b KM ih he0 h
set_option maxHeartbeats 4000000 in
theorem wk_m_goSplit {l : Launch} {Gd : hk_G} {m0 : Nat} {st : hk_St} (KM : hk_KM m0 st) {p1 : Int32} {p2 : Int32} {s0 : hk_Ms} {r : Int32} {fin : hk_Ms} (h : m_goSplit p1 p2 s0 = some (r, fin)) : hk_Met Gd l yX4_goSplit cX4_goSplit 4 (some .boolean) 4 99 [.ref m0, .int p1, .int p2] (hk_mU m0 st s0) (some (.int r)) (hk_mU m0 st fin) := by
  refine hk_start "HeadReckonsModel" false (by decide +kernel) rfl (by decide) (Nat.le_of_ble_eq_true rfl) ?_
  show hk_V Gd (N_m_goSplit l) (hk_end Gd (hk_mU m0 st s0) (some (.int r)) (hk_mU m0 st fin)) 0 [(0, .ref m0), (1, .int p1), (2, .int p2)] [] (hk_mU m0 st s0)
  unfold m_goSplit at h
  refine hv_aload_n 0 dX4_goSplit_0 rfl rfl ?_
  refine hm_getI (f := 31) KM (fl_X4_253) dX4_goSplit_1 ?_
  obtain ⟨x1, e_x1, h⟩ := hq_nm h
  rw [← e_x1]
  refine hv_istore_n (L' := [(3, .int x1), (0, .ref m0), (1, .int p1), (2, .int p2)]) dX4_goSplit_4 rfl (Nat.le_of_ble_eq_true rfl) rfl ?_
  refine hv_sub [1, 2, 3, 0] rfl ?_
  refine wk_m_goSplit_L5 KM ?_ hk_F _ _ h
  · intro s4 h
    refine hv_iconst (v := 0) dX4_goSplit_51 (by decide) ?_
    obtain ⟨h1, h2⟩ := hq_ret h
    subst h1
    subst h2
    exact hv_zret (ty := .boolean) rfl rfl dX4_goSplit_52
def m_layOut (p1 : Int32) (p2 : Int32) (p3 : Int32) (p4 : Int32) (s0 : hk_Ms) : Option (Int32 × hk_Ms) :=
  hk_nm (fun (v1 : Int32) (v2 : Int32) (s3 : hk_Ms) =>
    (m_acts (0 : Int32) v2 v1 (0 : Int32) s3).bind fun s4 =>
    some ((1 : Int32), s4)) fun k138 =>
  hk_nm (fun (v5 : Int32) (s6 : hk_Ms) =>
    hk_nm (hm_sI s6 31 v5) fun s7 =>
    hk_nm (hm_sI s7 21 (0 : Int32)) fun s8 =>
    hk_nm (hm_sI s8 28 (0 : Int32)) fun s9 =>
    hk_nm (hm_sI s9 29 (0 : Int32)) fun s10 =>
    hk_nm (p3 / (10000 : Int32)) fun x11 =>
    hk_nm (p3 - p3 / (10000 : Int32) * (10000 : Int32)) fun x12 =>
    if p2 = 0 then
      (m_isKnown x11 x12 s10).bind fun x13 =>
      if x13 = 0 then
        some ((0 : Int32), s10)
      else
      hk_nm (hm_sI s10 29 (x11 * x12)) fun s15 =>
        if x12 ≤ x11 then
          k138 x12 (hm_I s15 29) s15
        else
        k138 x11 (hm_I s15 29) s15
    else
    if p2 = 1 then
      (m_goLeft x11 x12 s10).bind fun s18 =>
      some ((1 : Int32), s18)
    else
    if p2 = 2 then
      (m_goRight x11 x12 s10).bind fun s20 =>
      some ((1 : Int32), s20)
    else
    if p2 = 3 then
      (m_goCrossed x11 x12 s10).bind fun s22 =>
      some ((1 : Int32), s22)
    else
    if p2 = 4 then
      (m_goSquared x11 x12 s10).bind fun q24 =>
      hk_gd (decide (q24.1 &&& 1 = q24.1)) <| some (q24.1, q24.2)
    else
    if p2 = 5 then
      (m_goSplit x11 x12 s10).bind fun q27 =>
      hk_gd (decide (q27.1 &&& 1 = q27.1)) <| some (q27.1, q27.2)
    else
    (m_goRight x12 x11 s10).bind fun s30 =>
    some ((1 : Int32), s30)) fun k26 =>
  hk_nm (hm_sI s0 30 p1) fun s31 =>
  if p4 ≤ 0 then
    (hm_lI s31 0 30 (((5 : Int32) * p1) + (3 : Int32))).bind fun x33 =>
    k26 x33 s31
  else
  k26 p4 s31
abbrev N_m_layOut (l : Launch) : hk_N := (l, cX4_layOut, "HeadReckonsModel", 7, (some .boolean), 5, 123, false)
set_option maxHeartbeats 4000000 in
theorem wk_m_layOut {l : Launch} {Gd : hk_G} {m0 : Nat} {st : hk_St} (KM : hk_KM m0 st) {p1 : Int32} {p2 : Int32} {p3 : Int32} {p4 : Int32} {s0 : hk_Ms} {r : Int32} {fin : hk_Ms} (h : m_layOut p1 p2 p3 p4 s0 = some (r, fin)) : hk_Met Gd l yX4_layOut cX4_layOut 7 (some .boolean) 5 123 [.ref m0, .int p1, .int p2, .int p3, .int p4] (hk_mU m0 st s0) (some (.int r)) (hk_mU m0 st fin) := by
  refine hk_start "HeadReckonsModel" false (by decide +kernel) rfl (by decide) (Nat.le_of_ble_eq_true rfl) ?_
  show hk_V Gd (N_m_layOut l) (hk_end Gd (hk_mU m0 st s0) (some (.int r)) (hk_mU m0 st fin)) 0 [(0, .ref m0), (1, .int p1), (2, .int p2), (3, .int p3), (4, .int p4)] [] (hk_mU m0 st s0)
  unfold m_layOut at h
  obtain ⟨k138, e_k138, h⟩ := hq_nm h
  have wk138 : ∀ (v1 : Int32) (v2 : Int32) (s3 : hk_Ms), k138 v1 v2 s3 = some (r, fin) → hk_V Gd (N_m_layOut l) (hk_end Gd (hk_mU m0 st s0) (some (.int r)) (hk_mU m0 st fin)) 138 [] [.int v1, .int v2, .int (0 : Int32), .ref m0] (hk_mU m0 st s3) := by
    intro v1 v2 s3 h
    rw [e_k138] at h
    refine hv_iconst (v := 0) dX4_layOut_138 (by decide) ?_
    obtain ⟨s4, e_s4, h⟩ := hq_ob h
    refine hv_callV [.int (0 : Int32), .int v2, .int v1, .int (0 : Int32)] [] [] (wk_m_acts KM e_s4) cs_X4_229 KM.recv rfl ⟨Nat.le_of_ble_eq_true rfl, Nat.le_of_ble_eq_true rfl⟩ rfl (Nat.le_of_ble_eq_true rfl) rfl dX4_layOut_139 ?_
    refine hv_iconst (v := 1) dX4_layOut_142 (by decide) ?_
    obtain ⟨h1, h2⟩ := hq_ret h
    subst h1
    subst h2
    exact hv_zret (ty := .boolean) rfl rfl dX4_layOut_143
  clear e_k138
  obtain ⟨k26, e_k26, h⟩ := hq_nm h
  have wk26 : ∀ (v5 : Int32) (s6 : hk_Ms), k26 v5 s6 = some (r, fin) → hk_V Gd (N_m_layOut l) (hk_end Gd (hk_mU m0 st s0) (some (.int r)) (hk_mU m0 st fin)) 26 [(0, .ref m0), (2, .int p2), (3, .int p3)] [.int v5, .ref m0] (hk_mU m0 st s6) := by
    intro v5 s6 h
    rw [e_k26] at h
    obtain ⟨s7, e_s7, h⟩ := hq_nm h
    refine hm_putI (f := 31) KM (fp_X4_253) e_s7 dX4_layOut_26 ?_
    refine hv_aload_n 0 dX4_layOut_29 rfl rfl ?_
    refine hv_iconst (v := 0) dX4_layOut_30 (by decide) ?_
    obtain ⟨s8, e_s8, h⟩ := hq_nm h
    refine hm_putI (f := 21) KM (fp_X4_214) e_s8 dX4_layOut_31 ?_
    refine hv_aload_n 0 dX4_layOut_34 rfl rfl ?_
    refine hv_iconst (v := 0) dX4_layOut_35 (by decide) ?_
    obtain ⟨s9, e_s9, h⟩ := hq_nm h
    refine hm_putI (f := 28) KM (fp_X4_223) e_s9 dX4_layOut_36 ?_
    refine hv_aload_n 0 dX4_layOut_39 rfl rfl ?_
    refine hv_iconst (v := 0) dX4_layOut_40 (by decide) ?_
    obtain ⟨s10, e_s10, h⟩ := hq_nm h
    refine hm_putI (f := 29) KM (fp_X4_226) e_s10 dX4_layOut_41 ?_
    refine hv_iload_n 2 dX4_layOut_44 rfl rfl ?_
    refine hv_sipush (v := 10000) dX4_layOut_45 (by decide) ?_
    refine hv_idiv (by decide) dX4_layOut_48 ?_
    obtain ⟨x11, e_x11, h⟩ := hq_nm h
    rw [← e_x11]
    refine hv_istore (L' := [(5, .int x11), (0, .ref m0), (2, .int p2), (3, .int p3)]) dX4_layOut_49 (Nat.le_of_ble_eq_true rfl) rfl ?_
    refine hv_iload_n 3 dX4_layOut_51 rfl rfl ?_
    refine hv_sipush (v := 10000) dX4_layOut_52 (by decide) ?_
    refine hv_irem (by decide) dX4_layOut_55 ?_
    obtain ⟨x12, e_x12, h⟩ := hq_nm h
    rw [← e_x12]
    refine hv_istore (L' := [(6, .int x12), (5, .int x11), (0, .ref m0), (2, .int p2), (3, .int p3)]) dX4_layOut_56 (Nat.le_of_ble_eq_true rfl) rfl ?_
    refine hv_iload_n 3 dX4_layOut_58 rfl rfl ?_
    by_cases c17 : p2 = 0
    · replace h := hq_ip c17 h
      refine hv_tableIn (tgt := 96) (off := 37) dX4_layOut_59 (by rw [c17]; decide) (by rw [c17]; decide) (by rw [c17]; rfl) (by decide) ?_
      refine hv_aload_n 2 dX4_layOut_96 rfl rfl ?_
      refine hv_iload 1 dX4_layOut_97 rfl ?_
      refine hv_iload 0 dX4_layOut_99 rfl ?_
      obtain ⟨x13, e_x13, h⟩ := hq_ob h
      refine hv_callV [.int x11, .int x12] [] [.int x13] (wk_m_isKnown KM e_x13) cs_X4_259 KM.recv rfl ⟨Nat.le_of_ble_eq_true rfl, Nat.le_of_ble_eq_true rfl⟩ rfl (Nat.le_of_ble_eq_true rfl) rfl dX4_layOut_101 ?_
      refine hv_if_ne (tgt := 109) dX4_layOut_104 (by decide) (fun c14 => ?_) (fun c14 => ?_)
      · replace h := hq_in c14 h
        refine hv_aload_n 2 dX4_layOut_109 rfl rfl ?_
        refine hv_iload 1 dX4_layOut_110 rfl ?_
        refine hv_iload 0 dX4_layOut_112 rfl ?_
        refine hv_imul dX4_layOut_114 ?_
        obtain ⟨s15, e_s15, h⟩ := hq_nm h
        refine hm_putI (f := 29) KM (fp_X4_226) e_s15 dX4_layOut_115 ?_
        refine hv_aload_n 2 dX4_layOut_118 rfl rfl ?_
        refine hv_iconst (v := 0) dX4_layOut_119 (by decide) ?_
        refine hv_aload_n 2 dX4_layOut_120 rfl rfl ?_
        refine hm_getI (f := 29) KM (fl_X4_226) dX4_layOut_121 ?_
        refine hv_iload 1 dX4_layOut_124 rfl ?_
        refine hv_iload 0 dX4_layOut_126 rfl ?_
        refine hv_icmp_ge (tgt := 136) dX4_layOut_128 (by decide) (fun c16 => ?_) (fun c16 => ?_)
        · replace h := hq_ip c16 h
          refine hv_iload 0 dX4_layOut_136 rfl ?_
          refine hv_sub [] rfl ?_
          exact wk138 _ _ _ h
        · replace h := hq_in c16 h
          refine hv_iload 1 dX4_layOut_131 rfl ?_
          refine hv_goto (tgt := 138) dX4_layOut_133 (by decide) ?_
          refine hv_sub [] rfl ?_
          exact wk138 _ _ _ h
      · replace h := hq_ip c14 h
        refine hv_iconst (v := 0) dX4_layOut_107 (by decide) ?_
        obtain ⟨h1, h2⟩ := hq_ret h
        subst h1
        subst h2
        exact hv_zret (ty := .boolean) rfl rfl dX4_layOut_108
    replace h := hq_in c17 h
    by_cases c19 : p2 = 1
    · replace h := hq_ip c19 h
      refine hv_tableIn (tgt := 144) (off := 85) dX4_layOut_59 (by rw [c19]; decide) (by rw [c19]; decide) (by rw [c19]; rfl) (by decide) ?_
      refine hv_aload_n 2 dX4_layOut_144 rfl rfl ?_
      refine hv_iload 1 dX4_layOut_145 rfl ?_
      refine hv_iload 0 dX4_layOut_147 rfl ?_
      obtain ⟨s18, e_s18, h⟩ := hq_ob h
      refine hv_callV [.int x11, .int x12] [] [] (wk_m_goLeft KM e_s18) cs_X4_243 KM.recv rfl ⟨Nat.le_of_ble_eq_true rfl, Nat.le_of_ble_eq_true rfl⟩ rfl (Nat.le_of_ble_eq_true rfl) rfl dX4_layOut_149 ?_
      refine hv_iconst (v := 1) dX4_layOut_152 (by decide) ?_
      obtain ⟨h1, h2⟩ := hq_ret h
      subst h1
      subst h2
      exact hv_zret (ty := .boolean) rfl rfl dX4_layOut_153
    replace h := hq_in c19 h
    by_cases c21 : p2 = 2
    · replace h := hq_ip c21 h
      refine hv_tableIn (tgt := 154) (off := 95) dX4_layOut_59 (by rw [c21]; decide) (by rw [c21]; decide) (by rw [c21]; rfl) (by decide) ?_
      refine hv_aload_n 2 dX4_layOut_154 rfl rfl ?_
      refine hv_iload 1 dX4_layOut_155 rfl ?_
      refine hv_iload 0 dX4_layOut_157 rfl ?_
      obtain ⟨s20, e_s20, h⟩ := hq_ob h
      refine hv_callV [.int x11, .int x12] [] [] (wk_m_goRight KM e_s20) cs_X4_262 KM.recv rfl ⟨Nat.le_of_ble_eq_true rfl, Nat.le_of_ble_eq_true rfl⟩ rfl (Nat.le_of_ble_eq_true rfl) rfl dX4_layOut_159 ?_
      refine hv_iconst (v := 1) dX4_layOut_162 (by decide) ?_
      obtain ⟨h1, h2⟩ := hq_ret h
      subst h1
      subst h2
      exact hv_zret (ty := .boolean) rfl rfl dX4_layOut_163
    replace h := hq_in c21 h
    by_cases c23 : p2 = 3
    · replace h := hq_ip c23 h
      refine hv_tableIn (tgt := 164) (off := 105) dX4_layOut_59 (by rw [c23]; decide) (by rw [c23]; decide) (by rw [c23]; rfl) (by decide) ?_
      refine hv_aload_n 2 dX4_layOut_164 rfl rfl ?_
      refine hv_iload 1 dX4_layOut_165 rfl ?_
      refine hv_iload 0 dX4_layOut_167 rfl ?_
      obtain ⟨s22, e_s22, h⟩ := hq_ob h
      refine hv_callV [.int x11, .int x12] [] [] (wk_m_goCrossed KM e_s22) cs_X4_265 KM.recv rfl ⟨Nat.le_of_ble_eq_true rfl, Nat.le_of_ble_eq_true rfl⟩ rfl (Nat.le_of_ble_eq_true rfl) rfl dX4_layOut_169 ?_
      refine hv_iconst (v := 1) dX4_layOut_172 (by decide) ?_
      obtain ⟨h1, h2⟩ := hq_ret h
      subst h1
      subst h2
      exact hv_zret (ty := .boolean) rfl rfl dX4_layOut_173
    replace h := hq_in c23 h
    by_cases c26 : p2 = 4
    · replace h := hq_ip c26 h
      refine hv_tableIn (tgt := 174) (off := 115) dX4_layOut_59 (by rw [c26]; decide) (by rw [c26]; decide) (by rw [c26]; rfl) (by decide) ?_
      refine hv_aload_n 2 dX4_layOut_174 rfl rfl ?_
      refine hv_iload 1 dX4_layOut_175 rfl ?_
      refine hv_iload 0 dX4_layOut_177 rfl ?_
      obtain ⟨q24, e_q24, h⟩ := hq_ob h
      refine hv_callV [.int x11, .int x12] [] [.int q24.1] (wk_m_goSquared KM e_q24) cs_X4_268 KM.recv rfl ⟨Nat.le_of_ble_eq_true rfl, Nat.le_of_ble_eq_true rfl⟩ rfl (Nat.le_of_ble_eq_true rfl) rfl dX4_layOut_179 ?_
      obtain ⟨g25, h⟩ := hq_gd h
      obtain ⟨h1, h2⟩ := hq_ret h
      subst h1
      subst h2
      exact hv_zret (ty := .boolean) rfl (hk_nz (of_decide_eq_true g25)) dX4_layOut_182
    replace h := hq_in c26 h
    by_cases c29 : p2 = 5
    · replace h := hq_ip c29 h
      refine hv_tableIn (tgt := 183) (off := 124) dX4_layOut_59 (by rw [c29]; decide) (by rw [c29]; decide) (by rw [c29]; rfl) (by decide) ?_
      refine hv_aload_n 2 dX4_layOut_183 rfl rfl ?_
      refine hv_iload 1 dX4_layOut_184 rfl ?_
      refine hv_iload 0 dX4_layOut_186 rfl ?_
      obtain ⟨q27, e_q27, h⟩ := hq_ob h
      refine hv_callV [.int x11, .int x12] [] [.int q27.1] (wk_m_goSplit KM e_q27) cs_X4_271 KM.recv rfl ⟨Nat.le_of_ble_eq_true rfl, Nat.le_of_ble_eq_true rfl⟩ rfl (Nat.le_of_ble_eq_true rfl) rfl dX4_layOut_188 ?_
      obtain ⟨g28, h⟩ := hq_gd h
      obtain ⟨h1, h2⟩ := hq_ret h
      subst h1
      subst h2
      exact hv_zret (ty := .boolean) rfl (hk_nz (of_decide_eq_true g28)) dX4_layOut_191
    replace h := hq_in c29 h
    refine hv_tableD (tgt := 192) [0, 1, 2, 3, 4, 5] dX4_layOut_59 (by decide) (by decide) (List.forall_mem_cons.mpr ⟨lv_neT c17 (by decide), (List.forall_mem_cons.mpr ⟨lv_neT c19 (by decide), (List.forall_mem_cons.mpr ⟨lv_neT c21 (by decide), (List.forall_mem_cons.mpr ⟨lv_neT c23 (by decide), (List.forall_mem_cons.mpr ⟨lv_neT c26 (by decide), (List.forall_mem_cons.mpr ⟨lv_neT c29 (by decide), (fun _ q => absurd q List.not_mem_nil)⟩)⟩)⟩)⟩)⟩)⟩) (by decide) ?_
    refine hv_aload_n 2 dX4_layOut_192 rfl rfl ?_
    refine hv_iload 0 dX4_layOut_193 rfl ?_
    refine hv_iload 1 dX4_layOut_195 rfl ?_
    obtain ⟨s30, e_s30, h⟩ := hq_ob h
    refine hv_callV [.int x12, .int x11] [] [] (wk_m_goRight KM e_s30) cs_X4_262 KM.recv rfl ⟨Nat.le_of_ble_eq_true rfl, Nat.le_of_ble_eq_true rfl⟩ rfl (Nat.le_of_ble_eq_true rfl) rfl dX4_layOut_197 ?_
    refine hv_iconst (v := 1) dX4_layOut_200 (by decide) ?_
    obtain ⟨h1, h2⟩ := hq_ret h
    subst h1
    subst h2
    exact hv_zret (ty := .boolean) rfl rfl dX4_layOut_201
  clear e_k26
  refine hv_aload_n 0 dX4_layOut_0 rfl rfl ?_
  refine hv_iload_n 1 dX4_layOut_1 rfl rfl ?_
  obtain ⟨s31, e_s31, h⟩ := hq_nm h
  refine hm_putI (f := 30) KM (fp_X4_217) e_s31 dX4_layOut_2 ?_
  refine hv_aload_n 0 dX4_layOut_5 rfl rfl ?_
  refine hv_iload 4 dX4_layOut_6 rfl ?_
  refine hv_if_le (tgt := 16) dX4_layOut_8 (by decide) (fun c32 => ?_) (fun c32 => ?_)
  · replace h := hq_ip c32 h
    refine hv_aload_n 0 dX4_layOut_16 rfl rfl ?_
    refine hm_getA (j := 0) KM (fl_X4_9) rfl (Nat.le_of_ble_eq_true rfl) dX4_layOut_17 ?_
    refine hv_iconst (v := 5) dX4_layOut_20 (by decide) ?_
    refine hv_iload_n 1 dX4_layOut_21 rfl rfl ?_
    refine hv_imul dX4_layOut_22 ?_
    refine hv_iconst (v := 3) dX4_layOut_23 (by decide) ?_
    refine hv_iadd dX4_layOut_24 ?_
    obtain ⟨x33, e_x33, h⟩ := hq_ob h
    refine hm_iaload KM e_x33 (Nat.le_of_ble_eq_true rfl) rfl dX4_layOut_25 ?_
    refine hv_sub [0, 2, 3] rfl ?_
    exact wk26 _ _ h
  · replace h := hq_in c32 h
    refine hv_iload 4 dX4_layOut_11 rfl ?_
    refine hv_goto (tgt := 26) dX4_layOut_13 (by decide) ?_
    refine hv_sub [0, 2, 3] rfl ?_
    exact wk26 _ _ h
def m_seconds_L4b (s0 : hk_Ms) (e0 : Int32 → Option (Int32)) (rc : Int32 → Int32 → Option (Int32)) (v1 : Int32) (v2 : Int32) : Option (Int32) :=
  if (hm_I s0 21) ≤ v2 then
    e0 v1
  else
  (hm_lI s0 13 200 v2).bind fun x5 =>
  hk_nm (v1 + x5) fun x6 =>
  hk_nm (v2 + (1 : Int32)) fun x7 =>
  rc x6 x7
def m_seconds_L4 (s0 : hk_Ms) (e0 : Int32 → Option (Int32)) : Nat → Int32 → Int32 → Option (Int32)
  | 0 => fun _ _ => none
  | n + 1 => m_seconds_L4b s0 e0 (m_seconds_L4 s0 e0 n)
def m_seconds (s0 : hk_Ms) : Option (Int32) :=
  m_seconds_L4 s0  (fun (v3 : Int32) =>
    some v3) hk_F (0 : Int32) (0 : Int32) 
abbrev N_m_seconds (l : Launch) : hk_N := (l, cX4_seconds, "HeadReckonsModel", 3, (some .int), 0, 0, false)
set_option maxHeartbeats 4000000 in
theorem wk_m_seconds_L4b {l : Launch} {Gd : hk_G} {m0 : Nat} {st : hk_St} (KM : hk_KM m0 st) {s0 : hk_Ms} {r : Int32} {e0 : Int32 → Option (Int32)} {rc : Int32 → Int32 → Option (Int32)} (hrc : ∀ (v1 : Int32) (v2 : Int32), rc v1 v2 = some r → hk_V Gd (N_m_seconds l) (hk_end Gd (hk_mU m0 st s0) (some (.int r)) (hk_mU m0 st s0)) 4 [(0, .ref m0), (1, .int v1), (2, .int v2)] [] (hk_mU m0 st s0)) (he0 : ∀ (v3 : Int32), e0 v3 = some r → hk_V Gd (N_m_seconds l) (hk_end Gd (hk_mU m0 st s0) (some (.int r)) (hk_mU m0 st s0)) 27 [(1, .int v3)] [] (hk_mU m0 st s0)) {v1 : Int32} {v2 : Int32} (h : m_seconds_L4b s0 e0 rc v1 v2 = some r) : hk_V Gd (N_m_seconds l) (hk_end Gd (hk_mU m0 st s0) (some (.int r)) (hk_mU m0 st s0)) 4 [(0, .ref m0), (1, .int v1), (2, .int v2)] [] (hk_mU m0 st s0) := by
  unfold m_seconds_L4b at h
  refine hv_iload_n 2 dX4_seconds_4 rfl rfl ?_
  refine hv_aload_n 0 dX4_seconds_5 rfl rfl ?_
  refine hm_getI (f := 21) KM (fl_X4_214) dX4_seconds_6 ?_
  refine hv_icmp_ge (tgt := 27) dX4_seconds_9 (by decide) (fun c4 => ?_) (fun c4 => ?_)
  · replace h := hq_ip c4 h
    refine hv_sub [1] rfl ?_
    exact he0 _ h
  · replace h := hq_in c4 h
    refine hv_iload_n 1 dX4_seconds_12 rfl rfl ?_
    refine hv_aload_n 0 dX4_seconds_13 rfl rfl ?_
    refine hm_getA (j := 13) KM (fl_X4_49) rfl (Nat.le_of_ble_eq_true rfl) dX4_seconds_14 ?_
    refine hv_iload_n 2 dX4_seconds_17 rfl rfl ?_
    obtain ⟨x5, e_x5, h⟩ := hq_ob h
    refine hm_iaload KM e_x5 (Nat.le_of_ble_eq_true rfl) rfl dX4_seconds_18 ?_
    refine hv_iadd dX4_seconds_19 ?_
    obtain ⟨x6, e_x6, h⟩ := hq_nm h
    rw [← e_x6]
    refine hv_istore_n (L' := [(1, .int x6), (0, .ref m0), (2, .int v2)]) dX4_seconds_20 rfl (Nat.le_of_ble_eq_true rfl) rfl ?_
    obtain ⟨x7, e_x7, h⟩ := hq_nm h
    refine hv_iinc (v := x7) (L' := [(2, .int x7), (1, .int x6), (0, .ref m0)]) 2 dX4_seconds_21 rfl (by rw [e_x7]; rfl) (Nat.le_of_ble_eq_true rfl) rfl ?_
    refine hv_goto (tgt := 4) dX4_seconds_24 (by decide) ?_
    refine hv_sub [2, 1, 0] rfl ?_
    exact hrc _ _ h
theorem wk_m_seconds_L4 {l : Launch} {Gd : hk_G} {m0 : Nat} {st : hk_St} (KM : hk_KM m0 st) {s0 : hk_Ms} {r : Int32} {e0 : Int32 → Option (Int32)} (he0 : ∀ (v3 : Int32), e0 v3 = some r → hk_V Gd (N_m_seconds l) (hk_end Gd (hk_mU m0 st s0) (some (.int r)) (hk_mU m0 st s0)) 27 [(1, .int v3)] [] (hk_mU m0 st s0)) : ∀ (n : Nat) (v1 : Int32) (v2 : Int32), m_seconds_L4 s0 e0 n v1 v2 = some r → hk_V Gd (N_m_seconds l) (hk_end Gd (hk_mU m0 st s0) (some (.int r)) (hk_mU m0 st s0)) 4 [(0, .ref m0), (1, .int v1), (2, .int v2)] [] (hk_mU m0 st s0) := by
  intro n
  induction n with
  | zero => intro v1 v2 h; cases h
  | succ n ih => intro v1 v2 h; exact wk_m_seconds_L4b KM ih he0 h
set_option maxHeartbeats 4000000 in
theorem wk_m_seconds {l : Launch} {Gd : hk_G} {m0 : Nat} {st : hk_St} (KM : hk_KM m0 st) {s0 : hk_Ms} {r : Int32} (h : m_seconds s0 = some r) : hk_Met Gd l yX4_seconds cX4_seconds 3 (some .int) 0 0 [.ref m0] (hk_mU m0 st s0) (some (.int r)) (hk_mU m0 st s0) := by
  refine hk_start "HeadReckonsModel" false (by decide +kernel) rfl (by decide) (Nat.le_of_ble_eq_true rfl) ?_
  show hk_V Gd (N_m_seconds l) (hk_end Gd (hk_mU m0 st s0) (some (.int r)) (hk_mU m0 st s0)) 0 [(0, .ref m0)] [] (hk_mU m0 st s0)
  unfold m_seconds at h
  refine hv_iconst (v := 0) dX4_seconds_0 (by decide) ?_
  refine hv_istore_n (L' := [(1, .int (0 : Int32)), (0, .ref m0)]) dX4_seconds_1 rfl (Nat.le_of_ble_eq_true rfl) rfl ?_
  refine hv_iconst (v := 0) dX4_seconds_2 (by decide) ?_
  refine hv_istore_n (L' := [(2, .int (0 : Int32)), (1, .int (0 : Int32)), (0, .ref m0)]) dX4_seconds_3 rfl (Nat.le_of_ble_eq_true rfl) rfl ?_
  refine hv_sub [2, 1, 0] rfl ?_
  refine wk_m_seconds_L4 KM ?_ hk_F _ _ h
  · intro v3 h
    refine hv_iload_n 0 dX4_seconds_27 rfl rfl ?_
    have h := Option.some.inj h
    subst h
    exact hv_iret rfl dX4_seconds_28
def m_mostHeld_L4b (s0 : hk_Ms) (e0 : Int32 → Option (Int32)) (rc : Int32 → Int32 → Option (Int32)) (v1 : Int32) (v2 : Int32) : Option (Int32) :=
  if (hm_I s0 21) ≤ v2 then
    e0 v1
  else
  (hm_lI s0 14 200 v2).bind fun x5 =>
  if x5 ≤ v1 then
    hk_nm (v2 + (1 : Int32)) fun x7 =>
    rc v1 x7
  else
  (hm_lI s0 14 200 v2).bind fun x8 =>
  hk_nm (v2 + (1 : Int32)) fun x9 =>
  rc x8 x9
def m_mostHeld_L4 (s0 : hk_Ms) (e0 : Int32 → Option (Int32)) : Nat → Int32 → Int32 → Option (Int32)
  | 0 => fun _ _ => none
  | n + 1 => m_mostHeld_L4b s0 e0 (m_mostHeld_L4 s0 e0 n)
def m_mostHeld (s0 : hk_Ms) : Option (Int32) :=
  m_mostHeld_L4 s0  (fun (v3 : Int32) =>
    some v3) hk_F (0 : Int32) (0 : Int32) 
abbrev N_m_mostHeld (l : Launch) : hk_N := (l, cX4_mostHeld, "HeadReckonsModel", 3, (some .int), 0, 0, false)
set_option maxHeartbeats 4000000 in
theorem wk_m_mostHeld_L4b {l : Launch} {Gd : hk_G} {m0 : Nat} {st : hk_St} (KM : hk_KM m0 st) {s0 : hk_Ms} {r : Int32} {e0 : Int32 → Option (Int32)} {rc : Int32 → Int32 → Option (Int32)} (hrc : ∀ (v1 : Int32) (v2 : Int32), rc v1 v2 = some r → hk_V Gd (N_m_mostHeld l) (hk_end Gd (hk_mU m0 st s0) (some (.int r)) (hk_mU m0 st s0)) 4 [(0, .ref m0), (1, .int v1), (2, .int v2)] [] (hk_mU m0 st s0)) (he0 : ∀ (v3 : Int32), e0 v3 = some r → hk_V Gd (N_m_mostHeld l) (hk_end Gd (hk_mU m0 st s0) (some (.int r)) (hk_mU m0 st s0)) 39 [(1, .int v3)] [] (hk_mU m0 st s0)) {v1 : Int32} {v2 : Int32} (h : m_mostHeld_L4b s0 e0 rc v1 v2 = some r) : hk_V Gd (N_m_mostHeld l) (hk_end Gd (hk_mU m0 st s0) (some (.int r)) (hk_mU m0 st s0)) 4 [(0, .ref m0), (1, .int v1), (2, .int v2)] [] (hk_mU m0 st s0) := by
  unfold m_mostHeld_L4b at h
  refine hv_iload_n 2 dX4_mostHeld_4 rfl rfl ?_
  refine hv_aload_n 0 dX4_mostHeld_5 rfl rfl ?_
  refine hm_getI (f := 21) KM (fl_X4_214) dX4_mostHeld_6 ?_
  refine hv_icmp_ge (tgt := 39) dX4_mostHeld_9 (by decide) (fun c4 => ?_) (fun c4 => ?_)
  · replace h := hq_ip c4 h
    refine hv_sub [1] rfl ?_
    exact he0 _ h
  · replace h := hq_in c4 h
    refine hv_aload_n 0 dX4_mostHeld_12 rfl rfl ?_
    refine hm_getA (j := 14) KM (fl_X4_52) rfl (Nat.le_of_ble_eq_true rfl) dX4_mostHeld_13 ?_
    refine hv_iload_n 2 dX4_mostHeld_16 rfl rfl ?_
    obtain ⟨x5, e_x5, h⟩ := hq_ob h
    refine hm_iaload KM e_x5 (Nat.le_of_ble_eq_true rfl) rfl dX4_mostHeld_17 ?_
    refine hv_iload_n 1 dX4_mostHeld_18 rfl rfl ?_
    refine hv_icmp_le (tgt := 31) dX4_mostHeld_19 (by decide) (fun c6 => ?_) (fun c6 => ?_)
    · replace h := hq_ip c6 h
      refine hv_iload_n 1 dX4_mostHeld_31 rfl rfl ?_
      refine hv_istore_n (L' := [(1, .int v1), (0, .ref m0), (2, .int v2)]) dX4_mostHeld_32 rfl (Nat.le_of_ble_eq_true rfl) rfl ?_
      obtain ⟨x7, e_x7, h⟩ := hq_nm h
      refine hv_iinc (v := x7) (L' := [(2, .int x7), (1, .int v1), (0, .ref m0)]) 2 dX4_mostHeld_33 rfl (by rw [e_x7]; rfl) (Nat.le_of_ble_eq_true rfl) rfl ?_
      refine hv_goto (tgt := 4) dX4_mostHeld_36 (by decide) ?_
      refine hv_sub [2, 1, 0] rfl ?_
      exact hrc _ _ h
    · replace h := hq_in c6 h
      refine hv_aload_n 0 dX4_mostHeld_22 rfl rfl ?_
      refine hm_getA (j := 14) KM (fl_X4_52) rfl (Nat.le_of_ble_eq_true rfl) dX4_mostHeld_23 ?_
      refine hv_iload_n 2 dX4_mostHeld_26 rfl rfl ?_
      obtain ⟨x8, e_x8, h⟩ := hq_ob h
      refine hm_iaload KM e_x8 (Nat.le_of_ble_eq_true rfl) rfl dX4_mostHeld_27 ?_
      refine hv_goto (tgt := 32) dX4_mostHeld_28 (by decide) ?_
      refine hv_istore_n (L' := [(1, .int x8), (0, .ref m0), (2, .int v2)]) dX4_mostHeld_32 rfl (Nat.le_of_ble_eq_true rfl) rfl ?_
      obtain ⟨x9, e_x9, h⟩ := hq_nm h
      refine hv_iinc (v := x9) (L' := [(2, .int x9), (1, .int x8), (0, .ref m0)]) 2 dX4_mostHeld_33 rfl (by rw [e_x9]; rfl) (Nat.le_of_ble_eq_true rfl) rfl ?_
      refine hv_goto (tgt := 4) dX4_mostHeld_36 (by decide) ?_
      refine hv_sub [2, 1, 0] rfl ?_
      exact hrc _ _ h
theorem wk_m_mostHeld_L4 {l : Launch} {Gd : hk_G} {m0 : Nat} {st : hk_St} (KM : hk_KM m0 st) {s0 : hk_Ms} {r : Int32} {e0 : Int32 → Option (Int32)} (he0 : ∀ (v3 : Int32), e0 v3 = some r → hk_V Gd (N_m_mostHeld l) (hk_end Gd (hk_mU m0 st s0) (some (.int r)) (hk_mU m0 st s0)) 39 [(1, .int v3)] [] (hk_mU m0 st s0)) : ∀ (n : Nat) (v1 : Int32) (v2 : Int32), m_mostHeld_L4 s0 e0 n v1 v2 = some r → hk_V Gd (N_m_mostHeld l) (hk_end Gd (hk_mU m0 st s0) (some (.int r)) (hk_mU m0 st s0)) 4 [(0, .ref m0), (1, .int v1), (2, .int v2)] [] (hk_mU m0 st s0) := by
  intro n
  induction n with
  | zero => intro v1 v2 h; cases h
  | succ n ih => intro v1 v2 h; exact wk_m_mostHeld_L4b KM ih he0 h
set_option maxHeartbeats 4000000 in
theorem wk_m_mostHeld {l : Launch} {Gd : hk_G} {m0 : Nat} {st : hk_St} (KM : hk_KM m0 st) {s0 : hk_Ms} {r : Int32} (h : m_mostHeld s0 = some r) : hk_Met Gd l yX4_mostHeld cX4_mostHeld 3 (some .int) 0 0 [.ref m0] (hk_mU m0 st s0) (some (.int r)) (hk_mU m0 st s0) := by
  refine hk_start "HeadReckonsModel" false (by decide +kernel) rfl (by decide) (Nat.le_of_ble_eq_true rfl) ?_
  show hk_V Gd (N_m_mostHeld l) (hk_end Gd (hk_mU m0 st s0) (some (.int r)) (hk_mU m0 st s0)) 0 [(0, .ref m0)] [] (hk_mU m0 st s0)
  unfold m_mostHeld at h
  refine hv_iconst (v := 0) dX4_mostHeld_0 (by decide) ?_
  refine hv_istore_n (L' := [(1, .int (0 : Int32)), (0, .ref m0)]) dX4_mostHeld_1 rfl (Nat.le_of_ble_eq_true rfl) rfl ?_
  refine hv_iconst (v := 0) dX4_mostHeld_2 (by decide) ?_
  refine hv_istore_n (L' := [(2, .int (0 : Int32)), (1, .int (0 : Int32)), (0, .ref m0)]) dX4_mostHeld_3 rfl (Nat.le_of_ble_eq_true rfl) rfl ?_
  refine hv_sub [2, 1, 0] rfl ?_
  refine wk_m_mostHeld_L4 KM ?_ hk_F _ _ h
  · intro v3 h
    refine hv_iload_n 0 dX4_mostHeld_39 rfl rfl ?_
    have h := Option.some.inj h
    subst h
    exact hv_iret rfl dX4_mostHeld_40
def m_way (p1 : Int32) (p2 : Int32) (p3 : Int32) (s0 : hk_Ms) : Option (Int32 × hk_Ms) :=
  (m_isHw p1 s0).bind fun x1 =>
  if x1 = 0 then
    some ((-1 : Int32), s0)
  else
  if (m_isAsk p2) = 0 then
    some ((-1 : Int32), s0)
  else
  if (m_within p3.toInt64 (0 : Int64) (2 : Int64)) = 0 then
    some ((-1 : Int32), s0)
  else
  (m_layOut (p1 / (10 : Int32)) (p1 - p1 / (10 : Int32) * (10 : Int32)) p2 (0 : Int32) s0).bind fun q5 =>
    if q5.1 = 0 then
      some ((-2 : Int32), q5.2)
    else
    if p3 = 0 then
        (m_seconds  q5.2).bind fun x10 =>
      some (x10, q5.2)
      else
      if p3 = (1 : Int32) then
          (m_mostHeld  q5.2).bind fun x9 =>
        some (x9, q5.2)
        else
        some ((hm_I q5.2 21), q5.2)
abbrev N_m_way (l : Launch) : hk_N := (l, cX4_way, "HeadReckonsModel", 4, (some .int), 6, 149, false)
set_option maxHeartbeats 4000000 in
theorem wk_m_way {l : Launch} {Gd : hk_G} {m0 : Nat} {st : hk_St} (KM : hk_KM m0 st) {p1 : Int32} {p2 : Int32} {p3 : Int32} {s0 : hk_Ms} {r : Int32} {fin : hk_Ms} (h : m_way p1 p2 p3 s0 = some (r, fin)) : hk_Met Gd l yX4_way cX4_way 4 (some .int) 6 149 [.ref m0, .int p1, .int p2, .int p3] (hk_mU m0 st s0) (some (.int r)) (hk_mU m0 st fin) := by
  refine hk_start "HeadReckonsModel" false (by decide +kernel) rfl (by decide) (Nat.le_of_ble_eq_true rfl) ?_
  show hk_V Gd (N_m_way l) (hk_end Gd (hk_mU m0 st s0) (some (.int r)) (hk_mU m0 st fin)) 0 [(0, .ref m0), (1, .int p1), (2, .int p2), (3, .int p3)] [] (hk_mU m0 st s0)
  unfold m_way at h
  refine hv_aload_n 0 dX4_way_0 rfl rfl ?_
  refine hv_iload_n 1 dX4_way_1 rfl rfl ?_
  obtain ⟨x1, e_x1, h⟩ := hq_ob h
  refine hv_callV [.int p1] [] [.int x1] (wk_m_isHw KM e_x1) cs_X4_274 KM.recv rfl ⟨Nat.le_of_ble_eq_true rfl, Nat.le_of_ble_eq_true rfl⟩ rfl (Nat.le_of_ble_eq_true rfl) rfl dX4_way_2 ?_
  refine hv_if_eq (tgt := 27) dX4_way_5 (by decide) (fun c2 => ?_) (fun c2 => ?_)
  · replace h := hq_ip c2 h
    refine hv_iconst (v := -1) dX4_way_27 (by decide) ?_
    obtain ⟨h1, h2⟩ := hq_ret h
    subst h1
    subst h2
    exact hv_iret rfl dX4_way_28
  · replace h := hq_in c2 h
    refine hv_iload_n 2 dX4_way_8 rfl rfl ?_
    refine hv_callS [.int p2] [] [.int (m_isAsk p2)] (wk_m_isAsk rfl) cs_X4_208 rfl ⟨Nat.le_of_ble_eq_true rfl, Nat.le_of_ble_eq_true rfl⟩ rfl (Nat.le_of_ble_eq_true rfl) rfl dX4_way_9 ?_
    refine hv_if_eq (tgt := 27) dX4_way_12 (by decide) (fun c3 => ?_) (fun c3 => ?_)
    · replace h := hq_ip c3 h
      refine hv_iconst (v := -1) dX4_way_27 (by decide) ?_
      obtain ⟨h1, h2⟩ := hq_ret h
      subst h1
      subst h2
      exact hv_iret rfl dX4_way_28
    · replace h := hq_in c3 h
      refine hv_iload_n 3 dX4_way_15 rfl rfl ?_
      refine hv_i2l dX4_way_16 ?_
      refine hv_lconst (v := 0) dX4_way_17 (by decide) ?_
      refine hv_ldc2 q1896 dX4_way_18 ?_
      refine hv_callS [.long p3.toInt64, .long (0 : Int64), .long (2 : Int64)] [] [.int (m_within p3.toInt64 (0 : Int64) (2 : Int64))] (wk_m_within rfl) cs_X4_113 rfl ⟨Nat.le_of_ble_eq_true rfl, Nat.le_of_ble_eq_true rfl⟩ rfl (Nat.le_of_ble_eq_true rfl) rfl dX4_way_21 ?_
      refine hv_if_ne (tgt := 29) dX4_way_24 (by decide) (fun c4 => ?_) (fun c4 => ?_)
      · replace h := hq_in c4 h
        refine hv_aload_n 0 dX4_way_29 rfl rfl ?_
        refine hv_iload_n 1 dX4_way_30 rfl rfl ?_
        refine hv_bipush (v := 10) dX4_way_31 (by decide) ?_
        refine hv_idiv (by decide) dX4_way_33 ?_
        refine hv_iload_n 1 dX4_way_34 rfl rfl ?_
        refine hv_bipush (v := 10) dX4_way_35 (by decide) ?_
        refine hv_irem (by decide) dX4_way_37 ?_
        refine hv_iload_n 2 dX4_way_38 rfl rfl ?_
        refine hv_iconst (v := 0) dX4_way_39 (by decide) ?_
        obtain ⟨q5, e_q5, h⟩ := hq_ob h
        refine hv_callV [.int (p1 / (10 : Int32)), .int (p1 - p1 / (10 : Int32) * (10 : Int32)), .int p2, .int (0 : Int32)] [] [.int q5.1] (wk_m_layOut KM e_q5) cs_X4_279 KM.recv rfl ⟨Nat.le_of_ble_eq_true rfl, Nat.le_of_ble_eq_true rfl⟩ rfl (Nat.le_of_ble_eq_true rfl) rfl dX4_way_40 ?_
        refine hv_if_ne (tgt := 49) dX4_way_43 (by decide) (fun c6 => ?_) (fun c6 => ?_)
        · replace h := hq_in c6 h
          refine hv_iload_n 3 dX4_way_49 rfl rfl ?_
          refine hv_if_ne (tgt := 60) dX4_way_50 (by decide) (fun c7 => ?_) (fun c7 => ?_)
          · replace h := hq_in c7 h
            refine hv_iload_n 3 dX4_way_60 rfl rfl ?_
            refine hv_iconst (v := 1) dX4_way_61 (by decide) ?_
            refine hv_icmp_ne (tgt := 72) dX4_way_62 (by decide) (fun c8 => ?_) (fun c8 => ?_)
            · replace h := hq_in c8 h
              refine hv_aload_n 0 dX4_way_72 rfl rfl ?_
              refine hm_getI (f := 21) KM (fl_X4_214) dX4_way_73 ?_
              obtain ⟨h1, h2⟩ := hq_ret h
              subst h1
              subst h2
              exact hv_iret rfl dX4_way_76
            · replace h := hq_ip c8 h
              refine hv_aload_n 0 dX4_way_65 rfl rfl ?_
              obtain ⟨x9, e_x9, h⟩ := hq_ob h
              refine hv_callV [] [] [.int x9] (wk_m_mostHeld KM e_x9) cs_X4_286 KM.recv rfl ⟨Nat.le_of_ble_eq_true rfl, Nat.le_of_ble_eq_true rfl⟩ rfl (Nat.le_of_ble_eq_true rfl) rfl dX4_way_66 ?_
              refine hv_goto (tgt := 76) dX4_way_69 (by decide) ?_
              obtain ⟨h1, h2⟩ := hq_ret h
              subst h1
              subst h2
              exact hv_iret rfl dX4_way_76
          · replace h := hq_ip c7 h
            refine hv_aload_n 0 dX4_way_53 rfl rfl ?_
            obtain ⟨x10, e_x10, h⟩ := hq_ob h
            refine hv_callV [] [] [.int x10] (wk_m_seconds KM e_x10) cs_X4_283 KM.recv rfl ⟨Nat.le_of_ble_eq_true rfl, Nat.le_of_ble_eq_true rfl⟩ rfl (Nat.le_of_ble_eq_true rfl) rfl dX4_way_54 ?_
            refine hv_goto (tgt := 76) dX4_way_57 (by decide) ?_
            obtain ⟨h1, h2⟩ := hq_ret h
            subst h1
            subst h2
            exact hv_iret rfl dX4_way_76
        · replace h := hq_ip c6 h
          refine hv_bipush (v := -2) dX4_way_46 (by decide) ?_
          obtain ⟨h1, h2⟩ := hq_ret h
          subst h1
          subst h2
          exact hv_iret rfl dX4_way_48
      · replace h := hq_ip c4 h
        refine hv_iconst (v := -1) dX4_way_27 (by decide) ?_
        obtain ⟨h1, h2⟩ := hq_ret h
        subst h1
        subst h2
        exact hv_iret rfl dX4_way_28
def m_step (p1 : Int32) (p2 : Int32) (p3 : Int32) (p4 : Int32) (s0 : hk_Ms) : Option (Int32 × hk_Ms) :=
  (m_isHw p1 s0).bind fun x1 =>
  if x1 = 0 then
    some ((-2000000000 : Int32), s0)
  else
  if (m_isAsk p2) = 0 then
    some ((-2000000000 : Int32), s0)
  else
  if (m_within p4.toInt64 (0 : Int64) (3 : Int64)) = 0 then
    some ((-2000000000 : Int32), s0)
  else
  (m_layOut (p1 / (10 : Int32)) (p1 - p1 / (10 : Int32) * (10 : Int32)) p2 (0 : Int32) s0).bind fun q5 =>
  if q5.1 = 0 then
    some ((-2000000000 : Int32), q5.2)
  else
  if (m_within p3.toInt64 (0 : Int64) (((hm_I q5.2 21) - (1 : Int32)).toInt64)) = 0 then
    some ((-2000000000 : Int32), q5.2)
  else
  if p4 = 0 then
      (hm_lI q5.2 11 200 p3).bind fun x14 =>
    some (x14, q5.2)
    else
    if p4 = (1 : Int32) then
        (hm_lI q5.2 12 200 p3).bind fun x13 =>
      some (x13, q5.2)
      else
      if p4 = (2 : Int32) then
          (hm_lI q5.2 13 200 p3).bind fun x12 =>
        some (x12, q5.2)
        else
        (hm_lI q5.2 14 200 p3).bind fun x11 =>
          some (x11, q5.2)
abbrev N_m_step (l : Launch) : hk_N := (l, cX4_step, "HeadReckonsModel", 5, (some .int), 6, 149, false)
set_option maxHeartbeats 4000000 in
theorem wk_m_step {l : Launch} {Gd : hk_G} {m0 : Nat} {st : hk_St} (KM : hk_KM m0 st) {p1 : Int32} {p2 : Int32} {p3 : Int32} {p4 : Int32} {s0 : hk_Ms} {r : Int32} {fin : hk_Ms} (h : m_step p1 p2 p3 p4 s0 = some (r, fin)) : hk_Met Gd l yX4_step cX4_step 5 (some .int) 6 149 [.ref m0, .int p1, .int p2, .int p3, .int p4] (hk_mU m0 st s0) (some (.int r)) (hk_mU m0 st fin) := by
  refine hk_start "HeadReckonsModel" false (by decide +kernel) rfl (by decide) (Nat.le_of_ble_eq_true rfl) ?_
  show hk_V Gd (N_m_step l) (hk_end Gd (hk_mU m0 st s0) (some (.int r)) (hk_mU m0 st fin)) 0 [(0, .ref m0), (1, .int p1), (2, .int p2), (3, .int p3), (4, .int p4)] [] (hk_mU m0 st s0)
  unfold m_step at h
  refine hv_aload_n 0 dX4_step_0 rfl rfl ?_
  refine hv_iload_n 1 dX4_step_1 rfl rfl ?_
  obtain ⟨x1, e_x1, h⟩ := hq_ob h
  refine hv_callV [.int p1] [] [.int x1] (wk_m_isHw KM e_x1) cs_X4_274 KM.recv rfl ⟨Nat.le_of_ble_eq_true rfl, Nat.le_of_ble_eq_true rfl⟩ rfl (Nat.le_of_ble_eq_true rfl) rfl dX4_step_2 ?_
  refine hv_if_eq (tgt := 61) dX4_step_5 (by decide) (fun c2 => ?_) (fun c2 => ?_)
  · replace h := hq_ip c2 h
    refine hv_ldcw q1966 dX4_step_61 ?_
    obtain ⟨h1, h2⟩ := hq_ret h
    subst h1
    subst h2
    exact hv_iret rfl dX4_step_64
  · replace h := hq_in c2 h
    refine hv_iload_n 2 dX4_step_8 rfl rfl ?_
    refine hv_callS [.int p2] [] [.int (m_isAsk p2)] (wk_m_isAsk rfl) cs_X4_208 rfl ⟨Nat.le_of_ble_eq_true rfl, Nat.le_of_ble_eq_true rfl⟩ rfl (Nat.le_of_ble_eq_true rfl) rfl dX4_step_9 ?_
    refine hv_if_eq (tgt := 61) dX4_step_12 (by decide) (fun c3 => ?_) (fun c3 => ?_)
    · replace h := hq_ip c3 h
      refine hv_ldcw q1966 dX4_step_61 ?_
      obtain ⟨h1, h2⟩ := hq_ret h
      subst h1
      subst h2
      exact hv_iret rfl dX4_step_64
    · replace h := hq_in c3 h
      refine hv_iload 4 dX4_step_15 rfl ?_
      refine hv_i2l dX4_step_17 ?_
      refine hv_lconst (v := 0) dX4_step_18 (by decide) ?_
      refine hv_ldc2 q1965 dX4_step_19 ?_
      refine hv_callS [.long p4.toInt64, .long (0 : Int64), .long (3 : Int64)] [] [.int (m_within p4.toInt64 (0 : Int64) (3 : Int64))] (wk_m_within rfl) cs_X4_113 rfl ⟨Nat.le_of_ble_eq_true rfl, Nat.le_of_ble_eq_true rfl⟩ rfl (Nat.le_of_ble_eq_true rfl) rfl dX4_step_22 ?_
      refine hv_if_eq (tgt := 61) dX4_step_25 (by decide) (fun c4 => ?_) (fun c4 => ?_)
      · replace h := hq_ip c4 h
        refine hv_ldcw q1966 dX4_step_61 ?_
        obtain ⟨h1, h2⟩ := hq_ret h
        subst h1
        subst h2
        exact hv_iret rfl dX4_step_64
      · replace h := hq_in c4 h
        refine hv_aload_n 0 dX4_step_28 rfl rfl ?_
        refine hv_iload_n 1 dX4_step_29 rfl rfl ?_
        refine hv_bipush (v := 10) dX4_step_30 (by decide) ?_
        refine hv_idiv (by decide) dX4_step_32 ?_
        refine hv_iload_n 1 dX4_step_33 rfl rfl ?_
        refine hv_bipush (v := 10) dX4_step_34 (by decide) ?_
        refine hv_irem (by decide) dX4_step_36 ?_
        refine hv_iload_n 2 dX4_step_37 rfl rfl ?_
        refine hv_iconst (v := 0) dX4_step_38 (by decide) ?_
        obtain ⟨q5, e_q5, h⟩ := hq_ob h
        refine hv_callV [.int (p1 / (10 : Int32)), .int (p1 - p1 / (10 : Int32) * (10 : Int32)), .int p2, .int (0 : Int32)] [] [.int q5.1] (wk_m_layOut KM e_q5) cs_X4_279 KM.recv rfl ⟨Nat.le_of_ble_eq_true rfl, Nat.le_of_ble_eq_true rfl⟩ rfl (Nat.le_of_ble_eq_true rfl) rfl dX4_step_39 ?_
        refine hv_if_eq (tgt := 61) dX4_step_42 (by decide) (fun c6 => ?_) (fun c6 => ?_)
        · replace h := hq_ip c6 h
          refine hv_ldcw q1966 dX4_step_61 ?_
          obtain ⟨h1, h2⟩ := hq_ret h
          subst h1
          subst h2
          exact hv_iret rfl dX4_step_64
        · replace h := hq_in c6 h
          refine hv_iload_n 3 dX4_step_45 rfl rfl ?_
          refine hv_i2l dX4_step_46 ?_
          refine hv_lconst (v := 0) dX4_step_47 (by decide) ?_
          refine hv_aload_n 0 dX4_step_48 rfl rfl ?_
          refine hm_getI (f := 21) KM (fl_X4_214) dX4_step_49 ?_
          refine hv_iconst (v := 1) dX4_step_52 (by decide) ?_
          refine hv_isub dX4_step_53 ?_
          refine hv_i2l dX4_step_54 ?_
          refine hv_callS [.long p3.toInt64, .long (0 : Int64), .long (((hm_I q5.2 21) - (1 : Int32)).toInt64)] [] [.int (m_within p3.toInt64 (0 : Int64) (((hm_I q5.2 21) - (1 : Int32)).toInt64))] (wk_m_within rfl) cs_X4_113 rfl ⟨Nat.le_of_ble_eq_true rfl, Nat.le_of_ble_eq_true rfl⟩ rfl (Nat.le_of_ble_eq_true rfl) rfl dX4_step_55 ?_
          refine hv_if_ne (tgt := 65) dX4_step_58 (by decide) (fun c7 => ?_) (fun c7 => ?_)
          · replace h := hq_in c7 h
            refine hv_iload 4 dX4_step_65 rfl ?_
            refine hv_if_ne (tgt := 79) dX4_step_67 (by decide) (fun c8 => ?_) (fun c8 => ?_)
            · replace h := hq_in c8 h
              refine hv_iload 4 dX4_step_79 rfl ?_
              refine hv_iconst (v := 1) dX4_step_81 (by decide) ?_
              refine hv_icmp_ne (tgt := 94) dX4_step_82 (by decide) (fun c9 => ?_) (fun c9 => ?_)
              · replace h := hq_in c9 h
                refine hv_iload 4 dX4_step_94 rfl ?_
                refine hv_iconst (v := 2) dX4_step_96 (by decide) ?_
                refine hv_icmp_ne (tgt := 109) dX4_step_97 (by decide) (fun c10 => ?_) (fun c10 => ?_)
                · replace h := hq_in c10 h
                  refine hv_aload_n 0 dX4_step_109 rfl rfl ?_
                  refine hm_getA (j := 14) KM (fl_X4_52) rfl (Nat.le_of_ble_eq_true rfl) dX4_step_110 ?_
                  refine hv_iload_n 3 dX4_step_113 rfl rfl ?_
                  obtain ⟨x11, e_x11, h⟩ := hq_ob h
                  refine hm_iaload KM e_x11 (Nat.le_of_ble_eq_true rfl) rfl dX4_step_114 ?_
                  obtain ⟨h1, h2⟩ := hq_ret h
                  subst h1
                  subst h2
                  exact hv_iret rfl dX4_step_115
                · replace h := hq_ip c10 h
                  refine hv_aload_n 0 dX4_step_100 rfl rfl ?_
                  refine hm_getA (j := 13) KM (fl_X4_49) rfl (Nat.le_of_ble_eq_true rfl) dX4_step_101 ?_
                  refine hv_iload_n 3 dX4_step_104 rfl rfl ?_
                  obtain ⟨x12, e_x12, h⟩ := hq_ob h
                  refine hm_iaload KM e_x12 (Nat.le_of_ble_eq_true rfl) rfl dX4_step_105 ?_
                  refine hv_goto (tgt := 115) dX4_step_106 (by decide) ?_
                  obtain ⟨h1, h2⟩ := hq_ret h
                  subst h1
                  subst h2
                  exact hv_iret rfl dX4_step_115
              · replace h := hq_ip c9 h
                refine hv_aload_n 0 dX4_step_85 rfl rfl ?_
                refine hm_getA (j := 12) KM (fl_X4_46) rfl (Nat.le_of_ble_eq_true rfl) dX4_step_86 ?_
                refine hv_iload_n 3 dX4_step_89 rfl rfl ?_
                obtain ⟨x13, e_x13, h⟩ := hq_ob h
                refine hm_iaload KM e_x13 (Nat.le_of_ble_eq_true rfl) rfl dX4_step_90 ?_
                refine hv_goto (tgt := 115) dX4_step_91 (by decide) ?_
                obtain ⟨h1, h2⟩ := hq_ret h
                subst h1
                subst h2
                exact hv_iret rfl dX4_step_115
            · replace h := hq_ip c8 h
              refine hv_aload_n 0 dX4_step_70 rfl rfl ?_
              refine hm_getA (j := 11) KM (fl_X4_43) rfl (Nat.le_of_ble_eq_true rfl) dX4_step_71 ?_
              refine hv_iload_n 3 dX4_step_74 rfl rfl ?_
              obtain ⟨x14, e_x14, h⟩ := hq_ob h
              refine hm_iaload KM e_x14 (Nat.le_of_ble_eq_true rfl) rfl dX4_step_75 ?_
              refine hv_goto (tgt := 115) dX4_step_76 (by decide) ?_
              obtain ⟨h1, h2⟩ := hq_ret h
              subst h1
              subst h2
              exact hv_iret rfl dX4_step_115
          · replace h := hq_ip c7 h
            refine hv_ldcw q1966 dX4_step_61 ?_
            obtain ⟨h1, h2⟩ := hq_ret h
            subst h1
            subst h2
            exact hv_iret rfl dX4_step_64
def m_noughtsOf_L4b (p1 : Int32) (e0 : Int32 → Option (Int32)) (rc : Int32 → Int32 → Option (Int32)) (v1 : Int32) (v2 : Int32) : Option (Int32) :=
  if v2 ≤ 0 then
    e0 v1
  else
  if (v2 - v2 / (10 : Int32) * (10 : Int32)) = 0 then
    hk_nm (v1 + (1 : Int32)) fun x8 =>
  hk_nm (v2 / (10 : Int32)) fun x9 =>
  rc x8 x9
  else
  hk_nm (v1 + (0 : Int32)) fun x6 =>
    hk_nm (v2 / (10 : Int32)) fun x7 =>
    rc x6 x7
def m_noughtsOf_L4 (p1 : Int32) (e0 : Int32 → Option (Int32)) : Nat → Int32 → Int32 → Option (Int32)
  | 0 => fun _ _ => none
  | n + 1 => m_noughtsOf_L4b p1 e0 (m_noughtsOf_L4 p1 e0 n)
def m_noughtsOf (p1 : Int32) : Option (Int32) :=
  m_noughtsOf_L4 p1  (fun (v3 : Int32) =>
    some v3) hk_F (0 : Int32) p1 
abbrev N_m_noughtsOf (l : Launch) : hk_N := (l, cX4_noughtsOf, "HeadReckonsModel", 3, (some .int), 0, 0, false)
set_option maxHeartbeats 4000000 in
theorem wk_m_noughtsOf_L4b {l : Launch} {Gd : hk_G} {st : hk_St} {p1 : Int32} {r : Int32} {e0 : Int32 → Option (Int32)} {rc : Int32 → Int32 → Option (Int32)} (hrc : ∀ (v1 : Int32) (v2 : Int32), rc v1 v2 = some r → hk_V Gd (N_m_noughtsOf l) (hk_end Gd st (some (.int r)) st) 4 [(1, .int v1), (2, .int v2)] [] st) (he0 : ∀ (v3 : Int32), e0 v3 = some r → hk_V Gd (N_m_noughtsOf l) (hk_end Gd st (some (.int r)) st) 31 [(1, .int v3)] [] st) {v1 : Int32} {v2 : Int32} (h : m_noughtsOf_L4b p1 e0 rc v1 v2 = some r) : hk_V Gd (N_m_noughtsOf l) (hk_end Gd st (some (.int r)) st) 4 [(1, .int v1), (2, .int v2)] [] st := by
  unfold m_noughtsOf_L4b at h
  refine hv_iload_n 1 dX4_noughtsOf_4 rfl rfl ?_
  refine hv_if_le (tgt := 31) dX4_noughtsOf_5 (by decide) (fun c4 => ?_) (fun c4 => ?_)
  · replace h := hq_ip c4 h
    refine hv_sub [0] rfl ?_
    exact he0 _ h
  · replace h := hq_in c4 h
    refine hv_iload_n 0 dX4_noughtsOf_8 rfl rfl ?_
    refine hv_iload_n 1 dX4_noughtsOf_9 rfl rfl ?_
    refine hv_bipush (v := 10) dX4_noughtsOf_10 (by decide) ?_
    refine hv_irem (by decide) dX4_noughtsOf_12 ?_
    refine hv_if_ne (tgt := 20) dX4_noughtsOf_13 (by decide) (fun c5 => ?_) (fun c5 => ?_)
    · replace h := hq_in c5 h
      refine hv_iconst (v := 0) dX4_noughtsOf_20 (by decide) ?_
      refine hv_iadd dX4_noughtsOf_21 ?_
      obtain ⟨x6, e_x6, h⟩ := hq_nm h
      rw [← e_x6]
      refine hv_istore_n (L' := [(1, .int x6), (2, .int v2)]) dX4_noughtsOf_22 rfl (Nat.le_of_ble_eq_true rfl) rfl ?_
      refine hv_iload_n 1 dX4_noughtsOf_23 rfl rfl ?_
      refine hv_bipush (v := 10) dX4_noughtsOf_24 (by decide) ?_
      refine hv_idiv (by decide) dX4_noughtsOf_26 ?_
      obtain ⟨x7, e_x7, h⟩ := hq_nm h
      rw [← e_x7]
      refine hv_istore_n (L' := [(2, .int x7), (1, .int x6)]) dX4_noughtsOf_27 rfl (Nat.le_of_ble_eq_true rfl) rfl ?_
      refine hv_goto (tgt := 4) dX4_noughtsOf_28 (by decide) ?_
      refine hv_sub [1, 0] rfl ?_
      exact hrc _ _ h
    · replace h := hq_ip c5 h
      refine hv_iconst (v := 1) dX4_noughtsOf_16 (by decide) ?_
      refine hv_goto (tgt := 21) dX4_noughtsOf_17 (by decide) ?_
      refine hv_iadd dX4_noughtsOf_21 ?_
      obtain ⟨x8, e_x8, h⟩ := hq_nm h
      rw [← e_x8]
      refine hv_istore_n (L' := [(1, .int x8), (2, .int v2)]) dX4_noughtsOf_22 rfl (Nat.le_of_ble_eq_true rfl) rfl ?_
      refine hv_iload_n 1 dX4_noughtsOf_23 rfl rfl ?_
      refine hv_bipush (v := 10) dX4_noughtsOf_24 (by decide) ?_
      refine hv_idiv (by decide) dX4_noughtsOf_26 ?_
      obtain ⟨x9, e_x9, h⟩ := hq_nm h
      rw [← e_x9]
      refine hv_istore_n (L' := [(2, .int x9), (1, .int x8)]) dX4_noughtsOf_27 rfl (Nat.le_of_ble_eq_true rfl) rfl ?_
      refine hv_goto (tgt := 4) dX4_noughtsOf_28 (by decide) ?_
      refine hv_sub [1, 0] rfl ?_
      exact hrc _ _ h
theorem wk_m_noughtsOf_L4 {l : Launch} {Gd : hk_G} {st : hk_St} {p1 : Int32} {r : Int32} {e0 : Int32 → Option (Int32)} (he0 : ∀ (v3 : Int32), e0 v3 = some r → hk_V Gd (N_m_noughtsOf l) (hk_end Gd st (some (.int r)) st) 31 [(1, .int v3)] [] st) : ∀ (n : Nat) (v1 : Int32) (v2 : Int32), m_noughtsOf_L4 p1 e0 n v1 v2 = some r → hk_V Gd (N_m_noughtsOf l) (hk_end Gd st (some (.int r)) st) 4 [(1, .int v1), (2, .int v2)] [] st := by
  intro n
  induction n with
  | zero => intro v1 v2 h; cases h
  | succ n ih => intro v1 v2 h; exact wk_m_noughtsOf_L4b  ih he0 h
set_option maxHeartbeats 4000000 in
theorem wk_m_noughtsOf {l : Launch} {Gd : hk_G} {st : hk_St} {p1 : Int32} {r : Int32} (h : m_noughtsOf p1 = some r) : hk_Met Gd l yX4_noughtsOf cX4_noughtsOf 3 (some .int) 0 0 [.int p1] st (some (.int r)) st := by
  refine hk_start "HeadReckonsModel" false (by decide +kernel) rfl (by decide) (Nat.le_of_ble_eq_true rfl) ?_
  show hk_V Gd (N_m_noughtsOf l) (hk_end Gd st (some (.int r)) st) 0 [(0, .int p1)] [] st
  unfold m_noughtsOf at h
  refine hv_iconst (v := 0) dX4_noughtsOf_0 (by decide) ?_
  refine hv_istore_n (L' := [(1, .int (0 : Int32)), (0, .int p1)]) dX4_noughtsOf_1 rfl (Nat.le_of_ble_eq_true rfl) rfl ?_
  refine hv_iload_n 1 dX4_noughtsOf_2 rfl rfl ?_
  refine hv_istore_n (L' := [(2, .int p1), (1, .int (0 : Int32)), (0, .int p1)]) dX4_noughtsOf_3 rfl (Nat.le_of_ble_eq_true rfl) rfl ?_
  refine hv_sub [1, 0] rfl ?_
  refine wk_m_noughtsOf_L4  ?_ hk_F _ _ h
  · intro v3 h
    refine hv_iload_n 0 dX4_noughtsOf_31 rfl rfl ?_
    have h := Option.some.inj h
    subst h
    exact hv_iret rfl dX4_noughtsOf_32
def m_chosenBy (p1 : Int32) (p2 : Int32) (p3 : Int32) (s0 : hk_Ms) : Option (Int32 × hk_Ms) :=
  hk_nm (fun (s1 : hk_Ms) =>
    (m_layOut p1 (1 : Int32) p2 p3 s1).bind fun q2 =>
    some ((1 : Int32), q2.2)) fun k177 =>
  hk_nm (fun (v3 : Int32) (s4 : hk_Ms) =>
    if (m_within v3.toInt64 (0 : Int64) (6 : Int64)) = 0 then
      k177 s4
    else
    (m_layOut p1 v3 p2 p3 s4).bind fun q6 =>
    if q6.1 = 0 then
      k177 q6.2
    else
    some (v3, q6.2)) fun k152 =>
  hk_nm (fun (v8 : Int32) (s9 : hk_Ms) =>
    (hm_tI s9 6 8 (6 : Int32) v8).bind fun s10 =>
    (hm_lI s10 0 30 (((5 : Int32) * p1) + (4 : Int32))).bind fun x11 =>
    (hm_tI s10 6 8 (7 : Int32) x11).bind fun s12 =>
    (m_workOut (0 : Int32) (hm_I s12 9) s12).bind fun q13 =>
    k152 q13.1 q13.2) fun k123 =>
  if (hm_I s0 9) < 0 then
    k152 (1 : Int32) s0
  else
  hk_nm (p2 / (10000 : Int32)) fun x15 =>
  hk_nm (p2 - p2 / (10000 : Int32) * (10000 : Int32)) fun x16 =>
  (m_digits x15).bind fun x17 =>
  (hm_tI s0 6 8 (0 : Int32) x17).bind fun s18 =>
  (m_digits x16).bind fun x19 =>
  (hm_tI s18 6 8 (1 : Int32) x19).bind fun s20 =>
  (hm_tI s20 6 8 (2 : Int32) (x15 - x15 / (10 : Int32) * (10 : Int32))).bind fun s21 =>
  (hm_tI s21 6 8 (3 : Int32) (x16 - x16 / (10 : Int32) * (10 : Int32))).bind fun s22 =>
  (hm_tI s22 6 8 (4 : Int32) (m_size (x15 - x16))).bind fun s23 =>
  (m_noughtsOf x15).bind fun x24 =>
  (m_noughtsOf x16).bind fun x25 =>
  (hm_tI s23 6 8 (5 : Int32) (x24 + x25)).bind fun s26 =>
  if p3 ≤ 0 then
    (hm_lI s26 0 30 (((5 : Int32) * p1) + (3 : Int32))).bind fun x28 =>
    k123 x28 s26
  else
  k123 p3 s26
abbrev N_m_chosenBy (l : Launch) : hk_N := (l, cX4_chosenBy, "HeadReckonsModel", 7, (some .int), 82, 4249, false)
set_option maxHeartbeats 4000000 in
theorem wk_m_chosenBy {l : Launch} {Gd : hk_G} {m0 : Nat} {st : hk_St} (KM : hk_KM m0 st) {p1 : Int32} {p2 : Int32} {p3 : Int32} {s0 : hk_Ms} {r : Int32} {fin : hk_Ms} (h : m_chosenBy p1 p2 p3 s0 = some (r, fin)) : hk_Met Gd l yX4_chosenBy cX4_chosenBy 7 (some .int) 82 4249 [.ref m0, .int p1, .int p2, .int p3] (hk_mU m0 st s0) (some (.int r)) (hk_mU m0 st fin) := by
  refine hk_start "HeadReckonsModel" false (by decide +kernel) rfl (by decide) (Nat.le_of_ble_eq_true rfl) ?_
  show hk_V Gd (N_m_chosenBy l) (hk_end Gd (hk_mU m0 st s0) (some (.int r)) (hk_mU m0 st fin)) 0 [(0, .ref m0), (1, .int p1), (2, .int p2), (3, .int p3)] [] (hk_mU m0 st s0)
  unfold m_chosenBy at h
  obtain ⟨k177, e_k177, h⟩ := hq_nm h
  have wk177 : ∀ (s1 : hk_Ms), k177 s1 = some (r, fin) → hk_V Gd (N_m_chosenBy l) (hk_end Gd (hk_mU m0 st s0) (some (.int r)) (hk_mU m0 st fin)) 177 [(0, .ref m0), (1, .int p1), (2, .int p2), (3, .int p3)] [] (hk_mU m0 st s1) := by
    intro s1 h
    rw [e_k177] at h
    refine hv_iconst (v := 1) dX4_chosenBy_177 (by decide) ?_
    refine hv_istore (L' := [(4, .int (1 : Int32)), (0, .ref m0), (1, .int p1), (2, .int p2), (3, .int p3)]) dX4_chosenBy_178 (Nat.le_of_ble_eq_true rfl) rfl ?_
    refine hv_aload_n 1 dX4_chosenBy_180 rfl rfl ?_
    refine hv_iload_n 2 dX4_chosenBy_181 rfl rfl ?_
    refine hv_iload 0 dX4_chosenBy_182 rfl ?_
    refine hv_iload_n 3 dX4_chosenBy_184 rfl rfl ?_
    refine hv_iload_n 4 dX4_chosenBy_185 rfl rfl ?_
    obtain ⟨q2, e_q2, h⟩ := hq_ob h
    refine hv_callV [.int p1, .int (1 : Int32), .int p2, .int p3] [] [.int q2.1] (wk_m_layOut KM e_q2) cs_X4_279 KM.recv rfl ⟨Nat.le_of_ble_eq_true rfl, Nat.le_of_ble_eq_true rfl⟩ rfl (Nat.le_of_ble_eq_true rfl) rfl dX4_chosenBy_186 ?_
    refine hv_istore (L' := [(5, .int q2.1), (4, .int (1 : Int32)), (0, .ref m0), (1, .int p1), (2, .int p2), (3, .int p3)]) dX4_chosenBy_189 (Nat.le_of_ble_eq_true rfl) rfl ?_
    refine hv_iload 1 dX4_chosenBy_191 rfl ?_
    obtain ⟨h1, h2⟩ := hq_ret h
    subst h1
    subst h2
    exact hv_iret rfl dX4_chosenBy_193
  clear e_k177
  obtain ⟨k152, e_k152, h⟩ := hq_nm h
  have wk152 : ∀ (v3 : Int32) (s4 : hk_Ms), k152 v3 s4 = some (r, fin) → hk_V Gd (N_m_chosenBy l) (hk_end Gd (hk_mU m0 st s0) (some (.int r)) (hk_mU m0 st fin)) 152 [(0, .ref m0), (1, .int p1), (2, .int p2), (3, .int p3), (4, .int v3)] [] (hk_mU m0 st s4) := by
    intro v3 s4 h
    rw [e_k152] at h
    refine hv_iload 4 dX4_chosenBy_152 rfl ?_
    refine hv_i2l dX4_chosenBy_154 ?_
    refine hv_lconst (v := 0) dX4_chosenBy_155 (by decide) ?_
    refine hv_ldc2 q1978 dX4_chosenBy_156 ?_
    refine hv_callS [.long v3.toInt64, .long (0 : Int64), .long (6 : Int64)] [] [.int (m_within v3.toInt64 (0 : Int64) (6 : Int64))] (wk_m_within rfl) cs_X4_113 rfl ⟨Nat.le_of_ble_eq_true rfl, Nat.le_of_ble_eq_true rfl⟩ rfl (Nat.le_of_ble_eq_true rfl) rfl dX4_chosenBy_159 ?_
    refine hv_if_eq (tgt := 177) dX4_chosenBy_162 (by decide) (fun c5 => ?_) (fun c5 => ?_)
    · replace h := hq_ip c5 h
      refine hv_sub [0, 1, 2, 3] rfl ?_
      exact wk177 _ h
    · replace h := hq_in c5 h
      refine hv_aload_n 0 dX4_chosenBy_165 rfl rfl ?_
      refine hv_iload_n 1 dX4_chosenBy_166 rfl rfl ?_
      refine hv_iload 4 dX4_chosenBy_167 rfl ?_
      refine hv_iload_n 2 dX4_chosenBy_169 rfl rfl ?_
      refine hv_iload_n 3 dX4_chosenBy_170 rfl rfl ?_
      obtain ⟨q6, e_q6, h⟩ := hq_ob h
      refine hv_callV [.int p1, .int v3, .int p2, .int p3] [] [.int q6.1] (wk_m_layOut KM e_q6) cs_X4_279 KM.recv rfl ⟨Nat.le_of_ble_eq_true rfl, Nat.le_of_ble_eq_true rfl⟩ rfl (Nat.le_of_ble_eq_true rfl) rfl dX4_chosenBy_171 ?_
      refine hv_if_ne (tgt := 191) dX4_chosenBy_174 (by decide) (fun c7 => ?_) (fun c7 => ?_)
      · replace h := hq_in c7 h
        refine hv_iload 4 dX4_chosenBy_191 rfl ?_
        obtain ⟨h1, h2⟩ := hq_ret h
        subst h1
        subst h2
        exact hv_iret rfl dX4_chosenBy_193
      · replace h := hq_ip c7 h
        refine hv_sub [0, 1, 2, 3] rfl ?_
        exact wk177 _ h
  clear e_k152
  obtain ⟨k123, e_k123, h⟩ := hq_nm h
  have wk123 : ∀ (v8 : Int32) (s9 : hk_Ms), k123 v8 s9 = some (r, fin) → hk_V Gd (N_m_chosenBy l) (hk_end Gd (hk_mU m0 st s0) (some (.int r)) (hk_mU m0 st fin)) 123 [(0, .ref m0), (1, .int p1), (2, .int p2), (3, .int p3)] [.int v8, .int (6 : Int32), .ref (m0 + 7)] (hk_mU m0 st s9) := by
    intro v8 s9 h
    rw [e_k123] at h
    obtain ⟨s10, e_s10, h⟩ := hq_ob h
    refine hm_iastore KM e_s10 (Nat.le_of_ble_eq_true rfl) rfl dX4_chosenBy_123 ?_
    refine hv_aload_n 0 dX4_chosenBy_124 rfl rfl ?_
    refine hm_getA (j := 6) KM (fl_X4_28) rfl (Nat.le_of_ble_eq_true rfl) dX4_chosenBy_125 ?_
    refine hv_bipush (v := 7) dX4_chosenBy_128 (by decide) ?_
    refine hv_aload_n 0 dX4_chosenBy_130 rfl rfl ?_
    refine hm_getA (j := 0) KM (fl_X4_9) rfl (Nat.le_of_ble_eq_true rfl) dX4_chosenBy_131 ?_
    refine hv_iconst (v := 5) dX4_chosenBy_134 (by decide) ?_
    refine hv_iload_n 1 dX4_chosenBy_135 rfl rfl ?_
    refine hv_imul dX4_chosenBy_136 ?_
    refine hv_iconst (v := 4) dX4_chosenBy_137 (by decide) ?_
    refine hv_iadd dX4_chosenBy_138 ?_
    obtain ⟨x11, e_x11, h⟩ := hq_ob h
    refine hm_iaload KM e_x11 (Nat.le_of_ble_eq_true rfl) rfl dX4_chosenBy_139 ?_
    obtain ⟨s12, e_s12, h⟩ := hq_ob h
    refine hm_iastore KM e_s12 (Nat.le_of_ble_eq_true rfl) rfl dX4_chosenBy_140 ?_
    refine hv_aload_n 0 dX4_chosenBy_141 rfl rfl ?_
    refine hv_iconst (v := 0) dX4_chosenBy_142 (by decide) ?_
    refine hv_aload_n 0 dX4_chosenBy_143 rfl rfl ?_
    refine hm_getI (f := 9) KM (fl_X4_101) dX4_chosenBy_144 ?_
    obtain ⟨q13, e_q13, h⟩ := hq_ob h
    refine hv_callV [.int (0 : Int32), .int (hm_I s12 9)] [] [.int q13.1] (wk_m_workOut KM e_q13) cs_X4_168 KM.recv rfl ⟨Nat.le_of_ble_eq_true rfl, Nat.le_of_ble_eq_true rfl⟩ rfl (Nat.le_of_ble_eq_true rfl) rfl dX4_chosenBy_147 ?_
    refine hv_istore (L' := [(4, .int q13.1), (0, .ref m0), (1, .int p1), (2, .int p2), (3, .int p3)]) dX4_chosenBy_150 (Nat.le_of_ble_eq_true rfl) rfl ?_
    refine hv_sub [1, 2, 3, 4, 0] rfl ?_
    exact wk152 _ _ h
  clear e_k123
  refine hv_iconst (v := 1) dX4_chosenBy_0 (by decide) ?_
  refine hv_istore (L' := [(4, .int (1 : Int32)), (0, .ref m0), (1, .int p1), (2, .int p2), (3, .int p3)]) dX4_chosenBy_1 (Nat.le_of_ble_eq_true rfl) rfl ?_
  refine hv_aload_n 1 dX4_chosenBy_3 rfl rfl ?_
  refine hm_getI (f := 9) KM (fl_X4_101) dX4_chosenBy_4 ?_
  refine hv_if_lt (tgt := 152) dX4_chosenBy_7 (by decide) (fun c14 => ?_) (fun c14 => ?_)
  · replace h := hq_ip c14 h
    refine hv_sub [1, 2, 3, 4, 0] rfl ?_
    exact wk152 _ _ h
  · replace h := hq_in c14 h
    refine hv_iload_n 3 dX4_chosenBy_10 rfl rfl ?_
    refine hv_sipush (v := 10000) dX4_chosenBy_11 (by decide) ?_
    refine hv_idiv (by decide) dX4_chosenBy_14 ?_
    obtain ⟨x15, e_x15, h⟩ := hq_nm h
    rw [← e_x15]
    refine hv_istore (L' := [(5, .int x15), (4, .int (1 : Int32)), (0, .ref m0), (1, .int p1), (2, .int p2), (3, .int p3)]) dX4_chosenBy_15 (Nat.le_of_ble_eq_true rfl) rfl ?_
    refine hv_iload_n 4 dX4_chosenBy_17 rfl rfl ?_
    refine hv_sipush (v := 10000) dX4_chosenBy_18 (by decide) ?_
    refine hv_irem (by decide) dX4_chosenBy_21 ?_
    obtain ⟨x16, e_x16, h⟩ := hq_nm h
    rw [← e_x16]
    refine hv_istore (L' := [(6, .int x16), (5, .int x15), (4, .int (1 : Int32)), (0, .ref m0), (1, .int p1), (2, .int p2), (3, .int p3)]) dX4_chosenBy_22 (Nat.le_of_ble_eq_true rfl) rfl ?_
    refine hv_aload_n 3 dX4_chosenBy_24 rfl rfl ?_
    refine hm_getA (j := 6) KM (fl_X4_28) rfl (Nat.le_of_ble_eq_true rfl) dX4_chosenBy_25 ?_
    refine hv_iconst (v := 0) dX4_chosenBy_28 (by decide) ?_
    refine hv_iload 1 dX4_chosenBy_29 rfl ?_
    obtain ⟨x17, e_x17, h⟩ := hq_ob h
    refine hv_callS [.int x15] [.int (0 : Int32), .ref (m0 + 7)] [.int x17, .int (0 : Int32), .ref (m0 + 7)] (wk_m_digits e_x17) cs_X4_220 rfl ⟨Nat.le_of_ble_eq_true rfl, Nat.le_of_ble_eq_true rfl⟩ rfl (Nat.le_of_ble_eq_true rfl) rfl dX4_chosenBy_31 ?_
    obtain ⟨s18, e_s18, h⟩ := hq_ob h
    refine hm_iastore KM e_s18 (Nat.le_of_ble_eq_true rfl) rfl dX4_chosenBy_34 ?_
    refine hv_aload_n 3 dX4_chosenBy_35 rfl rfl ?_
    refine hm_getA (j := 6) KM (fl_X4_28) rfl (Nat.le_of_ble_eq_true rfl) dX4_chosenBy_36 ?_
    refine hv_iconst (v := 1) dX4_chosenBy_39 (by decide) ?_
    refine hv_iload 0 dX4_chosenBy_40 rfl ?_
    obtain ⟨x19, e_x19, h⟩ := hq_ob h
    refine hv_callS [.int x16] [.int (1 : Int32), .ref (m0 + 7)] [.int x19, .int (1 : Int32), .ref (m0 + 7)] (wk_m_digits e_x19) cs_X4_220 rfl ⟨Nat.le_of_ble_eq_true rfl, Nat.le_of_ble_eq_true rfl⟩ rfl (Nat.le_of_ble_eq_true rfl) rfl dX4_chosenBy_42 ?_
    obtain ⟨s20, e_s20, h⟩ := hq_ob h
    refine hm_iastore KM e_s20 (Nat.le_of_ble_eq_true rfl) rfl dX4_chosenBy_45 ?_
    refine hv_aload_n 3 dX4_chosenBy_46 rfl rfl ?_
    refine hm_getA (j := 6) KM (fl_X4_28) rfl (Nat.le_of_ble_eq_true rfl) dX4_chosenBy_47 ?_
    refine hv_iconst (v := 2) dX4_chosenBy_50 (by decide) ?_
    refine hv_iload 1 dX4_chosenBy_51 rfl ?_
    refine hv_bipush (v := 10) dX4_chosenBy_53 (by decide) ?_
    refine hv_irem (by decide) dX4_chosenBy_55 ?_
    obtain ⟨s21, e_s21, h⟩ := hq_ob h
    refine hm_iastore KM e_s21 (Nat.le_of_ble_eq_true rfl) rfl dX4_chosenBy_56 ?_
    refine hv_aload_n 3 dX4_chosenBy_57 rfl rfl ?_
    refine hm_getA (j := 6) KM (fl_X4_28) rfl (Nat.le_of_ble_eq_true rfl) dX4_chosenBy_58 ?_
    refine hv_iconst (v := 3) dX4_chosenBy_61 (by decide) ?_
    refine hv_iload 0 dX4_chosenBy_62 rfl ?_
    refine hv_bipush (v := 10) dX4_chosenBy_64 (by decide) ?_
    refine hv_irem (by decide) dX4_chosenBy_66 ?_
    obtain ⟨s22, e_s22, h⟩ := hq_ob h
    refine hm_iastore KM e_s22 (Nat.le_of_ble_eq_true rfl) rfl dX4_chosenBy_67 ?_
    refine hv_aload_n 3 dX4_chosenBy_68 rfl rfl ?_
    refine hm_getA (j := 6) KM (fl_X4_28) rfl (Nat.le_of_ble_eq_true rfl) dX4_chosenBy_69 ?_
    refine hv_iconst (v := 4) dX4_chosenBy_72 (by decide) ?_
    refine hv_iload 1 dX4_chosenBy_73 rfl ?_
    refine hv_iload 0 dX4_chosenBy_75 rfl ?_
    refine hv_isub dX4_chosenBy_77 ?_
    refine hv_callS [.int (x15 - x16)] [.int (4 : Int32), .ref (m0 + 7)] [.int (m_size (x15 - x16)), .int (4 : Int32), .ref (m0 + 7)] (wk_m_size rfl) cs_X4_250 rfl ⟨Nat.le_of_ble_eq_true rfl, Nat.le_of_ble_eq_true rfl⟩ rfl (Nat.le_of_ble_eq_true rfl) rfl dX4_chosenBy_78 ?_
    obtain ⟨s23, e_s23, h⟩ := hq_ob h
    refine hm_iastore KM e_s23 (Nat.le_of_ble_eq_true rfl) rfl dX4_chosenBy_81 ?_
    refine hv_aload_n 3 dX4_chosenBy_82 rfl rfl ?_
    refine hm_getA (j := 6) KM (fl_X4_28) rfl (Nat.le_of_ble_eq_true rfl) dX4_chosenBy_83 ?_
    refine hv_iconst (v := 5) dX4_chosenBy_86 (by decide) ?_
    refine hv_iload 1 dX4_chosenBy_87 rfl ?_
    obtain ⟨x24, e_x24, h⟩ := hq_ob h
    refine hv_callS [.int x15] [.int (5 : Int32), .ref (m0 + 7)] [.int x24, .int (5 : Int32), .ref (m0 + 7)] (wk_m_noughtsOf e_x24) cs_X4_292 rfl ⟨Nat.le_of_ble_eq_true rfl, Nat.le_of_ble_eq_true rfl⟩ rfl (Nat.le_of_ble_eq_true rfl) rfl dX4_chosenBy_89 ?_
    refine hv_iload 0 dX4_chosenBy_92 rfl ?_
    obtain ⟨x25, e_x25, h⟩ := hq_ob h
    refine hv_callS [.int x16] [.int x24, .int (5 : Int32), .ref (m0 + 7)] [.int x25, .int x24, .int (5 : Int32), .ref (m0 + 7)] (wk_m_noughtsOf e_x25) cs_X4_292 rfl ⟨Nat.le_of_ble_eq_true rfl, Nat.le_of_ble_eq_true rfl⟩ rfl (Nat.le_of_ble_eq_true rfl) rfl dX4_chosenBy_94 ?_
    refine hv_iadd dX4_chosenBy_97 ?_
    obtain ⟨s26, e_s26, h⟩ := hq_ob h
    refine hm_iastore KM e_s26 (Nat.le_of_ble_eq_true rfl) rfl dX4_chosenBy_98 ?_
    refine hv_aload_n 3 dX4_chosenBy_99 rfl rfl ?_
    refine hm_getA (j := 6) KM (fl_X4_28) rfl (Nat.le_of_ble_eq_true rfl) dX4_chosenBy_100 ?_
    refine hv_bipush (v := 6) dX4_chosenBy_103 (by decide) ?_
    refine hv_iload_n 6 dX4_chosenBy_105 rfl rfl ?_
    refine hv_if_le (tgt := 113) dX4_chosenBy_106 (by decide) (fun c27 => ?_) (fun c27 => ?_)
    · replace h := hq_ip c27 h
      refine hv_aload_n 3 dX4_chosenBy_113 rfl rfl ?_
      refine hm_getA (j := 0) KM (fl_X4_9) rfl (Nat.le_of_ble_eq_true rfl) dX4_chosenBy_114 ?_
      refine hv_iconst (v := 5) dX4_chosenBy_117 (by decide) ?_
      refine hv_iload_n 4 dX4_chosenBy_118 rfl rfl ?_
      refine hv_imul dX4_chosenBy_119 ?_
      refine hv_iconst (v := 3) dX4_chosenBy_120 (by decide) ?_
      refine hv_iadd dX4_chosenBy_121 ?_
      obtain ⟨x28, e_x28, h⟩ := hq_ob h
      refine hm_iaload KM e_x28 (Nat.le_of_ble_eq_true rfl) rfl dX4_chosenBy_122 ?_
      refine hv_sub [3, 4, 5, 6] rfl ?_
      exact wk123 _ _ h
    · replace h := hq_in c27 h
      refine hv_iload_n 6 dX4_chosenBy_109 rfl rfl ?_
      refine hv_goto (tgt := 123) dX4_chosenBy_110 (by decide) ?_
      refine hv_sub [3, 4, 5, 6] rfl ?_
      exact wk123 _ _ h
def m_chosen (p1 : Int32) (p2 : Int32) (s0 : hk_Ms) : Option (Int32 × hk_Ms) :=
  (m_isHead p1 s0).bind fun x1 =>
  if x1 = 0 then
    some ((-1 : Int32), s0)
  else
  if (m_isAsk p2) = 0 then
    some ((-1 : Int32), s0)
  else
  (m_chosenBy p1 p2 (0 : Int32) s0).bind fun q4 =>
  some (q4.1, q4.2)
abbrev N_m_chosen (l : Launch) : hk_N := (l, cX4_chosen, "HeadReckonsModel", 3, (some .int), 83, 4275, false)
set_option maxHeartbeats 4000000 in
theorem wk_m_chosen {l : Launch} {Gd : hk_G} {m0 : Nat} {st : hk_St} (KM : hk_KM m0 st) {p1 : Int32} {p2 : Int32} {s0 : hk_Ms} {r : Int32} {fin : hk_Ms} (h : m_chosen p1 p2 s0 = some (r, fin)) : hk_Met Gd l yX4_chosen cX4_chosen 3 (some .int) 83 4275 [.ref m0, .int p1, .int p2] (hk_mU m0 st s0) (some (.int r)) (hk_mU m0 st fin) := by
  refine hk_start "HeadReckonsModel" false (by decide +kernel) rfl (by decide) (Nat.le_of_ble_eq_true rfl) ?_
  show hk_V Gd (N_m_chosen l) (hk_end Gd (hk_mU m0 st s0) (some (.int r)) (hk_mU m0 st fin)) 0 [(0, .ref m0), (1, .int p1), (2, .int p2)] [] (hk_mU m0 st s0)
  unfold m_chosen at h
  refine hv_aload_n 0 dX4_chosen_0 rfl rfl ?_
  refine hv_iload_n 1 dX4_chosen_1 rfl rfl ?_
  obtain ⟨x1, e_x1, h⟩ := hq_ob h
  refine hv_callV [.int p1] [] [.int x1] (wk_m_isHead KM e_x1) cs_X4_188 KM.recv rfl ⟨Nat.le_of_ble_eq_true rfl, Nat.le_of_ble_eq_true rfl⟩ rfl (Nat.le_of_ble_eq_true rfl) rfl dX4_chosen_2 ?_
  refine hv_if_eq (tgt := 25) dX4_chosen_5 (by decide) (fun c2 => ?_) (fun c2 => ?_)
  · replace h := hq_ip c2 h
    refine hv_iconst (v := -1) dX4_chosen_25 (by decide) ?_
    obtain ⟨h1, h2⟩ := hq_ret h
    subst h1
    subst h2
    exact hv_iret rfl dX4_chosen_26
  · replace h := hq_in c2 h
    refine hv_iload_n 2 dX4_chosen_8 rfl rfl ?_
    refine hv_callS [.int p2] [] [.int (m_isAsk p2)] (wk_m_isAsk rfl) cs_X4_208 rfl ⟨Nat.le_of_ble_eq_true rfl, Nat.le_of_ble_eq_true rfl⟩ rfl (Nat.le_of_ble_eq_true rfl) rfl dX4_chosen_9 ?_
    refine hv_if_eq (tgt := 25) dX4_chosen_12 (by decide) (fun c3 => ?_) (fun c3 => ?_)
    · replace h := hq_ip c3 h
      refine hv_iconst (v := -1) dX4_chosen_25 (by decide) ?_
      obtain ⟨h1, h2⟩ := hq_ret h
      subst h1
      subst h2
      exact hv_iret rfl dX4_chosen_26
    · replace h := hq_in c3 h
      refine hv_aload_n 0 dX4_chosen_15 rfl rfl ?_
      refine hv_iload_n 1 dX4_chosen_16 rfl rfl ?_
      refine hv_iload_n 2 dX4_chosen_17 rfl rfl ?_
      refine hv_iconst (v := 0) dX4_chosen_18 (by decide) ?_
      obtain ⟨q4, e_q4, h⟩ := hq_ob h
      refine hv_callV [.int p1, .int p2, .int (0 : Int32)] [] [.int q4.1] (wk_m_chosenBy KM e_q4) cs_X4_297 KM.recv rfl ⟨Nat.le_of_ble_eq_true rfl, Nat.le_of_ble_eq_true rfl⟩ rfl (Nat.le_of_ble_eq_true rfl) rfl dX4_chosen_19 ?_
      refine hv_goto (tgt := 26) dX4_chosen_22 (by decide) ?_
      obtain ⟨h1, h2⟩ := hq_ret h
      subst h1
      subst h2
      exact hv_iret rfl dX4_chosen_26
def m_answer_L70b (p1 : Int32) (p2 : Int32) (p3 : Int32) (v8 : Int32) (e0 : Int32 → hk_Ms → Option (Int32 × hk_Ms)) (rc : Int32 → Int32 → Int32 → hk_Ms → Option (Int32 × hk_Ms)) (v9 : Int32) (v10 : Int32) (v11 : Int32) (s12 : hk_Ms) : Option (Int32 × hk_Ms) :=
  hk_nm (fun (v15 : Int32) (v16 : Int32) (v17 : Int32) (v18 : Int32) (v19 : Int32) (s20 : hk_Ms) =>
    if v19 < v18 then
      (hm_lI s20 11 200 v17).bind fun x22 =>
      if x22 = 0 then
        if (((v15.toUInt32 >>> ((20 : Int32).toUInt32 &&& Int32.toUInt32 31)).toInt32) - ((v15.toUInt32 >>> ((20 : Int32).toUInt32 &&& Int32.toUInt32 31)).toInt32) / (2 : Int32) * (2 : Int32)) = (1 : Int32) then
        (hm_lI s20 15 200 v17).bind fun x39 =>
      hk_nm (v16 + x39) fun x40 =>
      hk_nm (v17 + (1 : Int32)) fun x41 =>
      rc v15 x40 x41 s20
      else
      (hm_lI s20 15 200 v17).bind fun x36 =>
        hk_nm (v16 + (-x36)) fun x37 =>
        hk_nm (v17 + (1 : Int32)) fun x38 =>
        rc v15 x37 x38 s20
      else
      (hm_lI s20 11 200 v17).bind fun x24 =>
        if x24 = (1 : Int32) then
          (hm_lI s20 12 200 v17).bind fun x27 =>
        (m_digits x27).bind fun x28 =>
        hk_gd (decide (¬ x28 = 0)) <|
        (m_tens (((v15.toUInt32 >>> ((20 : Int32).toUInt32 &&& Int32.toUInt32 31)).toInt32) - ((v15.toUInt32 >>> ((20 : Int32).toUInt32 &&& Int32.toUInt32 31)).toInt32) / x28 * x28)).bind fun x30 =>
        (hm_lI s20 16 200 v17).bind fun x31 =>
        (m_tens x31).bind fun x32 =>
        hk_nm (v16 - (x30 * x32)) fun x33 =>
        hk_nm (v17 + (1 : Int32)) fun x34 =>
        rc v15 x33 x34 s20
        else
        hk_nm (v17 + (1 : Int32)) fun x26 =>
          rc v15 v16 x26 s20
    else
    hk_nm (v17 + (1 : Int32)) fun x42 =>
    rc v15 v16 x42 s20) fun k137 =>
  if (hm_I s12 21) ≤ v11 then
    e0 v10 s12
  else
  (hm_lI s12 14 200 v11).bind fun x44 =>
  hk_nm (x44 - v8) fun x45 =>
  if 0 < x45 then
    hk_nm ((v9 * (1103515245 : Int32)) + (12345 : Int32)) fun x47 =>
    if ((5 : Int32) * x45) ≤ (95 : Int32) then
      k137 x47 v10 v11 ((5 : Int32) * x45) (((x47.toUInt32 >>> ((8 : Int32).toUInt32 &&& Int32.toUInt32 31)).toInt32) - ((x47.toUInt32 >>> ((8 : Int32).toUInt32 &&& Int32.toUInt32 31)).toInt32) / (100 : Int32) * (100 : Int32)) s12
    else
    k137 x47 v10 v11 (95 : Int32) (((x47.toUInt32 >>> ((8 : Int32).toUInt32 &&& Int32.toUInt32 31)).toInt32) - ((x47.toUInt32 >>> ((8 : Int32).toUInt32 &&& Int32.toUInt32 31)).toInt32) / (100 : Int32) * (100 : Int32)) s12
  else
  hk_nm (v11 + (1 : Int32)) fun x49 =>
  rc v9 v10 x49 s12
def m_answer_L70 (p1 : Int32) (p2 : Int32) (p3 : Int32) (v8 : Int32) (e0 : Int32 → hk_Ms → Option (Int32 × hk_Ms)) : Nat → Int32 → Int32 → Int32 → hk_Ms → Option (Int32 × hk_Ms)
  | 0 => fun _ _ _ _ => none
  | n + 1 => m_answer_L70b p1 p2 p3 v8 e0 (m_answer_L70 p1 p2 p3 v8 e0 n)
def m_answer (p1 : Int32) (p2 : Int32) (p3 : Int32) (s0 : hk_Ms) : Option (Int32 × hk_Ms) :=
  (m_isHw p1 s0).bind fun x1 =>
  if x1 = 0 then
    some ((-2000000000 : Int32), s0)
  else
  if (m_isAsk p2) = 0 then
    some ((-2000000000 : Int32), s0)
  else
  (m_layOut (p1 / (10 : Int32)) (p1 - p1 / (10 : Int32) * (10 : Int32)) p2 (0 : Int32) s0).bind fun q4 =>
  if q4.1 = 0 then
    some ((-2000000000 : Int32), q4.2)
  else
  (hm_lI q4.2 0 30 (((5 : Int32) * (p1 / (10 : Int32))) + (4 : Int32))).bind fun x6 =>
    hk_nm ((p2 / (10000 : Int32)) * (p2 - p2 / (10000 : Int32) * (10000 : Int32))) fun x7 =>
    m_answer_L70 p1 p2 p3 x6 (fun (v13 : Int32) (s14 : hk_Ms) =>
      some (v13, s14)) hk_F p3 x7 (0 : Int32) q4.2
abbrev N_m_answer (l : Launch) : hk_N := (l, cX4_answer, "HeadReckonsModel", 9, (some .int), 6, 149, false)
set_option maxHeartbeats 4000000 in
theorem wk_m_answer_L70b {l : Launch} {Gd : hk_G} {m0 : Nat} {st : hk_St} (KM : hk_KM m0 st) {p1 : Int32} {p2 : Int32} {p3 : Int32} {s0 : hk_Ms} {r : Int32} {fin : hk_Ms} {v8 : Int32} {e0 : Int32 → hk_Ms → Option (Int32 × hk_Ms)} {rc : Int32 → Int32 → Int32 → hk_Ms → Option (Int32 × hk_Ms)} (hrc : ∀ (v9 : Int32) (v10 : Int32) (v11 : Int32) (s12 : hk_Ms), rc v9 v10 v11 s12 = some (r, fin) → hk_V Gd (N_m_answer l) (hk_end Gd (hk_mU m0 st s0) (some (.int r)) (hk_mU m0 st fin)) 70 [(0, .ref m0), (4, .int v8), (5, .int v9), (6, .int v10), (7, .int v11)] [] (hk_mU m0 st s12)) (he0 : ∀ (v13 : Int32) (s14 : hk_Ms), e0 v13 s14 = some (r, fin) → hk_V Gd (N_m_answer l) (hk_end Gd (hk_mU m0 st s0) (some (.int r)) (hk_mU m0 st fin)) 242 [(6, .int v13)] [] (hk_mU m0 st s14)) {v9 : Int32} {v10 : Int32} {v11 : Int32} {s12 : hk_Ms} (h : m_answer_L70b p1 p2 p3 v8 e0 rc v9 v10 v11 s12 = some (r, fin)) : hk_V Gd (N_m_answer l) (hk_end Gd (hk_mU m0 st s0) (some (.int r)) (hk_mU m0 st fin)) 70 [(0, .ref m0), (4, .int v8), (5, .int v9), (6, .int v10), (7, .int v11)] [] (hk_mU m0 st s12) := by
  unfold m_answer_L70b at h
  obtain ⟨k137, e_k137, h⟩ := hq_nm h
  have wk137 : ∀ (v15 : Int32) (v16 : Int32) (v17 : Int32) (v18 : Int32) (v19 : Int32) (s20 : hk_Ms), k137 v15 v16 v17 v18 v19 s20 = some (r, fin) → hk_V Gd (N_m_answer l) (hk_end Gd (hk_mU m0 st s0) (some (.int r)) (hk_mU m0 st fin)) 137 [(0, .ref m0), (4, .int v8), (5, .int v15), (6, .int v16), (7, .int v17)] [.int v18, .int v19] (hk_mU m0 st s20) := by
    intro v15 v16 v17 v18 v19 s20 h
    rw [e_k137] at h
    refine hv_icmp_lt (tgt := 143) dX4_answer_137 (by decide) (fun c21 => ?_) (fun c21 => ?_)
    · replace h := hq_ip c21 h
      refine hv_aload_n 0 dX4_answer_143 rfl rfl ?_
      refine hm_getA (j := 11) KM (fl_X4_43) rfl (Nat.le_of_ble_eq_true rfl) dX4_answer_144 ?_
      refine hv_iload 4 dX4_answer_147 rfl ?_
      obtain ⟨x22, e_x22, h⟩ := hq_ob h
      refine hm_iaload KM e_x22 (Nat.le_of_ble_eq_true rfl) rfl dX4_answer_149 ?_
      refine hv_if_ne (tgt := 190) dX4_answer_150 (by decide) (fun c23 => ?_) (fun c23 => ?_)
      · replace h := hq_in c23 h
        refine hv_aload_n 0 dX4_answer_190 rfl rfl ?_
        refine hm_getA (j := 11) KM (fl_X4_43) rfl (Nat.le_of_ble_eq_true rfl) dX4_answer_191 ?_
        refine hv_iload 4 dX4_answer_194 rfl ?_
        obtain ⟨x24, e_x24, h⟩ := hq_ob h
        refine hm_iaload KM e_x24 (Nat.le_of_ble_eq_true rfl) rfl dX4_answer_196 ?_
        refine hv_iconst (v := 1) dX4_answer_197 (by decide) ?_
        refine hv_icmp_ne (tgt := 236) dX4_answer_198 (by decide) (fun c25 => ?_) (fun c25 => ?_)
        · replace h := hq_in c25 h
          obtain ⟨x26, e_x26, h⟩ := hq_nm h
          refine hv_iinc (v := x26) (L' := [(7, .int x26), (0, .ref m0), (4, .int v8), (5, .int v15), (6, .int v16)]) 4 dX4_answer_236 rfl (by rw [e_x26]; rfl) (Nat.le_of_ble_eq_true rfl) rfl ?_
          refine hv_goto (tgt := 70) dX4_answer_239 (by decide) ?_
          refine hv_sub [1, 2, 3, 4, 0] rfl ?_
          exact hrc _ _ _ _ h
        · replace h := hq_ip c25 h
          refine hv_iload 3 dX4_answer_201 rfl ?_
          refine hv_iload 2 dX4_answer_203 rfl ?_
          refine hv_bipush (v := 20) dX4_answer_205 (by decide) ?_
          refine hv_iushr dX4_answer_207 ?_
          refine hv_aload_n 0 dX4_answer_208 rfl rfl ?_
          refine hm_getA (j := 12) KM (fl_X4_46) rfl (Nat.le_of_ble_eq_true rfl) dX4_answer_209 ?_
          refine hv_iload 4 dX4_answer_212 rfl ?_
          obtain ⟨x27, e_x27, h⟩ := hq_ob h
          refine hm_iaload KM e_x27 (Nat.le_of_ble_eq_true rfl) rfl dX4_answer_214 ?_
          obtain ⟨x28, e_x28, h⟩ := hq_ob h
          refine hv_callS [.int x27] [.int ((v15.toUInt32 >>> ((20 : Int32).toUInt32 &&& Int32.toUInt32 31)).toInt32), .int v16] [.int x28, .int ((v15.toUInt32 >>> ((20 : Int32).toUInt32 &&& Int32.toUInt32 31)).toInt32), .int v16] (wk_m_digits e_x28) cs_X4_220 rfl ⟨Nat.le_of_ble_eq_true rfl, Nat.le_of_ble_eq_true rfl⟩ rfl (Nat.le_of_ble_eq_true rfl) rfl dX4_answer_215 ?_
          obtain ⟨g29, h⟩ := hq_gd h
          refine hv_irem (of_decide_eq_true g29) dX4_answer_218 ?_
          obtain ⟨x30, e_x30, h⟩ := hq_ob h
          refine hv_callS [.int (((v15.toUInt32 >>> ((20 : Int32).toUInt32 &&& Int32.toUInt32 31)).toInt32) - ((v15.toUInt32 >>> ((20 : Int32).toUInt32 &&& Int32.toUInt32 31)).toInt32) / x28 * x28)] [.int v16] [.int x30, .int v16] (wk_m_tens e_x30) cs_X4_233 rfl ⟨Nat.le_of_ble_eq_true rfl, Nat.le_of_ble_eq_true rfl⟩ rfl (Nat.le_of_ble_eq_true rfl) rfl dX4_answer_219 ?_
          refine hv_aload_n 0 dX4_answer_222 rfl rfl ?_
          refine hm_getA (j := 16) KM (fl_X4_58) rfl (Nat.le_of_ble_eq_true rfl) dX4_answer_223 ?_
          refine hv_iload 4 dX4_answer_226 rfl ?_
          obtain ⟨x31, e_x31, h⟩ := hq_ob h
          refine hm_iaload KM e_x31 (Nat.le_of_ble_eq_true rfl) rfl dX4_answer_228 ?_
          obtain ⟨x32, e_x32, h⟩ := hq_ob h
          refine hv_callS [.int x31] [.int x30, .int v16] [.int x32, .int x30, .int v16] (wk_m_tens e_x32) cs_X4_233 rfl ⟨Nat.le_of_ble_eq_true rfl, Nat.le_of_ble_eq_true rfl⟩ rfl (Nat.le_of_ble_eq_true rfl) rfl dX4_answer_229 ?_
          refine hv_imul dX4_answer_232 ?_
          refine hv_isub dX4_answer_233 ?_
          obtain ⟨x33, e_x33, h⟩ := hq_nm h
          rw [← e_x33]
          refine hv_istore (L' := [(6, .int x33), (0, .ref m0), (4, .int v8), (5, .int v15), (7, .int v17)]) dX4_answer_234 (Nat.le_of_ble_eq_true rfl) rfl ?_
          obtain ⟨x34, e_x34, h⟩ := hq_nm h
          refine hv_iinc (v := x34) (L' := [(7, .int x34), (6, .int x33), (0, .ref m0), (4, .int v8), (5, .int v15)]) 4 dX4_answer_236 rfl (by rw [e_x34]; rfl) (Nat.le_of_ble_eq_true rfl) rfl ?_
          refine hv_goto (tgt := 70) dX4_answer_239 (by decide) ?_
          refine hv_sub [2, 3, 4, 1, 0] rfl ?_
          exact hrc _ _ _ _ h
      · replace h := hq_ip c23 h
        refine hv_iload 3 dX4_answer_153 rfl ?_
        refine hv_iload 2 dX4_answer_155 rfl ?_
        refine hv_bipush (v := 20) dX4_answer_157 (by decide) ?_
        refine hv_iushr dX4_answer_159 ?_
        refine hv_iconst (v := 2) dX4_answer_160 (by decide) ?_
        refine hv_irem (by decide) dX4_answer_161 ?_
        refine hv_iconst (v := 1) dX4_answer_162 (by decide) ?_
        refine hv_icmp_ne (tgt := 176) dX4_answer_163 (by decide) (fun c35 => ?_) (fun c35 => ?_)
        · replace h := hq_in c35 h
          refine hv_aload_n 0 dX4_answer_176 rfl rfl ?_
          refine hm_getA (j := 15) KM (fl_X4_55) rfl (Nat.le_of_ble_eq_true rfl) dX4_answer_177 ?_
          refine hv_iload 4 dX4_answer_180 rfl ?_
          obtain ⟨x36, e_x36, h⟩ := hq_ob h
          refine hm_iaload KM e_x36 (Nat.le_of_ble_eq_true rfl) rfl dX4_answer_182 ?_
          refine hv_ineg dX4_answer_183 ?_
          refine hv_iadd dX4_answer_184 ?_
          obtain ⟨x37, e_x37, h⟩ := hq_nm h
          rw [← e_x37]
          refine hv_istore (L' := [(6, .int x37), (0, .ref m0), (4, .int v8), (5, .int v15), (7, .int v17)]) dX4_answer_185 (Nat.le_of_ble_eq_true rfl) rfl ?_
          refine hv_goto (tgt := 236) dX4_answer_187 (by decide) ?_
          obtain ⟨x38, e_x38, h⟩ := hq_nm h
          refine hv_iinc (v := x38) (L' := [(7, .int x38), (6, .int x37), (0, .ref m0), (4, .int v8), (5, .int v15)]) 4 dX4_answer_236 rfl (by rw [e_x38]; rfl) (Nat.le_of_ble_eq_true rfl) rfl ?_
          refine hv_goto (tgt := 70) dX4_answer_239 (by decide) ?_
          refine hv_sub [2, 3, 4, 1, 0] rfl ?_
          exact hrc _ _ _ _ h
        · replace h := hq_ip c35 h
          refine hv_aload_n 0 dX4_answer_166 rfl rfl ?_
          refine hm_getA (j := 15) KM (fl_X4_55) rfl (Nat.le_of_ble_eq_true rfl) dX4_answer_167 ?_
          refine hv_iload 4 dX4_answer_170 rfl ?_
          obtain ⟨x39, e_x39, h⟩ := hq_ob h
          refine hm_iaload KM e_x39 (Nat.le_of_ble_eq_true rfl) rfl dX4_answer_172 ?_
          refine hv_goto (tgt := 184) dX4_answer_173 (by decide) ?_
          refine hv_iadd dX4_answer_184 ?_
          obtain ⟨x40, e_x40, h⟩ := hq_nm h
          rw [← e_x40]
          refine hv_istore (L' := [(6, .int x40), (0, .ref m0), (4, .int v8), (5, .int v15), (7, .int v17)]) dX4_answer_185 (Nat.le_of_ble_eq_true rfl) rfl ?_
          refine hv_goto (tgt := 236) dX4_answer_187 (by decide) ?_
          obtain ⟨x41, e_x41, h⟩ := hq_nm h
          refine hv_iinc (v := x41) (L' := [(7, .int x41), (6, .int x40), (0, .ref m0), (4, .int v8), (5, .int v15)]) 4 dX4_answer_236 rfl (by rw [e_x41]; rfl) (Nat.le_of_ble_eq_true rfl) rfl ?_
          refine hv_goto (tgt := 70) dX4_answer_239 (by decide) ?_
          refine hv_sub [2, 3, 4, 1, 0] rfl ?_
          exact hrc _ _ _ _ h
    · replace h := hq_in c21 h
      refine hv_goto (tgt := 236) dX4_answer_140 (by decide) ?_
      obtain ⟨x42, e_x42, h⟩ := hq_nm h
      refine hv_iinc (v := x42) (L' := [(7, .int x42), (0, .ref m0), (4, .int v8), (5, .int v15), (6, .int v16)]) 4 dX4_answer_236 rfl (by rw [e_x42]; rfl) (Nat.le_of_ble_eq_true rfl) rfl ?_
      refine hv_goto (tgt := 70) dX4_answer_239 (by decide) ?_
      refine hv_sub [1, 2, 3, 4, 0] rfl ?_
      exact hrc _ _ _ _ h
  clear e_k137
  refine hv_iload 4 dX4_answer_70 rfl ?_
  refine hv_aload_n 0 dX4_answer_72 rfl rfl ?_
  refine hm_getI (f := 21) KM (fl_X4_214) dX4_answer_73 ?_
  refine hv_icmp_ge (tgt := 242) dX4_answer_76 (by decide) (fun c43 => ?_) (fun c43 => ?_)
  · replace h := hq_ip c43 h
    refine hv_sub [3] rfl ?_
    exact he0 _ _ h
  · replace h := hq_in c43 h
    refine hv_aload_n 0 dX4_answer_79 rfl rfl ?_
    refine hm_getA (j := 14) KM (fl_X4_52) rfl (Nat.le_of_ble_eq_true rfl) dX4_answer_80 ?_
    refine hv_iload 4 dX4_answer_83 rfl ?_
    obtain ⟨x44, e_x44, h⟩ := hq_ob h
    refine hm_iaload KM e_x44 (Nat.le_of_ble_eq_true rfl) rfl dX4_answer_85 ?_
    refine hv_iload 1 dX4_answer_86 rfl ?_
    refine hv_isub dX4_answer_88 ?_
    obtain ⟨x45, e_x45, h⟩ := hq_nm h
    rw [← e_x45]
    refine hv_istore (L' := [(8, .int x45), (0, .ref m0), (4, .int v8), (5, .int v9), (6, .int v10), (7, .int v11)]) dX4_answer_89 (Nat.le_of_ble_eq_true rfl) rfl ?_
    refine hv_iload 0 dX4_answer_91 rfl ?_
    refine hv_if_gt (tgt := 99) dX4_answer_93 (by decide) (fun c46 => ?_) (fun c46 => ?_)
    · replace h := hq_ip c46 h
      refine hv_iload 3 dX4_answer_99 rfl ?_
      refine hv_ldcw q1983 dX4_answer_101 ?_
      refine hv_imul dX4_answer_104 ?_
      refine hv_sipush (v := 12345) dX4_answer_105 (by decide) ?_
      refine hv_iadd dX4_answer_108 ?_
      obtain ⟨x47, e_x47, h⟩ := hq_nm h
      rw [← e_x47]
      refine hv_istore (L' := [(5, .int x47), (8, .int x45), (0, .ref m0), (4, .int v8), (6, .int v10), (7, .int v11)]) dX4_answer_109 (Nat.le_of_ble_eq_true rfl) rfl ?_
      refine hv_iload 0 dX4_answer_111 rfl ?_
      refine hv_bipush (v := 8) dX4_answer_113 (by decide) ?_
      refine hv_iushr dX4_answer_115 ?_
      refine hv_bipush (v := 100) dX4_answer_116 (by decide) ?_
      refine hv_irem (by decide) dX4_answer_118 ?_
      refine hv_iconst (v := 5) dX4_answer_119 (by decide) ?_
      refine hv_iload 1 dX4_answer_120 rfl ?_
      refine hv_imul dX4_answer_122 ?_
      refine hv_bipush (v := 95) dX4_answer_123 (by decide) ?_
      refine hv_icmp_le (tgt := 133) dX4_answer_125 (by decide) (fun c48 => ?_) (fun c48 => ?_)
      · replace h := hq_ip c48 h
        refine hv_iconst (v := 5) dX4_answer_133 (by decide) ?_
        refine hv_iload 1 dX4_answer_134 rfl ?_
        refine hv_imul dX4_answer_136 ?_
        refine hv_sub [2, 3, 0, 4, 5] rfl ?_
        exact wk137 _ _ _ _ _ _ h
      · replace h := hq_in c48 h
        refine hv_bipush (v := 95) dX4_answer_128 (by decide) ?_
        refine hv_goto (tgt := 137) dX4_answer_130 (by decide) ?_
        refine hv_sub [2, 3, 0, 4, 5] rfl ?_
        exact wk137 _ _ _ _ _ _ h
    · replace h := hq_in c46 h
      refine hv_goto (tgt := 236) dX4_answer_96 (by decide) ?_
      obtain ⟨x49, e_x49, h⟩ := hq_nm h
      refine hv_iinc (v := x49) (L' := [(7, .int x49), (8, .int x45), (0, .ref m0), (4, .int v8), (5, .int v9), (6, .int v10)]) 5 dX4_answer_236 rfl (by rw [e_x49]; rfl) (Nat.le_of_ble_eq_true rfl) rfl ?_
      refine hv_goto (tgt := 70) dX4_answer_239 (by decide) ?_
      refine hv_sub [2, 3, 4, 5, 0] rfl ?_
      exact hrc _ _ _ _ h
theorem wk_m_answer_L70 {l : Launch} {Gd : hk_G} {m0 : Nat} {st : hk_St} (KM : hk_KM m0 st) {p1 : Int32} {p2 : Int32} {p3 : Int32} {s0 : hk_Ms} {r : Int32} {fin : hk_Ms} {v8 : Int32} {e0 : Int32 → hk_Ms → Option (Int32 × hk_Ms)} (he0 : ∀ (v13 : Int32) (s14 : hk_Ms), e0 v13 s14 = some (r, fin) → hk_V Gd (N_m_answer l) (hk_end Gd (hk_mU m0 st s0) (some (.int r)) (hk_mU m0 st fin)) 242 [(6, .int v13)] [] (hk_mU m0 st s14)) : ∀ (n : Nat) (v9 : Int32) (v10 : Int32) (v11 : Int32) (s12 : hk_Ms), m_answer_L70 p1 p2 p3 v8 e0 n v9 v10 v11 s12 = some (r, fin) → hk_V Gd (N_m_answer l) (hk_end Gd (hk_mU m0 st s0) (some (.int r)) (hk_mU m0 st fin)) 70 [(0, .ref m0), (4, .int v8), (5, .int v9), (6, .int v10), (7, .int v11)] [] (hk_mU m0 st s12) := by
  intro n
  induction n with
  | zero => intro v9 v10 v11 s12 h; cases h
  | succ n ih => intro v9 v10 v11 s12 h; exact wk_m_answer_L70b KM ih he0 h
set_option maxHeartbeats 4000000 in
theorem wk_m_answer {l : Launch} {Gd : hk_G} {m0 : Nat} {st : hk_St} (KM : hk_KM m0 st) {p1 : Int32} {p2 : Int32} {p3 : Int32} {s0 : hk_Ms} {r : Int32} {fin : hk_Ms} (h : m_answer p1 p2 p3 s0 = some (r, fin)) : hk_Met Gd l yX4_answer cX4_answer 9 (some .int) 6 149 [.ref m0, .int p1, .int p2, .int p3] (hk_mU m0 st s0) (some (.int r)) (hk_mU m0 st fin) := by
  refine hk_start "HeadReckonsModel" false (by decide +kernel) rfl (by decide) (Nat.le_of_ble_eq_true rfl) ?_
  show hk_V Gd (N_m_answer l) (hk_end Gd (hk_mU m0 st s0) (some (.int r)) (hk_mU m0 st fin)) 0 [(0, .ref m0), (1, .int p1), (2, .int p2), (3, .int p3)] [] (hk_mU m0 st s0)
  unfold m_answer at h
  refine hv_aload_n 0 dX4_answer_0 rfl rfl ?_
  refine hv_iload_n 1 dX4_answer_1 rfl rfl ?_
  obtain ⟨x1, e_x1, h⟩ := hq_ob h
  refine hv_callV [.int p1] [] [.int x1] (wk_m_isHw KM e_x1) cs_X4_274 KM.recv rfl ⟨Nat.le_of_ble_eq_true rfl, Nat.le_of_ble_eq_true rfl⟩ rfl (Nat.le_of_ble_eq_true rfl) rfl dX4_answer_2 ?_
  refine hv_if_eq (tgt := 32) dX4_answer_5 (by decide) (fun c2 => ?_) (fun c2 => ?_)
  · replace h := hq_ip c2 h
    refine hv_ldcw q1966 dX4_answer_32 ?_
    obtain ⟨h1, h2⟩ := hq_ret h
    subst h1
    subst h2
    exact hv_iret rfl dX4_answer_35
  · replace h := hq_in c2 h
    refine hv_iload_n 2 dX4_answer_8 rfl rfl ?_
    refine hv_callS [.int p2] [] [.int (m_isAsk p2)] (wk_m_isAsk rfl) cs_X4_208 rfl ⟨Nat.le_of_ble_eq_true rfl, Nat.le_of_ble_eq_true rfl⟩ rfl (Nat.le_of_ble_eq_true rfl) rfl dX4_answer_9 ?_
    refine hv_if_eq (tgt := 32) dX4_answer_12 (by decide) (fun c3 => ?_) (fun c3 => ?_)
    · replace h := hq_ip c3 h
      refine hv_ldcw q1966 dX4_answer_32 ?_
      obtain ⟨h1, h2⟩ := hq_ret h
      subst h1
      subst h2
      exact hv_iret rfl dX4_answer_35
    · replace h := hq_in c3 h
      refine hv_aload_n 0 dX4_answer_15 rfl rfl ?_
      refine hv_iload_n 1 dX4_answer_16 rfl rfl ?_
      refine hv_bipush (v := 10) dX4_answer_17 (by decide) ?_
      refine hv_idiv (by decide) dX4_answer_19 ?_
      refine hv_iload_n 1 dX4_answer_20 rfl rfl ?_
      refine hv_bipush (v := 10) dX4_answer_21 (by decide) ?_
      refine hv_irem (by decide) dX4_answer_23 ?_
      refine hv_iload_n 2 dX4_answer_24 rfl rfl ?_
      refine hv_iconst (v := 0) dX4_answer_25 (by decide) ?_
      obtain ⟨q4, e_q4, h⟩ := hq_ob h
      refine hv_callV [.int (p1 / (10 : Int32)), .int (p1 - p1 / (10 : Int32) * (10 : Int32)), .int p2, .int (0 : Int32)] [] [.int q4.1] (wk_m_layOut KM e_q4) cs_X4_279 KM.recv rfl ⟨Nat.le_of_ble_eq_true rfl, Nat.le_of_ble_eq_true rfl⟩ rfl (Nat.le_of_ble_eq_true rfl) rfl dX4_answer_26 ?_
      refine hv_if_ne (tgt := 36) dX4_answer_29 (by decide) (fun c5 => ?_) (fun c5 => ?_)
      · replace h := hq_in c5 h
        refine hv_aload_n 0 dX4_answer_36 rfl rfl ?_
        refine hm_getA (j := 0) KM (fl_X4_9) rfl (Nat.le_of_ble_eq_true rfl) dX4_answer_37 ?_
        refine hv_iconst (v := 5) dX4_answer_40 (by decide) ?_
        refine hv_iload_n 1 dX4_answer_41 rfl rfl ?_
        refine hv_bipush (v := 10) dX4_answer_42 (by decide) ?_
        refine hv_idiv (by decide) dX4_answer_44 ?_
        refine hv_imul dX4_answer_45 ?_
        refine hv_iconst (v := 4) dX4_answer_46 (by decide) ?_
        refine hv_iadd dX4_answer_47 ?_
        obtain ⟨x6, e_x6, h⟩ := hq_ob h
        refine hm_iaload KM e_x6 (Nat.le_of_ble_eq_true rfl) rfl dX4_answer_48 ?_
        refine hv_istore (L' := [(4, .int x6), (0, .ref m0), (1, .int p1), (2, .int p2), (3, .int p3)]) dX4_answer_49 (Nat.le_of_ble_eq_true rfl) rfl ?_
        refine hv_iload_n 4 dX4_answer_51 rfl rfl ?_
        refine hv_istore (L' := [(5, .int p3), (4, .int x6), (0, .ref m0), (1, .int p1), (2, .int p2), (3, .int p3)]) dX4_answer_52 (Nat.le_of_ble_eq_true rfl) rfl ?_
        refine hv_iload_n 4 dX4_answer_54 rfl rfl ?_
        refine hv_sipush (v := 10000) dX4_answer_55 (by decide) ?_
        refine hv_idiv (by decide) dX4_answer_58 ?_
        refine hv_iload_n 4 dX4_answer_59 rfl rfl ?_
        refine hv_sipush (v := 10000) dX4_answer_60 (by decide) ?_
        refine hv_irem (by decide) dX4_answer_63 ?_
        refine hv_imul dX4_answer_64 ?_
        obtain ⟨x7, e_x7, h⟩ := hq_nm h
        rw [← e_x7]
        refine hv_istore (L' := [(6, .int x7), (5, .int p3), (4, .int x6), (0, .ref m0), (1, .int p1), (2, .int p2), (3, .int p3)]) dX4_answer_65 (Nat.le_of_ble_eq_true rfl) rfl ?_
        refine hv_iconst (v := 0) dX4_answer_67 (by decide) ?_
        refine hv_istore (L' := [(7, .int (0 : Int32)), (6, .int x7), (5, .int p3), (4, .int x6), (0, .ref m0), (1, .int p1), (2, .int p2), (3, .int p3)]) dX4_answer_68 (Nat.le_of_ble_eq_true rfl) rfl ?_
        refine hv_sub [4, 3, 2, 1, 0] rfl ?_
        refine wk_m_answer_L70 KM ?_ hk_F _ _ _ _ h
        · intro v13 s14 h
          refine hv_iload 0 dX4_answer_242 rfl ?_
          obtain ⟨h1, h2⟩ := hq_ret h
          subst h1
          subst h2
          exact hv_iret rfl dX4_answer_244
      · replace h := hq_ip c5 h
        refine hv_ldcw q1966 dX4_answer_32 ?_
        obtain ⟨h1, h2⟩ := hq_ret h
        subst h1
        subst h2
        exact hv_iret rfl dX4_answer_35
