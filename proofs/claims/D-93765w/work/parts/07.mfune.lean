set_option maxRecDepth 100000
def m_quickest_L39b (p1 : Int32) (p2 : Int32) (p3 : Int32) (e0 : Int32 → hk_Ms → Option (Int32 × hk_Ms)) (rc : Int32 → Int32 → Int32 → hk_Ms → Option (Int32 × hk_Ms)) (v5 : Int32) (v6 : Int32) (v7 : Int32) (s8 : hk_Ms) : Option (Int32 × hk_Ms) :=
  hk_nm (fun (v11 : Int32) (s12 : hk_Ms) =>
    (m_seconds  s12).bind fun x13 =>
    hk_nm (v11 + (1 : Int32)) fun x14 =>
    rc v11 x13 x14 s12) fun k80 =>
  if (7 : Int32) ≤ v7 then
    e0 v5 s8
  else
  (m_layOut p1 v7 p2 (0 : Int32) s8).bind fun q16 =>
  if q16.1 = 0 then
    hk_nm (v7 + (1 : Int32)) fun x18 =>
    rc v5 v6 x18 q16.2
  else
  (m_mostHeld  q16.2).bind fun x19 =>
  if p3 < x19 then
    hk_nm (v7 + (1 : Int32)) fun x21 =>
    rc v5 v6 x21 q16.2
  else
  if v5 < 0 then
    k80 v7 q16.2
  else
  (m_seconds  q16.2).bind fun x23 =>
  if v6 ≤ x23 then
    hk_nm (v7 + (1 : Int32)) fun x25 =>
    rc v5 v6 x25 q16.2
  else
  k80 v7 q16.2
def m_quickest_L39 (p1 : Int32) (p2 : Int32) (p3 : Int32) (e0 : Int32 → hk_Ms → Option (Int32 × hk_Ms)) : Nat → Int32 → Int32 → Int32 → hk_Ms → Option (Int32 × hk_Ms)
  | 0 => fun _ _ _ _ => none
  | n + 1 => m_quickest_L39b p1 p2 p3 e0 (m_quickest_L39 p1 p2 p3 e0 n)
def m_quickest (p1 : Int32) (p2 : Int32) (p3 : Int32) (s0 : hk_Ms) : Option (Int32 × hk_Ms) :=
  (m_isHead p1 s0).bind fun x1 =>
  if x1 = 0 then
    some ((-1 : Int32), s0)
  else
  if (m_isAsk p2) = 0 then
    some ((-1 : Int32), s0)
  else
  if (m_within p3.toInt64 (1 : Int64) (99 : Int64)) = 0 then
    some ((-1 : Int32), s0)
  else
  m_quickest_L39 p1 p2 p3  (fun (v9 : Int32) (s10 : hk_Ms) =>
      some (v9, s10)) hk_F (-2 : Int32) (0 : Int32) (0 : Int32) s0
abbrev N_m_quickest (l : Launch) : hk_N := (l, cX4_quickest, "HeadReckonsModel", 7, (some .int), 6, 149, false)
set_option maxHeartbeats 4000000 in
theorem wk_m_quickest_L39b {l : Launch} {Gd : hk_G} {m0 : Nat} {st : hk_St} (KM : hk_KM m0 st) {p1 : Int32} {p2 : Int32} {p3 : Int32} {s0 : hk_Ms} {r : Int32} {fin : hk_Ms} {e0 : Int32 → hk_Ms → Option (Int32 × hk_Ms)} {rc : Int32 → Int32 → Int32 → hk_Ms → Option (Int32 × hk_Ms)} (hrc : ∀ (v5 : Int32) (v6 : Int32) (v7 : Int32) (s8 : hk_Ms), rc v5 v6 v7 s8 = some (r, fin) → hk_V Gd (N_m_quickest l) (hk_end Gd (hk_mU m0 st s0) (some (.int r)) (hk_mU m0 st fin)) 39 [(0, .ref m0), (1, .int p1), (2, .int p2), (3, .int p3), (4, .int v5), (5, .int v6), (6, .int v7)] [] (hk_mU m0 st s8)) (he0 : ∀ (v9 : Int32) (s10 : hk_Ms), e0 v9 s10 = some (r, fin) → hk_V Gd (N_m_quickest l) (hk_end Gd (hk_mU m0 st s0) (some (.int r)) (hk_mU m0 st fin)) 96 [(4, .int v9)] [] (hk_mU m0 st s10)) {v5 : Int32} {v6 : Int32} {v7 : Int32} {s8 : hk_Ms} (h : m_quickest_L39b p1 p2 p3 e0 rc v5 v6 v7 s8 = some (r, fin)) : hk_V Gd (N_m_quickest l) (hk_end Gd (hk_mU m0 st s0) (some (.int r)) (hk_mU m0 st fin)) 39 [(0, .ref m0), (1, .int p1), (2, .int p2), (3, .int p3), (4, .int v5), (5, .int v6), (6, .int v7)] [] (hk_mU m0 st s8) := by
  unfold m_quickest_L39b at h
  obtain ⟨k80, e_k80, h⟩ := hq_nm h
  have wk80 : ∀ (v11 : Int32) (s12 : hk_Ms), k80 v11 s12 = some (r, fin) → hk_V Gd (N_m_quickest l) (hk_end Gd (hk_mU m0 st s0) (some (.int r)) (hk_mU m0 st fin)) 80 [(0, .ref m0), (1, .int p1), (2, .int p2), (3, .int p3), (6, .int v11)] [] (hk_mU m0 st s12) := by
    intro v11 s12 h
    rw [e_k80] at h
    refine hv_iload 4 dX4_quickest_80 rfl ?_
    refine hv_istore (L' := [(4, .int v11), (0, .ref m0), (1, .int p1), (2, .int p2), (3, .int p3), (6, .int v11)]) dX4_quickest_82 (Nat.le_of_ble_eq_true rfl) rfl ?_
    refine hv_aload_n 1 dX4_quickest_84 rfl rfl ?_
    obtain ⟨x13, e_x13, h⟩ := hq_ob h
    refine hv_callV [] [] [.int x13] (wk_m_seconds KM e_x13) cs_X4_283 KM.recv rfl ⟨Nat.le_of_ble_eq_true rfl, Nat.le_of_ble_eq_true rfl⟩ rfl (Nat.le_of_ble_eq_true rfl) rfl dX4_quickest_85 ?_
    refine hv_istore (L' := [(5, .int x13), (4, .int v11), (0, .ref m0), (1, .int p1), (2, .int p2), (3, .int p3), (6, .int v11)]) dX4_quickest_88 (Nat.le_of_ble_eq_true rfl) rfl ?_
    obtain ⟨x14, e_x14, h⟩ := hq_nm h
    refine hv_iinc (v := x14) (L' := [(6, .int x14), (5, .int x13), (4, .int v11), (0, .ref m0), (1, .int p1), (2, .int p2), (3, .int p3)]) 6 dX4_quickest_90 rfl (by rw [e_x14]; rfl) (Nat.le_of_ble_eq_true rfl) rfl ?_
    refine hv_goto (tgt := 39) dX4_quickest_93 (by decide) ?_
    refine hv_sub [3, 4, 5, 6, 2, 1, 0] rfl ?_
    exact hrc _ _ _ _ h
  clear e_k80
  refine hv_iload 6 dX4_quickest_39 rfl ?_
  refine hv_bipush (v := 7) dX4_quickest_41 (by decide) ?_
  refine hv_icmp_ge (tgt := 96) dX4_quickest_43 (by decide) (fun c15 => ?_) (fun c15 => ?_)
  · replace h := hq_ip c15 h
    refine hv_sub [4] rfl ?_
    exact he0 _ _ h
  · replace h := hq_in c15 h
    refine hv_aload_n 0 dX4_quickest_46 rfl rfl ?_
    refine hv_iload_n 1 dX4_quickest_47 rfl rfl ?_
    refine hv_iload 6 dX4_quickest_48 rfl ?_
    refine hv_iload_n 2 dX4_quickest_50 rfl rfl ?_
    refine hv_iconst (v := 0) dX4_quickest_51 (by decide) ?_
    obtain ⟨q16, e_q16, h⟩ := hq_ob h
    refine hv_callV [.int p1, .int v7, .int p2, .int (0 : Int32)] [] [.int q16.1] (wk_m_layOut KM e_q16) cs_X4_279 KM.recv rfl ⟨Nat.le_of_ble_eq_true rfl, Nat.le_of_ble_eq_true rfl⟩ rfl (Nat.le_of_ble_eq_true rfl) rfl dX4_quickest_52 ?_
    refine hv_if_eq (tgt := 90) dX4_quickest_55 (by decide) (fun c17 => ?_) (fun c17 => ?_)
    · replace h := hq_ip c17 h
      obtain ⟨x18, e_x18, h⟩ := hq_nm h
      refine hv_iinc (v := x18) (L' := [(6, .int x18), (0, .ref m0), (1, .int p1), (2, .int p2), (3, .int p3), (4, .int v5), (5, .int v6)]) 6 dX4_quickest_90 rfl (by rw [e_x18]; rfl) (Nat.le_of_ble_eq_true rfl) rfl ?_
      refine hv_goto (tgt := 39) dX4_quickest_93 (by decide) ?_
      refine hv_sub [1, 2, 3, 4, 5, 6, 0] rfl ?_
      exact hrc _ _ _ _ h
    · replace h := hq_in c17 h
      refine hv_aload_n 0 dX4_quickest_58 rfl rfl ?_
      obtain ⟨x19, e_x19, h⟩ := hq_ob h
      refine hv_callV [] [] [.int x19] (wk_m_mostHeld KM e_x19) cs_X4_286 KM.recv rfl ⟨Nat.le_of_ble_eq_true rfl, Nat.le_of_ble_eq_true rfl⟩ rfl (Nat.le_of_ble_eq_true rfl) rfl dX4_quickest_59 ?_
      refine hv_iload_n 3 dX4_quickest_62 rfl rfl ?_
      refine hv_icmp_gt (tgt := 90) dX4_quickest_63 (by decide) (fun c20 => ?_) (fun c20 => ?_)
      · replace h := hq_ip c20 h
        obtain ⟨x21, e_x21, h⟩ := hq_nm h
        refine hv_iinc (v := x21) (L' := [(6, .int x21), (0, .ref m0), (1, .int p1), (2, .int p2), (3, .int p3), (4, .int v5), (5, .int v6)]) 6 dX4_quickest_90 rfl (by rw [e_x21]; rfl) (Nat.le_of_ble_eq_true rfl) rfl ?_
        refine hv_goto (tgt := 39) dX4_quickest_93 (by decide) ?_
        refine hv_sub [1, 2, 3, 4, 5, 6, 0] rfl ?_
        exact hrc _ _ _ _ h
      · replace h := hq_in c20 h
        refine hv_iload 4 dX4_quickest_66 rfl ?_
        refine hv_if_lt (tgt := 80) dX4_quickest_68 (by decide) (fun c22 => ?_) (fun c22 => ?_)
        · replace h := hq_ip c22 h
          refine hv_sub [0, 1, 2, 3, 6] rfl ?_
          exact wk80 _ _ h
        · replace h := hq_in c22 h
          refine hv_aload_n 0 dX4_quickest_71 rfl rfl ?_
          obtain ⟨x23, e_x23, h⟩ := hq_ob h
          refine hv_callV [] [] [.int x23] (wk_m_seconds KM e_x23) cs_X4_283 KM.recv rfl ⟨Nat.le_of_ble_eq_true rfl, Nat.le_of_ble_eq_true rfl⟩ rfl (Nat.le_of_ble_eq_true rfl) rfl dX4_quickest_72 ?_
          refine hv_iload 5 dX4_quickest_75 rfl ?_
          refine hv_icmp_ge (tgt := 90) dX4_quickest_77 (by decide) (fun c24 => ?_) (fun c24 => ?_)
          · replace h := hq_ip c24 h
            obtain ⟨x25, e_x25, h⟩ := hq_nm h
            refine hv_iinc (v := x25) (L' := [(6, .int x25), (0, .ref m0), (1, .int p1), (2, .int p2), (3, .int p3), (4, .int v5), (5, .int v6)]) 6 dX4_quickest_90 rfl (by rw [e_x25]; rfl) (Nat.le_of_ble_eq_true rfl) rfl ?_
            refine hv_goto (tgt := 39) dX4_quickest_93 (by decide) ?_
            refine hv_sub [1, 2, 3, 4, 5, 6, 0] rfl ?_
            exact hrc _ _ _ _ h
          · replace h := hq_in c24 h
            refine hv_sub [0, 1, 2, 3, 6] rfl ?_
            exact wk80 _ _ h
theorem wk_m_quickest_L39 {l : Launch} {Gd : hk_G} {m0 : Nat} {st : hk_St} (KM : hk_KM m0 st) {p1 : Int32} {p2 : Int32} {p3 : Int32} {s0 : hk_Ms} {r : Int32} {fin : hk_Ms} {e0 : Int32 → hk_Ms → Option (Int32 × hk_Ms)} (he0 : ∀ (v9 : Int32) (s10 : hk_Ms), e0 v9 s10 = some (r, fin) → hk_V Gd (N_m_quickest l) (hk_end Gd (hk_mU m0 st s0) (some (.int r)) (hk_mU m0 st fin)) 96 [(4, .int v9)] [] (hk_mU m0 st s10)) : ∀ (n : Nat) (v5 : Int32) (v6 : Int32) (v7 : Int32) (s8 : hk_Ms), m_quickest_L39 p1 p2 p3 e0 n v5 v6 v7 s8 = some (r, fin) → hk_V Gd (N_m_quickest l) (hk_end Gd (hk_mU m0 st s0) (some (.int r)) (hk_mU m0 st fin)) 39 [(0, .ref m0), (1, .int p1), (2, .int p2), (3, .int p3), (4, .int v5), (5, .int v6), (6, .int v7)] [] (hk_mU m0 st s8) := by
  intro n
  induction n with
  | zero => intro v5 v6 v7 s8 h; cases h
  | succ n ih => intro v5 v6 v7 s8 h; exact wk_m_quickest_L39b KM ih he0 h
set_option maxHeartbeats 4000000 in
theorem wk_m_quickest {l : Launch} {Gd : hk_G} {m0 : Nat} {st : hk_St} (KM : hk_KM m0 st) {p1 : Int32} {p2 : Int32} {p3 : Int32} {s0 : hk_Ms} {r : Int32} {fin : hk_Ms} (h : m_quickest p1 p2 p3 s0 = some (r, fin)) : hk_Met Gd l yX4_quickest cX4_quickest 7 (some .int) 6 149 [.ref m0, .int p1, .int p2, .int p3] (hk_mU m0 st s0) (some (.int r)) (hk_mU m0 st fin) := by
  refine hk_start "HeadReckonsModel" false (by decide +kernel) rfl (by decide) (Nat.le_of_ble_eq_true rfl) ?_
  show hk_V Gd (N_m_quickest l) (hk_end Gd (hk_mU m0 st s0) (some (.int r)) (hk_mU m0 st fin)) 0 [(0, .ref m0), (1, .int p1), (2, .int p2), (3, .int p3)] [] (hk_mU m0 st s0)
  unfold m_quickest at h
  refine hv_aload_n 0 dX4_quickest_0 rfl rfl ?_
  refine hv_iload_n 1 dX4_quickest_1 rfl rfl ?_
  obtain ⟨x1, e_x1, h⟩ := hq_ob h
  refine hv_callV [.int p1] [] [.int x1] (wk_m_isHead KM e_x1) cs_X4_188 KM.recv rfl ⟨Nat.le_of_ble_eq_true rfl, Nat.le_of_ble_eq_true rfl⟩ rfl (Nat.le_of_ble_eq_true rfl) rfl dX4_quickest_2 ?_
  refine hv_if_eq (tgt := 27) dX4_quickest_5 (by decide) (fun c2 => ?_) (fun c2 => ?_)
  · replace h := hq_ip c2 h
    refine hv_iconst (v := -1) dX4_quickest_27 (by decide) ?_
    obtain ⟨h1, h2⟩ := hq_ret h
    subst h1
    subst h2
    exact hv_iret rfl dX4_quickest_28
  · replace h := hq_in c2 h
    refine hv_iload_n 2 dX4_quickest_8 rfl rfl ?_
    refine hv_callS [.int p2] [] [.int (m_isAsk p2)] (wk_m_isAsk rfl) cs_X4_208 rfl ⟨Nat.le_of_ble_eq_true rfl, Nat.le_of_ble_eq_true rfl⟩ rfl (Nat.le_of_ble_eq_true rfl) rfl dX4_quickest_9 ?_
    refine hv_if_eq (tgt := 27) dX4_quickest_12 (by decide) (fun c3 => ?_) (fun c3 => ?_)
    · replace h := hq_ip c3 h
      refine hv_iconst (v := -1) dX4_quickest_27 (by decide) ?_
      obtain ⟨h1, h2⟩ := hq_ret h
      subst h1
      subst h2
      exact hv_iret rfl dX4_quickest_28
    · replace h := hq_in c3 h
      refine hv_iload_n 3 dX4_quickest_15 rfl rfl ?_
      refine hv_i2l dX4_quickest_16 ?_
      refine hv_lconst (v := 1) dX4_quickest_17 (by decide) ?_
      refine hv_ldc2 q1843 dX4_quickest_18 ?_
      refine hv_callS [.long p3.toInt64, .long (1 : Int64), .long (99 : Int64)] [] [.int (m_within p3.toInt64 (1 : Int64) (99 : Int64))] (wk_m_within rfl) cs_X4_113 rfl ⟨Nat.le_of_ble_eq_true rfl, Nat.le_of_ble_eq_true rfl⟩ rfl (Nat.le_of_ble_eq_true rfl) rfl dX4_quickest_21 ?_
      refine hv_if_ne (tgt := 29) dX4_quickest_24 (by decide) (fun c4 => ?_) (fun c4 => ?_)
      · replace h := hq_in c4 h
        refine hv_bipush (v := -2) dX4_quickest_29 (by decide) ?_
        refine hv_istore (L' := [(4, .int (-2 : Int32)), (0, .ref m0), (1, .int p1), (2, .int p2), (3, .int p3)]) dX4_quickest_31 (Nat.le_of_ble_eq_true rfl) rfl ?_
        refine hv_iconst (v := 0) dX4_quickest_33 (by decide) ?_
        refine hv_istore (L' := [(5, .int (0 : Int32)), (4, .int (-2 : Int32)), (0, .ref m0), (1, .int p1), (2, .int p2), (3, .int p3)]) dX4_quickest_34 (Nat.le_of_ble_eq_true rfl) rfl ?_
        refine hv_iconst (v := 0) dX4_quickest_36 (by decide) ?_
        refine hv_istore (L' := [(6, .int (0 : Int32)), (5, .int (0 : Int32)), (4, .int (-2 : Int32)), (0, .ref m0), (1, .int p1), (2, .int p2), (3, .int p3)]) dX4_quickest_37 (Nat.le_of_ble_eq_true rfl) rfl ?_
        refine hv_sub [3, 4, 5, 6, 2, 1, 0] rfl ?_
        refine wk_m_quickest_L39 KM ?_ hk_F _ _ _ _ h
        · intro v9 s10 h
          refine hv_iload 0 dX4_quickest_96 rfl ?_
          obtain ⟨h1, h2⟩ := hq_ret h
          subst h1
          subst h2
          exact hv_iret rfl dX4_quickest_98
      · replace h := hq_ip c4 h
        refine hv_iconst (v := -1) dX4_quickest_27 (by decide) ?_
        obtain ⟨h1, h2⟩ := hq_ret h
        subst h1
        subst h2
        exact hv_iret rfl dX4_quickest_28
def m_table_L21b (p1 : Int32) (p2 : Int32) (p3 : Int32) (e0 : hk_Ms → Option (Int32 × hk_Ms)) (rc : Int32 → hk_Ms → Option (Int32 × hk_Ms)) (v4 : Int32) (s5 : hk_Ms) : Option (Int32 × hk_Ms) :=
  if (99 : Int32) < v4 then
    e0 s5
  else
  (m_chosenBy p1 p2 v4 s5).bind fun q8 =>
  (m_seconds  q8.2).bind fun x9 =>
  if p3 < x9 then
    hk_nm (v4 + (1 : Int32)) fun x11 =>
    rc x11 q8.2
  else
  some (v4, q8.2)
def m_table_L21 (p1 : Int32) (p2 : Int32) (p3 : Int32) (e0 : hk_Ms → Option (Int32 × hk_Ms)) : Nat → Int32 → hk_Ms → Option (Int32 × hk_Ms)
  | 0 => fun _ _ => none
  | n + 1 => m_table_L21b p1 p2 p3 e0 (m_table_L21 p1 p2 p3 e0 n)
def m_table (p1 : Int32) (p2 : Int32) (p3 : Int32) (s0 : hk_Ms) : Option (Int32 × hk_Ms) :=
  (m_isHead p1 s0).bind fun x1 =>
  if x1 = 0 then
    some ((-1 : Int32), s0)
  else
  if (m_isAsk p2) = 0 then
    some ((-1 : Int32), s0)
  else
  m_table_L21 p1 p2 p3  (fun (s6 : hk_Ms) =>
      some ((-2 : Int32), s6)) hk_F (9 : Int32) s0
abbrev N_m_table (l : Launch) : hk_N := (l, cX4_table, "HeadReckonsModel", 6, (some .int), 83, 4275, false)
set_option maxHeartbeats 4000000 in
theorem wk_m_table_L21b {l : Launch} {Gd : hk_G} {m0 : Nat} {st : hk_St} (KM : hk_KM m0 st) {p1 : Int32} {p2 : Int32} {p3 : Int32} {s0 : hk_Ms} {r : Int32} {fin : hk_Ms} {e0 : hk_Ms → Option (Int32 × hk_Ms)} {rc : Int32 → hk_Ms → Option (Int32 × hk_Ms)} (hrc : ∀ (v4 : Int32) (s5 : hk_Ms), rc v4 s5 = some (r, fin) → hk_V Gd (N_m_table l) (hk_end Gd (hk_mU m0 st s0) (some (.int r)) (hk_mU m0 st fin)) 21 [(0, .ref m0), (1, .int p1), (2, .int p2), (3, .int p3), (4, .int v4)] [] (hk_mU m0 st s5)) (he0 : ∀ (s6 : hk_Ms), e0 s6 = some (r, fin) → hk_V Gd (N_m_table l) (hk_end Gd (hk_mU m0 st s0) (some (.int r)) (hk_mU m0 st fin)) 55 [] [] (hk_mU m0 st s6)) {v4 : Int32} {s5 : hk_Ms} (h : m_table_L21b p1 p2 p3 e0 rc v4 s5 = some (r, fin)) : hk_V Gd (N_m_table l) (hk_end Gd (hk_mU m0 st s0) (some (.int r)) (hk_mU m0 st fin)) 21 [(0, .ref m0), (1, .int p1), (2, .int p2), (3, .int p3), (4, .int v4)] [] (hk_mU m0 st s5) := by
  unfold m_table_L21b at h
  refine hv_iload 4 dX4_table_21 rfl ?_
  refine hv_bipush (v := 99) dX4_table_23 (by decide) ?_
  refine hv_icmp_gt (tgt := 55) dX4_table_25 (by decide) (fun c7 => ?_) (fun c7 => ?_)
  · replace h := hq_ip c7 h
    refine hv_sub [] rfl ?_
    exact he0 _ h
  · replace h := hq_in c7 h
    refine hv_aload_n 0 dX4_table_28 rfl rfl ?_
    refine hv_iload_n 1 dX4_table_29 rfl rfl ?_
    refine hv_iload_n 2 dX4_table_30 rfl rfl ?_
    refine hv_iload 4 dX4_table_31 rfl ?_
    obtain ⟨q8, e_q8, h⟩ := hq_ob h
    refine hv_callV [.int p1, .int p2, .int v4] [] [.int q8.1] (wk_m_chosenBy KM e_q8) cs_X4_297 KM.recv rfl ⟨Nat.le_of_ble_eq_true rfl, Nat.le_of_ble_eq_true rfl⟩ rfl (Nat.le_of_ble_eq_true rfl) rfl dX4_table_33 ?_
    refine hv_istore (L' := [(5, .int q8.1), (0, .ref m0), (1, .int p1), (2, .int p2), (3, .int p3), (4, .int v4)]) dX4_table_36 (Nat.le_of_ble_eq_true rfl) rfl ?_
    refine hv_aload_n 1 dX4_table_38 rfl rfl ?_
    obtain ⟨x9, e_x9, h⟩ := hq_ob h
    refine hv_callV [] [] [.int x9] (wk_m_seconds KM e_x9) cs_X4_283 KM.recv rfl ⟨Nat.le_of_ble_eq_true rfl, Nat.le_of_ble_eq_true rfl⟩ rfl (Nat.le_of_ble_eq_true rfl) rfl dX4_table_39 ?_
    refine hv_iload_n 4 dX4_table_42 rfl rfl ?_
    refine hv_icmp_gt (tgt := 49) dX4_table_43 (by decide) (fun c10 => ?_) (fun c10 => ?_)
    · replace h := hq_ip c10 h
      obtain ⟨x11, e_x11, h⟩ := hq_nm h
      refine hv_iinc (v := x11) (L' := [(4, .int x11), (5, .int q8.1), (0, .ref m0), (1, .int p1), (2, .int p2), (3, .int p3)]) 5 dX4_table_49 rfl (by rw [e_x11]; rfl) (Nat.le_of_ble_eq_true rfl) rfl ?_
      refine hv_goto (tgt := 21) dX4_table_52 (by decide) ?_
      refine hv_sub [2, 3, 4, 5, 0] rfl ?_
      exact hrc _ _ h
    · replace h := hq_in c10 h
      refine hv_iload 5 dX4_table_46 rfl ?_
      obtain ⟨h1, h2⟩ := hq_ret h
      subst h1
      subst h2
      exact hv_iret rfl dX4_table_48
theorem wk_m_table_L21 {l : Launch} {Gd : hk_G} {m0 : Nat} {st : hk_St} (KM : hk_KM m0 st) {p1 : Int32} {p2 : Int32} {p3 : Int32} {s0 : hk_Ms} {r : Int32} {fin : hk_Ms} {e0 : hk_Ms → Option (Int32 × hk_Ms)} (he0 : ∀ (s6 : hk_Ms), e0 s6 = some (r, fin) → hk_V Gd (N_m_table l) (hk_end Gd (hk_mU m0 st s0) (some (.int r)) (hk_mU m0 st fin)) 55 [] [] (hk_mU m0 st s6)) : ∀ (n : Nat) (v4 : Int32) (s5 : hk_Ms), m_table_L21 p1 p2 p3 e0 n v4 s5 = some (r, fin) → hk_V Gd (N_m_table l) (hk_end Gd (hk_mU m0 st s0) (some (.int r)) (hk_mU m0 st fin)) 21 [(0, .ref m0), (1, .int p1), (2, .int p2), (3, .int p3), (4, .int v4)] [] (hk_mU m0 st s5) := by
  intro n
  induction n with
  | zero => intro v4 s5 h; cases h
  | succ n ih => intro v4 s5 h; exact wk_m_table_L21b KM ih he0 h
set_option maxHeartbeats 4000000 in
theorem wk_m_table {l : Launch} {Gd : hk_G} {m0 : Nat} {st : hk_St} (KM : hk_KM m0 st) {p1 : Int32} {p2 : Int32} {p3 : Int32} {s0 : hk_Ms} {r : Int32} {fin : hk_Ms} (h : m_table p1 p2 p3 s0 = some (r, fin)) : hk_Met Gd l yX4_table cX4_table 6 (some .int) 83 4275 [.ref m0, .int p1, .int p2, .int p3] (hk_mU m0 st s0) (some (.int r)) (hk_mU m0 st fin) := by
  refine hk_start "HeadReckonsModel" false (by decide +kernel) rfl (by decide) (Nat.le_of_ble_eq_true rfl) ?_
  show hk_V Gd (N_m_table l) (hk_end Gd (hk_mU m0 st s0) (some (.int r)) (hk_mU m0 st fin)) 0 [(0, .ref m0), (1, .int p1), (2, .int p2), (3, .int p3)] [] (hk_mU m0 st s0)
  unfold m_table at h
  refine hv_aload_n 0 dX4_table_0 rfl rfl ?_
  refine hv_iload_n 1 dX4_table_1 rfl rfl ?_
  obtain ⟨x1, e_x1, h⟩ := hq_ob h
  refine hv_callV [.int p1] [] [.int x1] (wk_m_isHead KM e_x1) cs_X4_188 KM.recv rfl ⟨Nat.le_of_ble_eq_true rfl, Nat.le_of_ble_eq_true rfl⟩ rfl (Nat.le_of_ble_eq_true rfl) rfl dX4_table_2 ?_
  refine hv_if_eq (tgt := 15) dX4_table_5 (by decide) (fun c2 => ?_) (fun c2 => ?_)
  · replace h := hq_ip c2 h
    refine hv_iconst (v := -1) dX4_table_15 (by decide) ?_
    obtain ⟨h1, h2⟩ := hq_ret h
    subst h1
    subst h2
    exact hv_iret rfl dX4_table_16
  · replace h := hq_in c2 h
    refine hv_iload_n 2 dX4_table_8 rfl rfl ?_
    refine hv_callS [.int p2] [] [.int (m_isAsk p2)] (wk_m_isAsk rfl) cs_X4_208 rfl ⟨Nat.le_of_ble_eq_true rfl, Nat.le_of_ble_eq_true rfl⟩ rfl (Nat.le_of_ble_eq_true rfl) rfl dX4_table_9 ?_
    refine hv_if_ne (tgt := 17) dX4_table_12 (by decide) (fun c3 => ?_) (fun c3 => ?_)
    · replace h := hq_in c3 h
      refine hv_bipush (v := 9) dX4_table_17 (by decide) ?_
      refine hv_istore (L' := [(4, .int (9 : Int32)), (0, .ref m0), (1, .int p1), (2, .int p2), (3, .int p3)]) dX4_table_19 (Nat.le_of_ble_eq_true rfl) rfl ?_
      refine hv_sub [1, 2, 3, 4, 0] rfl ?_
      refine wk_m_table_L21 KM ?_ hk_F _ _ h
      · intro s6 h
        refine hv_bipush (v := -2) dX4_table_55 (by decide) ?_
        obtain ⟨h1, h2⟩ := hq_ret h
        subst h1
        subst h2
        exact hv_iret rfl dX4_table_57
    · replace h := hq_ip c3 h
      refine hv_iconst (v := -1) dX4_table_15 (by decide) ?_
      obtain ⟨h1, h2⟩ := hq_ret h
      subst h1
      subst h2
      exact hv_iret rfl dX4_table_16
def m_see (p1 : Int32) (p2 : Int32) (p3 : Int32) (s0 : hk_Ms) : Option (Int32 × hk_Ms) :=
  if (m_isAsk p1) = 0 then
    some ((-1 : Int32), s0)
  else
  if (m_within p2.toInt64 (0 : Int64) (9999 : Int64)) = 0 then
    some ((-1 : Int32), s0)
  else
  if (m_within p3.toInt64 (-999999999 : Int64) (999999999 : Int64)) = 0 then
    some ((-1 : Int32), s0)
  else
  if (hm_I s0 33) = (40 : Int32) then
      some ((-3 : Int32), s0)
    else
    (hm_tI s0 18 40 (hm_I s0 33) p1).bind fun s5 =>
      (hm_tI s5 19 40 (hm_I s5 33) p2).bind fun s6 =>
      (hm_tI s6 20 40 (hm_I s6 33) p3).bind fun s7 =>
      hk_nm (hm_sI s7 33 ((hm_I s7 33) + (1 : Int32))) fun s8 =>
      some ((hm_I s8 33) - (1 : Int32), s8)
abbrev N_m_see (l : Launch) : hk_N := (l, cX4_see, "HeadReckonsModel", 4, (some .int), 2, 45, false)
set_option maxHeartbeats 4000000 in
theorem wk_m_see {l : Launch} {Gd : hk_G} {m0 : Nat} {st : hk_St} (KM : hk_KM m0 st) {p1 : Int32} {p2 : Int32} {p3 : Int32} {s0 : hk_Ms} {r : Int32} {fin : hk_Ms} (h : m_see p1 p2 p3 s0 = some (r, fin)) : hk_Met Gd l yX4_see cX4_see 4 (some .int) 2 45 [.ref m0, .int p1, .int p2, .int p3] (hk_mU m0 st s0) (some (.int r)) (hk_mU m0 st fin) := by
  refine hk_start "HeadReckonsModel" false (by decide +kernel) rfl (by decide) (Nat.le_of_ble_eq_true rfl) ?_
  show hk_V Gd (N_m_see l) (hk_end Gd (hk_mU m0 st s0) (some (.int r)) (hk_mU m0 st fin)) 0 [(0, .ref m0), (1, .int p1), (2, .int p2), (3, .int p3)] [] (hk_mU m0 st s0)
  unfold m_see at h
  refine hv_iload_n 1 dX4_see_0 rfl rfl ?_
  refine hv_callS [.int p1] [] [.int (m_isAsk p1)] (wk_m_isAsk rfl) cs_X4_208 rfl ⟨Nat.le_of_ble_eq_true rfl, Nat.le_of_ble_eq_true rfl⟩ rfl (Nat.le_of_ble_eq_true rfl) rfl dX4_see_1 ?_
  refine hv_if_eq (tgt := 33) dX4_see_4 (by decide) (fun c1 => ?_) (fun c1 => ?_)
  · replace h := hq_ip c1 h
    refine hv_iconst (v := -1) dX4_see_33 (by decide) ?_
    obtain ⟨h1, h2⟩ := hq_ret h
    subst h1
    subst h2
    exact hv_iret rfl dX4_see_34
  · replace h := hq_in c1 h
    refine hv_iload_n 2 dX4_see_7 rfl rfl ?_
    refine hv_i2l dX4_see_8 ?_
    refine hv_lconst (v := 0) dX4_see_9 (by decide) ?_
    refine hv_ldc2 q1873 dX4_see_10 ?_
    refine hv_callS [.long p2.toInt64, .long (0 : Int64), .long (9999 : Int64)] [] [.int (m_within p2.toInt64 (0 : Int64) (9999 : Int64))] (wk_m_within rfl) cs_X4_113 rfl ⟨Nat.le_of_ble_eq_true rfl, Nat.le_of_ble_eq_true rfl⟩ rfl (Nat.le_of_ble_eq_true rfl) rfl dX4_see_13 ?_
    refine hv_if_eq (tgt := 33) dX4_see_16 (by decide) (fun c2 => ?_) (fun c2 => ?_)
    · replace h := hq_ip c2 h
      refine hv_iconst (v := -1) dX4_see_33 (by decide) ?_
      obtain ⟨h1, h2⟩ := hq_ret h
      subst h1
      subst h2
      exact hv_iret rfl dX4_see_34
    · replace h := hq_in c2 h
      refine hv_iload_n 3 dX4_see_19 rfl rfl ?_
      refine hv_i2l dX4_see_20 ?_
      refine hv_ldc2 q1996 dX4_see_21 ?_
      refine hv_ldc2 q1997 dX4_see_24 ?_
      refine hv_callS [.long p3.toInt64, .long (-999999999 : Int64), .long (999999999 : Int64)] [] [.int (m_within p3.toInt64 (-999999999 : Int64) (999999999 : Int64))] (wk_m_within rfl) cs_X4_113 rfl ⟨Nat.le_of_ble_eq_true rfl, Nat.le_of_ble_eq_true rfl⟩ rfl (Nat.le_of_ble_eq_true rfl) rfl dX4_see_27 ?_
      refine hv_if_ne (tgt := 35) dX4_see_30 (by decide) (fun c3 => ?_) (fun c3 => ?_)
      · replace h := hq_in c3 h
        refine hv_aload_n 0 dX4_see_35 rfl rfl ?_
        refine hm_getI (f := 33) KM (fl_X4_306) dX4_see_36 ?_
        refine hv_bipush (v := 40) dX4_see_39 (by decide) ?_
        refine hv_icmp_ne (tgt := 47) dX4_see_41 (by decide) (fun c4 => ?_) (fun c4 => ?_)
        · replace h := hq_in c4 h
          refine hv_aload_n 0 dX4_see_47 rfl rfl ?_
          refine hm_getA (j := 18) KM (fl_X4_64) rfl (Nat.le_of_ble_eq_true rfl) dX4_see_48 ?_
          refine hv_aload_n 0 dX4_see_51 rfl rfl ?_
          refine hm_getI (f := 33) KM (fl_X4_306) dX4_see_52 ?_
          refine hv_iload_n 1 dX4_see_55 rfl rfl ?_
          obtain ⟨s5, e_s5, h⟩ := hq_ob h
          refine hm_iastore KM e_s5 (Nat.le_of_ble_eq_true rfl) rfl dX4_see_56 ?_
          refine hv_aload_n 0 dX4_see_57 rfl rfl ?_
          refine hm_getA (j := 19) KM (fl_X4_67) rfl (Nat.le_of_ble_eq_true rfl) dX4_see_58 ?_
          refine hv_aload_n 0 dX4_see_61 rfl rfl ?_
          refine hm_getI (f := 33) KM (fl_X4_306) dX4_see_62 ?_
          refine hv_iload_n 2 dX4_see_65 rfl rfl ?_
          obtain ⟨s6, e_s6, h⟩ := hq_ob h
          refine hm_iastore KM e_s6 (Nat.le_of_ble_eq_true rfl) rfl dX4_see_66 ?_
          refine hv_aload_n 0 dX4_see_67 rfl rfl ?_
          refine hm_getA (j := 20) KM (fl_X4_70) rfl (Nat.le_of_ble_eq_true rfl) dX4_see_68 ?_
          refine hv_aload_n 0 dX4_see_71 rfl rfl ?_
          refine hm_getI (f := 33) KM (fl_X4_306) dX4_see_72 ?_
          refine hv_iload_n 3 dX4_see_75 rfl rfl ?_
          obtain ⟨s7, e_s7, h⟩ := hq_ob h
          refine hm_iastore KM e_s7 (Nat.le_of_ble_eq_true rfl) rfl dX4_see_76 ?_
          refine hv_aload_n 0 dX4_see_77 rfl rfl ?_
          refine hv_dup dX4_see_78 rfl ?_
          refine hm_getI (f := 33) KM (fl_X4_306) dX4_see_79 ?_
          refine hv_iconst (v := 1) dX4_see_82 (by decide) ?_
          refine hv_iadd dX4_see_83 ?_
          obtain ⟨s8, e_s8, h⟩ := hq_nm h
          refine hm_putI (f := 33) KM (fp_X4_306) e_s8 dX4_see_84 ?_
          refine hv_aload_n 0 dX4_see_87 rfl rfl ?_
          refine hm_getI (f := 33) KM (fl_X4_306) dX4_see_88 ?_
          refine hv_iconst (v := 1) dX4_see_91 (by decide) ?_
          refine hv_isub dX4_see_92 ?_
          obtain ⟨h1, h2⟩ := hq_ret h
          subst h1
          subst h2
          exact hv_iret rfl dX4_see_93
        · replace h := hq_ip c4 h
          refine hv_bipush (v := -3) dX4_see_44 (by decide) ?_
          obtain ⟨h1, h2⟩ := hq_ret h
          subst h1
          subst h2
          exact hv_iret rfl dX4_see_46
      · replace h := hq_ip c3 h
        refine hv_iconst (v := -1) dX4_see_33 (by decide) ?_
        obtain ⟨h1, h2⟩ := hq_ret h
        subst h1
        subst h2
        exact hv_iret rfl dX4_see_34
def m_isShelf (p1 : Int32) : Int32 :=
  (m_within p1.toInt64 (0 : Int64) (5 : Int64))
theorem bz_m_isShelf {p1 : Int32} : m_isShelf p1 &&& 1 = m_isShelf p1 := by
  unfold m_isShelf
  try unfold hk_nm
  repeat' split
  all_goals first | rfl | exact bz_m_within
abbrev N_m_isShelf (l : Launch) : hk_N := (l, cX4_isShelf, "HeadReckonsModel", 1, (some .boolean), 1, 25, false)
set_option maxHeartbeats 4000000 in
theorem wk_m_isShelf {l : Launch} {Gd : hk_G} {st : hk_St} {p1 : Int32} {r : Int32} (h : m_isShelf p1 = r) : hk_Met Gd l yX4_isShelf cX4_isShelf 1 (some .boolean) 1 25 [.int p1] st (some (.int r)) st := by
  refine hk_start "HeadReckonsModel" false (by decide +kernel) rfl (by decide) (Nat.le_of_ble_eq_true rfl) ?_
  show hk_V Gd (N_m_isShelf l) (hk_end Gd st (some (.int r)) st) 0 [(0, .int p1)] [] st
  unfold m_isShelf at h
  refine hv_iload_n 0 dX4_isShelf_0 rfl rfl ?_
  refine hv_i2l dX4_isShelf_1 ?_
  refine hv_lconst (v := 0) dX4_isShelf_2 (by decide) ?_
  refine hv_ldc2 q2005 dX4_isShelf_3 ?_
  refine hv_callS [.long p1.toInt64, .long (0 : Int64), .long (5 : Int64)] [] [.int (m_within p1.toInt64 (0 : Int64) (5 : Int64))] (wk_m_within rfl) cs_X4_113 rfl ⟨Nat.le_of_ble_eq_true rfl, Nat.le_of_ble_eq_true rfl⟩ rfl (Nat.le_of_ble_eq_true rfl) rfl dX4_isShelf_6 ?_
  subst h
  exact hv_zret (ty := .boolean) rfl (hk_nz bz_m_within) dX4_isShelf_9
def m_asks_L69b (p1 : Int32) (p2 : Int32) (p3 : Int32) (e0 : Int32 → hk_Ms → Option (Int32 × hk_Ms)) (rc : Int32 → Int32 → hk_Ms → Option (Int32 × hk_Ms)) (v3 : Int32) (v4 : Int32) (s5 : hk_Ms) : Option (Int32 × hk_Ms) :=
  hk_nm (fun (v8 : Int32) (v9 : Int32) (s10 : hk_Ms) =>
    if v9 = 0 then
      hk_nm (v8 + (0 : Int32)) fun x12 =>
      rc x12 v9 s10
    else
    hk_nm (v8 + (1 : Int32)) fun x13 =>
    rc x13 v9 s10) fun k213 =>
  hk_nm (fun (v14 : Int32) (s15 : hk_Ms) =>
    k213 v14 (0 : Int32) s15) fun k212 =>
  hk_nm (fun (v16 : Int32) (v17 : Int32) (s18 : hk_Ms) =>
    hk_nm ((((60 : Int32) * p1) + p2) + ((4 : Int32) * v16)) fun x19 =>
    if v17 = 0 then
      k212 v16 s18
    else
    (hm_lL s18 28 360 x19).bind fun x21 =>
    if (m_within x21 (1 : Int64) (9999 : Int64)) = 0 then
      k212 v16 s18
    else
    (hm_lL s18 28 360 (x19 + (1 : Int32))).bind fun x23 =>
    if (m_within x23 (1 : Int64) (9999 : Int64)) = 0 then
      k212 v16 s18
    else
    (hm_lL s18 28 360 x19).bind fun x25 =>
    (hm_lL s18 28 360 (x19 + (1 : Int32))).bind fun x26 =>
    (hm_lL s18 28 360 (x19 + (2 : Int32))).bind fun x27 =>
    (hm_lL s18 28 360 (x19 + (3 : Int32))).bind fun x28 =>
    (m_see (((10000 : Int32) * x25.toInt32) + x26.toInt32) x27.toInt32 x28.toInt32 s18).bind fun q29 =>
    if q29.1 < 0 then
      k212 v16 q29.2
    else
    k213 v16 (1 : Int32) q29.2) fun k102 =>
  if v4 = 0 then
    e0 v3 s5
  else
  if p3 ≤ v3 then
    e0 v3 s5
  else
  (hm_lI s5 27 6 p1).bind fun x33 =>
  if ((x33 - (4 : Int32)) - ((4 : Int32) * v3)) < p2 then
    k102 v3 (0 : Int32) s5
  else
  k102 v3 (1 : Int32) s5
def m_asks_L69 (p1 : Int32) (p2 : Int32) (p3 : Int32) (e0 : Int32 → hk_Ms → Option (Int32 × hk_Ms)) : Nat → Int32 → Int32 → hk_Ms → Option (Int32 × hk_Ms)
  | 0 => fun _ _ _ => none
  | n + 1 => m_asks_L69b p1 p2 p3 e0 (m_asks_L69 p1 p2 p3 e0 n)
def m_asks (p1 : Int32) (p2 : Int32) (p3 : Int32) (s0 : hk_Ms) : Option (Int32 × hk_Ms) :=
  hk_nm (fun (v1 : Int32) (s2 : hk_Ms) =>
    m_asks_L69 p1 p2 p3  (fun (v6 : Int32) (s7 : hk_Ms) =>
      some (v6, s7)) hk_F (0 : Int32) v1 s2) fun k67 =>
  hk_nm (fun (s35 : hk_Ms) =>
    k67 (0 : Int32) s35) fun k66 =>
  hk_nm (fun (s36 : hk_Ms) =>
    (hm_lI s36 26 6 p1).bind fun x37 =>
    if x37 = (52 : Int32) then
      if p2 < 0 then
      k66 s36
    else
    k67 (1 : Int32) s36
    else
    k66 s36) fun k44 =>
  if (m_isShelf p1) = 0 then
    some ((-1 : Int32), s0)
  else
  if (m_within p3.toInt64 (1 : Int64) (15 : Int64)) = 0 then
    some ((-1 : Int32), s0)
  else
  (hm_lI s0 26 6 p1).bind fun x42 =>
    if x42 < 0 then
      k44 s0
    else
    (hm_lI s0 26 6 p1).bind fun x44 =>
    if x44 = (52 : Int32) then
      k44 s0
    else
    some ((-12 : Int32), s0)
abbrev N_m_asks (l : Launch) : hk_N := (l, cX4_asks, "HeadReckonsModel", 7, (some .int), 3, 68, false)
set_option maxHeartbeats 4000000 in
theorem wk_m_asks_L69b {l : Launch} {Gd : hk_G} {m0 : Nat} {st : hk_St} (KM : hk_KM m0 st) {p1 : Int32} {p2 : Int32} {p3 : Int32} {s0 : hk_Ms} {r : Int32} {fin : hk_Ms} {e0 : Int32 → hk_Ms → Option (Int32 × hk_Ms)} {rc : Int32 → Int32 → hk_Ms → Option (Int32 × hk_Ms)} (hrc : ∀ (v3 : Int32) (v4 : Int32) (s5 : hk_Ms), rc v3 v4 s5 = some (r, fin) → hk_V Gd (N_m_asks l) (hk_end Gd (hk_mU m0 st s0) (some (.int r)) (hk_mU m0 st fin)) 69 [(0, .ref m0), (1, .int p1), (2, .int p2), (3, .int p3), (4, .int v3), (5, .int v4)] [] (hk_mU m0 st s5)) (he0 : ∀ (v6 : Int32) (s7 : hk_Ms), e0 v6 s7 = some (r, fin) → hk_V Gd (N_m_asks l) (hk_end Gd (hk_mU m0 st s0) (some (.int r)) (hk_mU m0 st fin)) 233 [(4, .int v6)] [] (hk_mU m0 st s7)) {v3 : Int32} {v4 : Int32} {s5 : hk_Ms} (h : m_asks_L69b p1 p2 p3 e0 rc v3 v4 s5 = some (r, fin)) : hk_V Gd (N_m_asks l) (hk_end Gd (hk_mU m0 st s0) (some (.int r)) (hk_mU m0 st fin)) 69 [(0, .ref m0), (1, .int p1), (2, .int p2), (3, .int p3), (4, .int v3), (5, .int v4)] [] (hk_mU m0 st s5) := by
  unfold m_asks_L69b at h
  obtain ⟨k213, e_k213, h⟩ := hq_nm h
  have wk213 : ∀ (v8 : Int32) (v9 : Int32) (s10 : hk_Ms), k213 v8 v9 s10 = some (r, fin) → hk_V Gd (N_m_asks l) (hk_end Gd (hk_mU m0 st s0) (some (.int r)) (hk_mU m0 st fin)) 213 [(0, .ref m0), (1, .int p1), (2, .int p2), (3, .int p3), (4, .int v8)] [.int v9] (hk_mU m0 st s10) := by
    intro v8 v9 s10 h
    rw [e_k213] at h
    refine hv_istore (L' := [(5, .int v9), (0, .ref m0), (1, .int p1), (2, .int p2), (3, .int p3), (4, .int v8)]) dX4_asks_213 (Nat.le_of_ble_eq_true rfl) rfl ?_
    refine hv_iload 5 dX4_asks_215 rfl ?_
    refine hv_iload 0 dX4_asks_217 rfl ?_
    refine hv_if_eq (tgt := 226) dX4_asks_219 (by decide) (fun c11 => ?_) (fun c11 => ?_)
    · replace h := hq_ip c11 h
      refine hv_iconst (v := 0) dX4_asks_226 (by decide) ?_
      refine hv_iadd dX4_asks_227 ?_
      obtain ⟨x12, e_x12, h⟩ := hq_nm h
      rw [← e_x12]
      refine hv_istore (L' := [(4, .int x12), (5, .int v9), (0, .ref m0), (1, .int p1), (2, .int p2), (3, .int p3)]) dX4_asks_228 (Nat.le_of_ble_eq_true rfl) rfl ?_
      refine hv_goto (tgt := 69) dX4_asks_230 (by decide) ?_
      refine hv_sub [2, 3, 4, 5, 0, 1] rfl ?_
      exact hrc _ _ _ h
    · replace h := hq_in c11 h
      refine hv_iconst (v := 1) dX4_asks_222 (by decide) ?_
      refine hv_goto (tgt := 227) dX4_asks_223 (by decide) ?_
      refine hv_iadd dX4_asks_227 ?_
      obtain ⟨x13, e_x13, h⟩ := hq_nm h
      rw [← e_x13]
      refine hv_istore (L' := [(4, .int x13), (5, .int v9), (0, .ref m0), (1, .int p1), (2, .int p2), (3, .int p3)]) dX4_asks_228 (Nat.le_of_ble_eq_true rfl) rfl ?_
      refine hv_goto (tgt := 69) dX4_asks_230 (by decide) ?_
      refine hv_sub [2, 3, 4, 5, 0, 1] rfl ?_
      exact hrc _ _ _ h
  clear e_k213
  obtain ⟨k212, e_k212, h⟩ := hq_nm h
  have wk212 : ∀ (v14 : Int32) (s15 : hk_Ms), k212 v14 s15 = some (r, fin) → hk_V Gd (N_m_asks l) (hk_end Gd (hk_mU m0 st s0) (some (.int r)) (hk_mU m0 st fin)) 212 [(0, .ref m0), (1, .int p1), (2, .int p2), (3, .int p3), (4, .int v14)] [] (hk_mU m0 st s15) := by
    intro v14 s15 h
    rw [e_k212] at h
    refine hv_iconst (v := 0) dX4_asks_212 (by decide) ?_
    exact wk213 _ _ _ h
  clear e_k212
  obtain ⟨k102, e_k102, h⟩ := hq_nm h
  have wk102 : ∀ (v16 : Int32) (v17 : Int32) (s18 : hk_Ms), k102 v16 v17 s18 = some (r, fin) → hk_V Gd (N_m_asks l) (hk_end Gd (hk_mU m0 st s0) (some (.int r)) (hk_mU m0 st fin)) 102 [(0, .ref m0), (1, .int p1), (2, .int p2), (3, .int p3), (4, .int v16)] [.int v17] (hk_mU m0 st s18) := by
    intro v16 v17 s18 h
    rw [e_k102] at h
    refine hv_istore (L' := [(5, .int v17), (0, .ref m0), (1, .int p1), (2, .int p2), (3, .int p3), (4, .int v16)]) dX4_asks_102 (Nat.le_of_ble_eq_true rfl) rfl ?_
    refine hv_bipush (v := 60) dX4_asks_104 (by decide) ?_
    refine hv_iload_n 2 dX4_asks_106 rfl rfl ?_
    refine hv_imul dX4_asks_107 ?_
    refine hv_iload_n 3 dX4_asks_108 rfl rfl ?_
    refine hv_iadd dX4_asks_109 ?_
    refine hv_iconst (v := 4) dX4_asks_110 (by decide) ?_
    refine hv_iload 5 dX4_asks_111 rfl ?_
    refine hv_imul dX4_asks_113 ?_
    refine hv_iadd dX4_asks_114 ?_
    obtain ⟨x19, e_x19, h⟩ := hq_nm h
    rw [← e_x19]
    refine hv_istore (L' := [(6, .int x19), (5, .int v17), (0, .ref m0), (1, .int p1), (2, .int p2), (3, .int p3), (4, .int v16)]) dX4_asks_115 (Nat.le_of_ble_eq_true rfl) rfl ?_
    refine hv_iload 1 dX4_asks_117 rfl ?_
    refine hv_if_eq (tgt := 212) dX4_asks_119 (by decide) (fun c20 => ?_) (fun c20 => ?_)
    · replace h := hq_ip c20 h
      refine hv_sub [2, 3, 4, 5, 6] rfl ?_
      exact wk212 _ _ h
    · replace h := hq_in c20 h
      refine hv_aload_n 2 dX4_asks_122 rfl rfl ?_
      refine hm_getA (j := 28) KM (fl_X4_94) rfl (Nat.le_of_ble_eq_true rfl) dX4_asks_123 ?_
      refine hv_iload 0 dX4_asks_126 rfl ?_
      obtain ⟨x21, e_x21, h⟩ := hq_ob h
      refine hm_laload KM e_x21 ⟨Nat.le_of_ble_eq_true rfl, Nat.le_of_ble_eq_true rfl⟩ rfl dX4_asks_128 ?_
      refine hv_lconst (v := 1) dX4_asks_129 (by decide) ?_
      refine hv_ldc2 q1873 dX4_asks_130 ?_
      refine hv_callS [.long x21, .long (1 : Int64), .long (9999 : Int64)] [] [.int (m_within x21 (1 : Int64) (9999 : Int64))] (wk_m_within rfl) cs_X4_113 rfl ⟨Nat.le_of_ble_eq_true rfl, Nat.le_of_ble_eq_true rfl⟩ rfl (Nat.le_of_ble_eq_true rfl) rfl dX4_asks_133 ?_
      refine hv_if_eq (tgt := 212) dX4_asks_136 (by decide) (fun c22 => ?_) (fun c22 => ?_)
      · replace h := hq_ip c22 h
        refine hv_sub [2, 3, 4, 5, 6] rfl ?_
        exact wk212 _ _ h
      · replace h := hq_in c22 h
        refine hv_aload_n 2 dX4_asks_139 rfl rfl ?_
        refine hm_getA (j := 28) KM (fl_X4_94) rfl (Nat.le_of_ble_eq_true rfl) dX4_asks_140 ?_
        refine hv_iload 0 dX4_asks_143 rfl ?_
        refine hv_iconst (v := 1) dX4_asks_145 (by decide) ?_
        refine hv_iadd dX4_asks_146 ?_
        obtain ⟨x23, e_x23, h⟩ := hq_ob h
        refine hm_laload KM e_x23 ⟨Nat.le_of_ble_eq_true rfl, Nat.le_of_ble_eq_true rfl⟩ rfl dX4_asks_147 ?_
        refine hv_lconst (v := 1) dX4_asks_148 (by decide) ?_
        refine hv_ldc2 q1873 dX4_asks_149 ?_
        refine hv_callS [.long x23, .long (1 : Int64), .long (9999 : Int64)] [] [.int (m_within x23 (1 : Int64) (9999 : Int64))] (wk_m_within rfl) cs_X4_113 rfl ⟨Nat.le_of_ble_eq_true rfl, Nat.le_of_ble_eq_true rfl⟩ rfl (Nat.le_of_ble_eq_true rfl) rfl dX4_asks_152 ?_
        refine hv_if_eq (tgt := 212) dX4_asks_155 (by decide) (fun c24 => ?_) (fun c24 => ?_)
        · replace h := hq_ip c24 h
          refine hv_sub [2, 3, 4, 5, 6] rfl ?_
          exact wk212 _ _ h
        · replace h := hq_in c24 h
          refine hv_aload_n 2 dX4_asks_158 rfl rfl ?_
          refine hv_sipush (v := 10000) dX4_asks_159 (by decide) ?_
          refine hv_aload_n 2 dX4_asks_162 rfl rfl ?_
          refine hm_getA (j := 28) KM (fl_X4_94) rfl (Nat.le_of_ble_eq_true rfl) dX4_asks_163 ?_
          refine hv_iload 0 dX4_asks_166 rfl ?_
          obtain ⟨x25, e_x25, h⟩ := hq_ob h
          refine hm_laload KM e_x25 ⟨Nat.le_of_ble_eq_true rfl, Nat.le_of_ble_eq_true rfl⟩ rfl dX4_asks_168 ?_
          refine hv_l2i dX4_asks_169 ?_
          refine hv_imul dX4_asks_170 ?_
          refine hv_aload_n 2 dX4_asks_171 rfl rfl ?_
          refine hm_getA (j := 28) KM (fl_X4_94) rfl (Nat.le_of_ble_eq_true rfl) dX4_asks_172 ?_
          refine hv_iload 0 dX4_asks_175 rfl ?_
          refine hv_iconst (v := 1) dX4_asks_177 (by decide) ?_
          refine hv_iadd dX4_asks_178 ?_
          obtain ⟨x26, e_x26, h⟩ := hq_ob h
          refine hm_laload KM e_x26 ⟨Nat.le_of_ble_eq_true rfl, Nat.le_of_ble_eq_true rfl⟩ rfl dX4_asks_179 ?_
          refine hv_l2i dX4_asks_180 ?_
          refine hv_iadd dX4_asks_181 ?_
          refine hv_aload_n 2 dX4_asks_182 rfl rfl ?_
          refine hm_getA (j := 28) KM (fl_X4_94) rfl (Nat.le_of_ble_eq_true rfl) dX4_asks_183 ?_
          refine hv_iload 0 dX4_asks_186 rfl ?_
          refine hv_iconst (v := 2) dX4_asks_188 (by decide) ?_
          refine hv_iadd dX4_asks_189 ?_
          obtain ⟨x27, e_x27, h⟩ := hq_ob h
          refine hm_laload KM e_x27 ⟨Nat.le_of_ble_eq_true rfl, Nat.le_of_ble_eq_true rfl⟩ rfl dX4_asks_190 ?_
          refine hv_l2i dX4_asks_191 ?_
          refine hv_aload_n 2 dX4_asks_192 rfl rfl ?_
          refine hm_getA (j := 28) KM (fl_X4_94) rfl (Nat.le_of_ble_eq_true rfl) dX4_asks_193 ?_
          refine hv_iload 0 dX4_asks_196 rfl ?_
          refine hv_iconst (v := 3) dX4_asks_198 (by decide) ?_
          refine hv_iadd dX4_asks_199 ?_
          obtain ⟨x28, e_x28, h⟩ := hq_ob h
          refine hm_laload KM e_x28 ⟨Nat.le_of_ble_eq_true rfl, Nat.le_of_ble_eq_true rfl⟩ rfl dX4_asks_200 ?_
          refine hv_l2i dX4_asks_201 ?_
          obtain ⟨q29, e_q29, h⟩ := hq_ob h
          refine hv_callV [.int (((10000 : Int32) * x25.toInt32) + x26.toInt32), .int x27.toInt32, .int x28.toInt32] [] [.int q29.1] (wk_m_see KM e_q29) cs_X4_314 KM.recv rfl ⟨Nat.le_of_ble_eq_true rfl, Nat.le_of_ble_eq_true rfl⟩ rfl (Nat.le_of_ble_eq_true rfl) rfl dX4_asks_202 ?_
          refine hv_if_lt (tgt := 212) dX4_asks_205 (by decide) (fun c30 => ?_) (fun c30 => ?_)
          · replace h := hq_ip c30 h
            refine hv_sub [2, 3, 4, 5, 6] rfl ?_
            exact wk212 _ _ h
          · replace h := hq_in c30 h
            refine hv_iconst (v := 1) dX4_asks_208 (by decide) ?_
            refine hv_goto (tgt := 213) dX4_asks_209 (by decide) ?_
            refine hv_sub [2, 3, 4, 5, 6] rfl ?_
            exact wk213 _ _ _ h
  clear e_k102
  refine hv_iload 5 dX4_asks_69 rfl ?_
  refine hv_if_eq (tgt := 233) dX4_asks_71 (by decide) (fun c31 => ?_) (fun c31 => ?_)
  · replace h := hq_ip c31 h
    refine hv_sub [4] rfl ?_
    exact he0 _ _ h
  · replace h := hq_in c31 h
    refine hv_iload 4 dX4_asks_74 rfl ?_
    refine hv_iload_n 3 dX4_asks_76 rfl rfl ?_
    refine hv_icmp_ge (tgt := 233) dX4_asks_77 (by decide) (fun c32 => ?_) (fun c32 => ?_)
    · replace h := hq_ip c32 h
      refine hv_sub [4] rfl ?_
      exact he0 _ _ h
    · replace h := hq_in c32 h
      refine hv_iload_n 2 dX4_asks_80 rfl rfl ?_
      refine hv_aload_n 0 dX4_asks_81 rfl rfl ?_
      refine hm_getA (j := 27) KM (fl_X4_91) rfl (Nat.le_of_ble_eq_true rfl) dX4_asks_82 ?_
      refine hv_iload_n 1 dX4_asks_85 rfl rfl ?_
      obtain ⟨x33, e_x33, h⟩ := hq_ob h
      refine hm_iaload KM e_x33 (Nat.le_of_ble_eq_true rfl) rfl dX4_asks_86 ?_
      refine hv_iconst (v := 4) dX4_asks_87 (by decide) ?_
      refine hv_isub dX4_asks_88 ?_
      refine hv_iconst (v := 4) dX4_asks_89 (by decide) ?_
      refine hv_iload 4 dX4_asks_90 rfl ?_
      refine hv_imul dX4_asks_92 ?_
      refine hv_isub dX4_asks_93 ?_
      refine hv_icmp_gt (tgt := 101) dX4_asks_94 (by decide) (fun c34 => ?_) (fun c34 => ?_)
      · replace h := hq_ip c34 h
        refine hv_iconst (v := 0) dX4_asks_101 (by decide) ?_
        refine hv_sub [0, 1, 2, 3, 4] rfl ?_
        exact wk102 _ _ _ h
      · replace h := hq_in c34 h
        refine hv_iconst (v := 1) dX4_asks_97 (by decide) ?_
        refine hv_goto (tgt := 102) dX4_asks_98 (by decide) ?_
        refine hv_sub [0, 1, 2, 3, 4] rfl ?_
        exact wk102 _ _ _ h
theorem wk_m_asks_L69 {l : Launch} {Gd : hk_G} {m0 : Nat} {st : hk_St} (KM : hk_KM m0 st) {p1 : Int32} {p2 : Int32} {p3 : Int32} {s0 : hk_Ms} {r : Int32} {fin : hk_Ms} {e0 : Int32 → hk_Ms → Option (Int32 × hk_Ms)} (he0 : ∀ (v6 : Int32) (s7 : hk_Ms), e0 v6 s7 = some (r, fin) → hk_V Gd (N_m_asks l) (hk_end Gd (hk_mU m0 st s0) (some (.int r)) (hk_mU m0 st fin)) 233 [(4, .int v6)] [] (hk_mU m0 st s7)) : ∀ (n : Nat) (v3 : Int32) (v4 : Int32) (s5 : hk_Ms), m_asks_L69 p1 p2 p3 e0 n v3 v4 s5 = some (r, fin) → hk_V Gd (N_m_asks l) (hk_end Gd (hk_mU m0 st s0) (some (.int r)) (hk_mU m0 st fin)) 69 [(0, .ref m0), (1, .int p1), (2, .int p2), (3, .int p3), (4, .int v3), (5, .int v4)] [] (hk_mU m0 st s5) := by
  intro n
  induction n with
  | zero => intro v3 v4 s5 h; cases h
  | succ n ih => intro v3 v4 s5 h; exact wk_m_asks_L69b KM ih he0 h
set_option maxHeartbeats 4000000 in
theorem wk_m_asks {l : Launch} {Gd : hk_G} {m0 : Nat} {st : hk_St} (KM : hk_KM m0 st) {p1 : Int32} {p2 : Int32} {p3 : Int32} {s0 : hk_Ms} {r : Int32} {fin : hk_Ms} (h : m_asks p1 p2 p3 s0 = some (r, fin)) : hk_Met Gd l yX4_asks cX4_asks 7 (some .int) 3 68 [.ref m0, .int p1, .int p2, .int p3] (hk_mU m0 st s0) (some (.int r)) (hk_mU m0 st fin) := by
  refine hk_start "HeadReckonsModel" false (by decide +kernel) rfl (by decide) (Nat.le_of_ble_eq_true rfl) ?_
  show hk_V Gd (N_m_asks l) (hk_end Gd (hk_mU m0 st s0) (some (.int r)) (hk_mU m0 st fin)) 0 [(0, .ref m0), (1, .int p1), (2, .int p2), (3, .int p3)] [] (hk_mU m0 st s0)
  unfold m_asks at h
  obtain ⟨k67, e_k67, h⟩ := hq_nm h
  have wk67 : ∀ (v1 : Int32) (s2 : hk_Ms), k67 v1 s2 = some (r, fin) → hk_V Gd (N_m_asks l) (hk_end Gd (hk_mU m0 st s0) (some (.int r)) (hk_mU m0 st fin)) 67 [(0, .ref m0), (1, .int p1), (2, .int p2), (3, .int p3), (4, .int (0 : Int32))] [.int v1] (hk_mU m0 st s2) := by
    intro v1 s2 h
    rw [e_k67] at h
    refine hv_istore (L' := [(5, .int v1), (0, .ref m0), (1, .int p1), (2, .int p2), (3, .int p3), (4, .int (0 : Int32))]) dX4_asks_67 (Nat.le_of_ble_eq_true rfl) rfl ?_
    refine hv_sub [1, 2, 3, 4, 5, 0] rfl ?_
    refine wk_m_asks_L69 KM ?_ hk_F _ _ _ h
    · intro v6 s7 h
      refine hv_iload 0 dX4_asks_233 rfl ?_
      obtain ⟨h1, h2⟩ := hq_ret h
      subst h1
      subst h2
      exact hv_iret rfl dX4_asks_235
  clear e_k67
  obtain ⟨k66, e_k66, h⟩ := hq_nm h
  have wk66 : ∀ (s35 : hk_Ms), k66 s35 = some (r, fin) → hk_V Gd (N_m_asks l) (hk_end Gd (hk_mU m0 st s0) (some (.int r)) (hk_mU m0 st fin)) 66 [(0, .ref m0), (1, .int p1), (2, .int p2), (3, .int p3), (4, .int (0 : Int32))] [] (hk_mU m0 st s35) := by
    intro s35 h
    rw [e_k66] at h
    refine hv_iconst (v := 0) dX4_asks_66 (by decide) ?_
    exact wk67 _ _ h
  clear e_k66
  obtain ⟨k44, e_k44, h⟩ := hq_nm h
  have wk44 : ∀ (s36 : hk_Ms), k44 s36 = some (r, fin) → hk_V Gd (N_m_asks l) (hk_end Gd (hk_mU m0 st s0) (some (.int r)) (hk_mU m0 st fin)) 44 [(0, .ref m0), (1, .int p1), (2, .int p2), (3, .int p3)] [] (hk_mU m0 st s36) := by
    intro s36 h
    rw [e_k44] at h
    refine hv_iconst (v := 0) dX4_asks_44 (by decide) ?_
    refine hv_istore (L' := [(4, .int (0 : Int32)), (0, .ref m0), (1, .int p1), (2, .int p2), (3, .int p3)]) dX4_asks_45 (Nat.le_of_ble_eq_true rfl) rfl ?_
    refine hv_aload_n 1 dX4_asks_47 rfl rfl ?_
    refine hm_getA (j := 26) KM (fl_X4_88) rfl (Nat.le_of_ble_eq_true rfl) dX4_asks_48 ?_
    refine hv_iload_n 2 dX4_asks_51 rfl rfl ?_
    obtain ⟨x37, e_x37, h⟩ := hq_ob h
    refine hm_iaload KM e_x37 (Nat.le_of_ble_eq_true rfl) rfl dX4_asks_52 ?_
    refine hv_bipush (v := 52) dX4_asks_53 (by decide) ?_
    refine hv_icmp_ne (tgt := 66) dX4_asks_55 (by decide) (fun c38 => ?_) (fun c38 => ?_)
    · replace h := hq_in c38 h
      refine hv_sub [1, 2, 3, 4, 0] rfl ?_
      exact wk66 _ h
    · replace h := hq_ip c38 h
      refine hv_iload_n 3 dX4_asks_58 rfl rfl ?_
      refine hv_if_lt (tgt := 66) dX4_asks_59 (by decide) (fun c39 => ?_) (fun c39 => ?_)
      · replace h := hq_ip c39 h
        refine hv_sub [1, 2, 3, 4, 0] rfl ?_
        exact wk66 _ h
      · replace h := hq_in c39 h
        refine hv_iconst (v := 1) dX4_asks_62 (by decide) ?_
        refine hv_goto (tgt := 67) dX4_asks_63 (by decide) ?_
        refine hv_sub [1, 2, 3, 4, 0] rfl ?_
        exact wk67 _ _ h
  clear e_k44
  refine hv_iload_n 1 dX4_asks_0 rfl rfl ?_
  refine hv_callS [.int p1] [] [.int (m_isShelf p1)] (wk_m_isShelf rfl) cs_X4_309 rfl ⟨Nat.le_of_ble_eq_true rfl, Nat.le_of_ble_eq_true rfl⟩ rfl (Nat.le_of_ble_eq_true rfl) rfl dX4_asks_1 ?_
  refine hv_if_eq (tgt := 19) dX4_asks_4 (by decide) (fun c40 => ?_) (fun c40 => ?_)
  · replace h := hq_ip c40 h
    refine hv_iconst (v := -1) dX4_asks_19 (by decide) ?_
    obtain ⟨h1, h2⟩ := hq_ret h
    subst h1
    subst h2
    exact hv_iret rfl dX4_asks_20
  · replace h := hq_in c40 h
    refine hv_iload_n 3 dX4_asks_7 rfl rfl ?_
    refine hv_i2l dX4_asks_8 ?_
    refine hv_lconst (v := 1) dX4_asks_9 (by decide) ?_
    refine hv_ldc2 q2006 dX4_asks_10 ?_
    refine hv_callS [.long p3.toInt64, .long (1 : Int64), .long (15 : Int64)] [] [.int (m_within p3.toInt64 (1 : Int64) (15 : Int64))] (wk_m_within rfl) cs_X4_113 rfl ⟨Nat.le_of_ble_eq_true rfl, Nat.le_of_ble_eq_true rfl⟩ rfl (Nat.le_of_ble_eq_true rfl) rfl dX4_asks_13 ?_
    refine hv_if_ne (tgt := 21) dX4_asks_16 (by decide) (fun c41 => ?_) (fun c41 => ?_)
    · replace h := hq_in c41 h
      refine hv_aload_n 0 dX4_asks_21 rfl rfl ?_
      refine hm_getA (j := 26) KM (fl_X4_88) rfl (Nat.le_of_ble_eq_true rfl) dX4_asks_22 ?_
      refine hv_iload_n 1 dX4_asks_25 rfl rfl ?_
      obtain ⟨x42, e_x42, h⟩ := hq_ob h
      refine hm_iaload KM e_x42 (Nat.le_of_ble_eq_true rfl) rfl dX4_asks_26 ?_
      refine hv_if_lt (tgt := 44) dX4_asks_27 (by decide) (fun c43 => ?_) (fun c43 => ?_)
      · replace h := hq_ip c43 h
        exact wk44 _ h
      · replace h := hq_in c43 h
        refine hv_aload_n 0 dX4_asks_30 rfl rfl ?_
        refine hm_getA (j := 26) KM (fl_X4_88) rfl (Nat.le_of_ble_eq_true rfl) dX4_asks_31 ?_
        refine hv_iload_n 1 dX4_asks_34 rfl rfl ?_
        obtain ⟨x44, e_x44, h⟩ := hq_ob h
        refine hm_iaload KM e_x44 (Nat.le_of_ble_eq_true rfl) rfl dX4_asks_35 ?_
        refine hv_bipush (v := 52) dX4_asks_36 (by decide) ?_
        refine hv_icmp_eq (tgt := 44) dX4_asks_38 (by decide) (fun c45 => ?_) (fun c45 => ?_)
        · replace h := hq_ip c45 h
          exact wk44 _ h
        · replace h := hq_in c45 h
          refine hv_bipush (v := -12) dX4_asks_41 (by decide) ?_
          obtain ⟨h1, h2⟩ := hq_ret h
          subst h1
          subst h2
          exact hv_iret rfl dX4_asks_43
    · replace h := hq_ip c41 h
      refine hv_iconst (v := -1) dX4_asks_19 (by decide) ?_
      obtain ⟨h1, h2⟩ := hq_ret h
      subst h1
      subst h2
      exact hv_iret rfl dX4_asks_20
def m_offBy (p1 : Int32) (s0 : hk_Ms) : Option (Int32) :=
  (hm_lI s0 20 40 p1).bind fun x1 =>
  (hm_lI s0 18 40 p1).bind fun x2 =>
  (hm_lI s0 18 40 p1).bind fun x3 =>
  some (x1 - ((x2 / (10000 : Int32)) * (x3 - x3 / (10000 : Int32) * (10000 : Int32))))
abbrev N_m_offBy (l : Launch) : hk_N := (l, cX4_offBy, "HeadReckonsModel", 2, (some .int), 0, 0, false)
set_option maxHeartbeats 4000000 in
theorem wk_m_offBy {l : Launch} {Gd : hk_G} {m0 : Nat} {st : hk_St} (KM : hk_KM m0 st) {p1 : Int32} {s0 : hk_Ms} {r : Int32} (h : m_offBy p1 s0 = some r) : hk_Met Gd l yX4_offBy cX4_offBy 2 (some .int) 0 0 [.ref m0, .int p1] (hk_mU m0 st s0) (some (.int r)) (hk_mU m0 st s0) := by
  refine hk_start "HeadReckonsModel" false (by decide +kernel) rfl (by decide) (Nat.le_of_ble_eq_true rfl) ?_
  show hk_V Gd (N_m_offBy l) (hk_end Gd (hk_mU m0 st s0) (some (.int r)) (hk_mU m0 st s0)) 0 [(0, .ref m0), (1, .int p1)] [] (hk_mU m0 st s0)
  unfold m_offBy at h
  refine hv_aload_n 0 dX4_offBy_0 rfl rfl ?_
  refine hm_getA (j := 20) KM (fl_X4_70) rfl (Nat.le_of_ble_eq_true rfl) dX4_offBy_1 ?_
  refine hv_iload_n 1 dX4_offBy_4 rfl rfl ?_
  obtain ⟨x1, e_x1, h⟩ := hq_ob h
  refine hm_iaload KM e_x1 (Nat.le_of_ble_eq_true rfl) rfl dX4_offBy_5 ?_
  refine hv_aload_n 0 dX4_offBy_6 rfl rfl ?_
  refine hm_getA (j := 18) KM (fl_X4_64) rfl (Nat.le_of_ble_eq_true rfl) dX4_offBy_7 ?_
  refine hv_iload_n 1 dX4_offBy_10 rfl rfl ?_
  obtain ⟨x2, e_x2, h⟩ := hq_ob h
  refine hm_iaload KM e_x2 (Nat.le_of_ble_eq_true rfl) rfl dX4_offBy_11 ?_
  refine hv_sipush (v := 10000) dX4_offBy_12 (by decide) ?_
  refine hv_idiv (by decide) dX4_offBy_15 ?_
  refine hv_aload_n 0 dX4_offBy_16 rfl rfl ?_
  refine hm_getA (j := 18) KM (fl_X4_64) rfl (Nat.le_of_ble_eq_true rfl) dX4_offBy_17 ?_
  refine hv_iload_n 1 dX4_offBy_20 rfl rfl ?_
  obtain ⟨x3, e_x3, h⟩ := hq_ob h
  refine hm_iaload KM e_x3 (Nat.le_of_ble_eq_true rfl) rfl dX4_offBy_21 ?_
  refine hv_sipush (v := 10000) dX4_offBy_22 (by decide) ?_
  refine hv_irem (by decide) dX4_offBy_25 ?_
  refine hv_imul dX4_offBy_26 ?_
  refine hv_isub dX4_offBy_27 ?_
  have h := Option.some.inj h
  subst h
  exact hv_iret rfl dX4_offBy_28
def m_seen (p1 : Int32) (p2 : Int32) (s0 : hk_Ms) : Option (Int32) :=
  if (m_within p1.toInt64 (0 : Int64) (((hm_I s0 33) - (1 : Int32)).toInt64)) = 0 then
    some (-2000000000 : Int32)
  else
  if p2 = 0 then
      (hm_lI s0 18 40 p1).bind fun x2 =>
      some (x2 / (10000 : Int32))
    else
    if p2 = 1 then
      (hm_lI s0 18 40 p1).bind fun x4 =>
      some (x4 - x4 / (10000 : Int32) * (10000 : Int32))
    else
    if p2 = 2 then
      (hm_lI s0 19 40 p1).bind fun x6 =>
      some x6
    else
    if p2 = 3 then
      (m_offBy p1 s0).bind fun x8 =>
      some x8
    else
    some (-2000000000 : Int32)
abbrev N_m_seen (l : Launch) : hk_N := (l, cX4_seen, "HeadReckonsModel", 3, (some .int), 1, 25, false)
set_option maxHeartbeats 4000000 in
theorem wk_m_seen {l : Launch} {Gd : hk_G} {m0 : Nat} {st : hk_St} (KM : hk_KM m0 st) {p1 : Int32} {p2 : Int32} {s0 : hk_Ms} {r : Int32} (h : m_seen p1 p2 s0 = some r) : hk_Met Gd l yX4_seen cX4_seen 3 (some .int) 1 25 [.ref m0, .int p1, .int p2] (hk_mU m0 st s0) (some (.int r)) (hk_mU m0 st s0) := by
  refine hk_start "HeadReckonsModel" false (by decide +kernel) rfl (by decide) (Nat.le_of_ble_eq_true rfl) ?_
  show hk_V Gd (N_m_seen l) (hk_end Gd (hk_mU m0 st s0) (some (.int r)) (hk_mU m0 st s0)) 0 [(0, .ref m0), (1, .int p1), (2, .int p2)] [] (hk_mU m0 st s0)
  unfold m_seen at h
  refine hv_iload_n 1 dX4_seen_0 rfl rfl ?_
  refine hv_i2l dX4_seen_1 ?_
  refine hv_lconst (v := 0) dX4_seen_2 (by decide) ?_
  refine hv_aload_n 0 dX4_seen_3 rfl rfl ?_
  refine hm_getI (f := 33) KM (fl_X4_306) dX4_seen_4 ?_
  refine hv_iconst (v := 1) dX4_seen_7 (by decide) ?_
  refine hv_isub dX4_seen_8 ?_
  refine hv_i2l dX4_seen_9 ?_
  refine hv_callS [.long p1.toInt64, .long (0 : Int64), .long (((hm_I s0 33) - (1 : Int32)).toInt64)] [] [.int (m_within p1.toInt64 (0 : Int64) (((hm_I s0 33) - (1 : Int32)).toInt64))] (wk_m_within rfl) cs_X4_113 rfl ⟨Nat.le_of_ble_eq_true rfl, Nat.le_of_ble_eq_true rfl⟩ rfl (Nat.le_of_ble_eq_true rfl) rfl dX4_seen_10 ?_
  refine hv_if_ne (tgt := 20) dX4_seen_13 (by decide) (fun c1 => ?_) (fun c1 => ?_)
  · replace h := hq_in c1 h
    refine hv_iload_n 2 dX4_seen_20 rfl rfl ?_
    by_cases c3 : p2 = 0
    · replace h := hq_ip c3 h
      refine hv_tableIn (tgt := 52) (off := 31) dX4_seen_21 (by rw [c3]; decide) (by rw [c3]; decide) (by rw [c3]; rfl) (by decide) ?_
      refine hv_aload_n 0 dX4_seen_52 rfl rfl ?_
      refine hm_getA (j := 18) KM (fl_X4_64) rfl (Nat.le_of_ble_eq_true rfl) dX4_seen_53 ?_
      refine hv_iload_n 1 dX4_seen_56 rfl rfl ?_
      obtain ⟨x2, e_x2, h⟩ := hq_ob h
      refine hm_iaload KM e_x2 (Nat.le_of_ble_eq_true rfl) rfl dX4_seen_57 ?_
      refine hv_sipush (v := 10000) dX4_seen_58 (by decide) ?_
      refine hv_idiv (by decide) dX4_seen_61 ?_
      have h := Option.some.inj h
      subst h
      exact hv_iret rfl dX4_seen_62
    replace h := hq_in c3 h
    by_cases c5 : p2 = 1
    · replace h := hq_ip c5 h
      refine hv_tableIn (tgt := 63) (off := 42) dX4_seen_21 (by rw [c5]; decide) (by rw [c5]; decide) (by rw [c5]; rfl) (by decide) ?_
      refine hv_aload_n 0 dX4_seen_63 rfl rfl ?_
      refine hm_getA (j := 18) KM (fl_X4_64) rfl (Nat.le_of_ble_eq_true rfl) dX4_seen_64 ?_
      refine hv_iload_n 1 dX4_seen_67 rfl rfl ?_
      obtain ⟨x4, e_x4, h⟩ := hq_ob h
      refine hm_iaload KM e_x4 (Nat.le_of_ble_eq_true rfl) rfl dX4_seen_68 ?_
      refine hv_sipush (v := 10000) dX4_seen_69 (by decide) ?_
      refine hv_irem (by decide) dX4_seen_72 ?_
      have h := Option.some.inj h
      subst h
      exact hv_iret rfl dX4_seen_73
    replace h := hq_in c5 h
    by_cases c7 : p2 = 2
    · replace h := hq_ip c7 h
      refine hv_tableIn (tgt := 74) (off := 53) dX4_seen_21 (by rw [c7]; decide) (by rw [c7]; decide) (by rw [c7]; rfl) (by decide) ?_
      refine hv_aload_n 0 dX4_seen_74 rfl rfl ?_
      refine hm_getA (j := 19) KM (fl_X4_67) rfl (Nat.le_of_ble_eq_true rfl) dX4_seen_75 ?_
      refine hv_iload_n 1 dX4_seen_78 rfl rfl ?_
      obtain ⟨x6, e_x6, h⟩ := hq_ob h
      refine hm_iaload KM e_x6 (Nat.le_of_ble_eq_true rfl) rfl dX4_seen_79 ?_
      have h := Option.some.inj h
      subst h
      exact hv_iret rfl dX4_seen_80
    replace h := hq_in c7 h
    by_cases c9 : p2 = 3
    · replace h := hq_ip c9 h
      refine hv_tableIn (tgt := 81) (off := 60) dX4_seen_21 (by rw [c9]; decide) (by rw [c9]; decide) (by rw [c9]; rfl) (by decide) ?_
      refine hv_aload_n 0 dX4_seen_81 rfl rfl ?_
      refine hv_iload_n 1 dX4_seen_82 rfl rfl ?_
      obtain ⟨x8, e_x8, h⟩ := hq_ob h
      refine hv_callV [.int p1] [] [.int x8] (wk_m_offBy KM e_x8) cs_X4_317 KM.recv rfl ⟨Nat.le_of_ble_eq_true rfl, Nat.le_of_ble_eq_true rfl⟩ rfl (Nat.le_of_ble_eq_true rfl) rfl dX4_seen_83 ?_
      have h := Option.some.inj h
      subst h
      exact hv_iret rfl dX4_seen_86
    replace h := hq_in c9 h
    refine hv_tableD (tgt := 87) [0, 1, 2, 3] dX4_seen_21 (by decide) (by decide) (List.forall_mem_cons.mpr ⟨lv_neT c3 (by decide), (List.forall_mem_cons.mpr ⟨lv_neT c5 (by decide), (List.forall_mem_cons.mpr ⟨lv_neT c7 (by decide), (List.forall_mem_cons.mpr ⟨lv_neT c9 (by decide), (fun _ q => absurd q List.not_mem_nil)⟩)⟩)⟩)⟩) (by decide) ?_
    refine hv_ldcw q1966 dX4_seen_87 ?_
    have h := Option.some.inj h
    subst h
    exact hv_iret rfl dX4_seen_90
  · replace h := hq_ip c1 h
    refine hv_ldcw q1966 dX4_seen_16 ?_
    have h := Option.some.inj h
    subst h
    exact hv_iret rfl dX4_seen_19
def m_canSlip_L38b (p1 : Int32) (p2 : Int32) (s0 : hk_Ms) (e0 : Unit → Option (Int32)) (rc : Int32 → Option (Int32)) (v3 : Int32) : Option (Int32) :=
  (hm_lI s0 12 200 p1).bind fun x4 =>
  (m_digits x4).bind fun x5 =>
  if x5 ≤ v3 then
    e0 ()
  else
  (hm_lI s0 11 200 p1).bind fun x7 =>
  if x7 = (1 : Int32) then
    (m_tens v3).bind fun x9 =>
  (hm_lI s0 16 200 p1).bind fun x10 =>
  (m_tens x10).bind fun x11 =>
  if p2 = ((-x9) * x11) then
    some (1 : Int32)
  else
  hk_nm (v3 + (1 : Int32)) fun x13 =>
    rc x13
  else
  e0 ()
def m_canSlip_L38 (p1 : Int32) (p2 : Int32) (s0 : hk_Ms) (e0 : Unit → Option (Int32)) : Nat → Int32 → Option (Int32)
  | 0 => fun _ => none
  | n + 1 => m_canSlip_L38b p1 p2 s0 e0 (m_canSlip_L38 p1 p2 s0 e0 n)
def m_canSlip (p1 : Int32) (p2 : Int32) (s0 : hk_Ms) : Option (Int32) :=
  (hm_lI s0 11 200 p1).bind fun x1 =>
  if x1 = 0 then
    (hm_lI s0 15 200 p1).bind fun x14 =>
  if p2 = x14 then
    some (1 : Int32)
  else
  (hm_lI s0 15 200 p1).bind fun x16 =>
  if p2 = (-x16) then
    some (1 : Int32)
  else
  some (0 : Int32)
  else
  m_canSlip_L38 p1 p2 s0  (fun (_ : Unit) =>
      some (0 : Int32)) hk_F (0 : Int32) 
abbrev N_m_canSlip (l : Launch) : hk_N := (l, cX4_canSlip, "HeadReckonsModel", 4, (some .boolean), 1, 22, false)
set_option maxHeartbeats 4000000 in
theorem wk_m_canSlip_L38b {l : Launch} {Gd : hk_G} {m0 : Nat} {st : hk_St} (KM : hk_KM m0 st) {p1 : Int32} {p2 : Int32} {s0 : hk_Ms} {r : Int32} {e0 : Unit → Option (Int32)} {rc : Int32 → Option (Int32)} (hrc : ∀ (v3 : Int32), rc v3 = some r → hk_V Gd (N_m_canSlip l) (hk_end Gd (hk_mU m0 st s0) (some (.int r)) (hk_mU m0 st s0)) 38 [(0, .ref m0), (1, .int p1), (2, .int p2), (3, .int v3)] [] (hk_mU m0 st s0)) (he0 : ∀ (_ : Unit), e0 () = some r → hk_V Gd (N_m_canSlip l) (hk_end Gd (hk_mU m0 st s0) (some (.int r)) (hk_mU m0 st s0)) 88 [] [] (hk_mU m0 st s0)) {v3 : Int32} (h : m_canSlip_L38b p1 p2 s0 e0 rc v3 = some r) : hk_V Gd (N_m_canSlip l) (hk_end Gd (hk_mU m0 st s0) (some (.int r)) (hk_mU m0 st s0)) 38 [(0, .ref m0), (1, .int p1), (2, .int p2), (3, .int v3)] [] (hk_mU m0 st s0) := by
  unfold m_canSlip_L38b at h
  refine hv_iload_n 3 dX4_canSlip_38 rfl rfl ?_
  refine hv_aload_n 0 dX4_canSlip_39 rfl rfl ?_
  refine hm_getA (j := 12) KM (fl_X4_46) rfl (Nat.le_of_ble_eq_true rfl) dX4_canSlip_40 ?_
  refine hv_iload_n 1 dX4_canSlip_43 rfl rfl ?_
  obtain ⟨x4, e_x4, h⟩ := hq_ob h
  refine hm_iaload KM e_x4 (Nat.le_of_ble_eq_true rfl) rfl dX4_canSlip_44 ?_
  obtain ⟨x5, e_x5, h⟩ := hq_ob h
  refine hv_callS [.int x4] [.int v3] [.int x5, .int v3] (wk_m_digits e_x5) cs_X4_220 rfl ⟨Nat.le_of_ble_eq_true rfl, Nat.le_of_ble_eq_true rfl⟩ rfl (Nat.le_of_ble_eq_true rfl) rfl dX4_canSlip_45 ?_
  refine hv_icmp_ge (tgt := 88) dX4_canSlip_48 (by decide) (fun c6 => ?_) (fun c6 => ?_)
  · replace h := hq_ip c6 h
    refine hv_sub [] rfl ?_
    exact he0 () h
  · replace h := hq_in c6 h
    refine hv_aload_n 0 dX4_canSlip_51 rfl rfl ?_
    refine hm_getA (j := 11) KM (fl_X4_43) rfl (Nat.le_of_ble_eq_true rfl) dX4_canSlip_52 ?_
    refine hv_iload_n 1 dX4_canSlip_55 rfl rfl ?_
    obtain ⟨x7, e_x7, h⟩ := hq_ob h
    refine hm_iaload KM e_x7 (Nat.le_of_ble_eq_true rfl) rfl dX4_canSlip_56 ?_
    refine hv_iconst (v := 1) dX4_canSlip_57 (by decide) ?_
    refine hv_icmp_ne (tgt := 88) dX4_canSlip_58 (by decide) (fun c8 => ?_) (fun c8 => ?_)
    · replace h := hq_in c8 h
      refine hv_sub [] rfl ?_
      exact he0 () h
    · replace h := hq_ip c8 h
      refine hv_iload_n 2 dX4_canSlip_61 rfl rfl ?_
      refine hv_iload_n 3 dX4_canSlip_62 rfl rfl ?_
      obtain ⟨x9, e_x9, h⟩ := hq_ob h
      refine hv_callS [.int v3] [.int p2] [.int x9, .int p2] (wk_m_tens e_x9) cs_X4_233 rfl ⟨Nat.le_of_ble_eq_true rfl, Nat.le_of_ble_eq_true rfl⟩ rfl (Nat.le_of_ble_eq_true rfl) rfl dX4_canSlip_63 ?_
      refine hv_ineg dX4_canSlip_66 ?_
      refine hv_aload_n 0 dX4_canSlip_67 rfl rfl ?_
      refine hm_getA (j := 16) KM (fl_X4_58) rfl (Nat.le_of_ble_eq_true rfl) dX4_canSlip_68 ?_
      refine hv_iload_n 1 dX4_canSlip_71 rfl rfl ?_
      obtain ⟨x10, e_x10, h⟩ := hq_ob h
      refine hm_iaload KM e_x10 (Nat.le_of_ble_eq_true rfl) rfl dX4_canSlip_72 ?_
      obtain ⟨x11, e_x11, h⟩ := hq_ob h
      refine hv_callS [.int x10] [.int (-x9), .int p2] [.int x11, .int (-x9), .int p2] (wk_m_tens e_x11) cs_X4_233 rfl ⟨Nat.le_of_ble_eq_true rfl, Nat.le_of_ble_eq_true rfl⟩ rfl (Nat.le_of_ble_eq_true rfl) rfl dX4_canSlip_73 ?_
      refine hv_imul dX4_canSlip_76 ?_
      refine hv_icmp_ne (tgt := 82) dX4_canSlip_77 (by decide) (fun c12 => ?_) (fun c12 => ?_)
      · replace h := hq_in c12 h
        obtain ⟨x13, e_x13, h⟩ := hq_nm h
        refine hv_iinc (v := x13) (L' := [(3, .int x13), (0, .ref m0), (1, .int p1), (2, .int p2)]) 3 dX4_canSlip_82 rfl (by rw [e_x13]; rfl) (Nat.le_of_ble_eq_true rfl) rfl ?_
        refine hv_goto (tgt := 38) dX4_canSlip_85 (by decide) ?_
        refine hv_sub [1, 2, 3, 0] rfl ?_
        exact hrc _ h
      · replace h := hq_ip c12 h
        refine hv_iconst (v := 1) dX4_canSlip_80 (by decide) ?_
        have h := Option.some.inj h
        subst h
        exact hv_zret (ty := .boolean) rfl rfl dX4_canSlip_81
theorem wk_m_canSlip_L38 {l : Launch} {Gd : hk_G} {m0 : Nat} {st : hk_St} (KM : hk_KM m0 st) {p1 : Int32} {p2 : Int32} {s0 : hk_Ms} {r : Int32} {e0 : Unit → Option (Int32)} (he0 : ∀ (_ : Unit), e0 () = some r → hk_V Gd (N_m_canSlip l) (hk_end Gd (hk_mU m0 st s0) (some (.int r)) (hk_mU m0 st s0)) 88 [] [] (hk_mU m0 st s0)) : ∀ (n : Nat) (v3 : Int32), m_canSlip_L38 p1 p2 s0 e0 n v3 = some r → hk_V Gd (N_m_canSlip l) (hk_end Gd (hk_mU m0 st s0) (some (.int r)) (hk_mU m0 st s0)) 38 [(0, .ref m0), (1, .int p1), (2, .int p2), (3, .int v3)] [] (hk_mU m0 st s0) := by
  intro n
  induction n with
  | zero => intro v3 h; cases h
  | succ n ih => intro v3 h; exact wk_m_canSlip_L38b KM ih he0 h
set_option maxHeartbeats 4000000 in
theorem wk_m_canSlip {l : Launch} {Gd : hk_G} {m0 : Nat} {st : hk_St} (KM : hk_KM m0 st) {p1 : Int32} {p2 : Int32} {s0 : hk_Ms} {r : Int32} (h : m_canSlip p1 p2 s0 = some r) : hk_Met Gd l yX4_canSlip cX4_canSlip 4 (some .boolean) 1 22 [.ref m0, .int p1, .int p2] (hk_mU m0 st s0) (some (.int r)) (hk_mU m0 st s0) := by
  refine hk_start "HeadReckonsModel" false (by decide +kernel) rfl (by decide) (Nat.le_of_ble_eq_true rfl) ?_
  show hk_V Gd (N_m_canSlip l) (hk_end Gd (hk_mU m0 st s0) (some (.int r)) (hk_mU m0 st s0)) 0 [(0, .ref m0), (1, .int p1), (2, .int p2)] [] (hk_mU m0 st s0)
  unfold m_canSlip at h
  refine hv_aload_n 0 dX4_canSlip_0 rfl rfl ?_
  refine hm_getA (j := 11) KM (fl_X4_43) rfl (Nat.le_of_ble_eq_true rfl) dX4_canSlip_1 ?_
  refine hv_iload_n 1 dX4_canSlip_4 rfl rfl ?_
  obtain ⟨x1, e_x1, h⟩ := hq_ob h
  refine hm_iaload KM e_x1 (Nat.le_of_ble_eq_true rfl) rfl dX4_canSlip_5 ?_
  refine hv_if_ne (tgt := 36) dX4_canSlip_6 (by decide) (fun c2 => ?_) (fun c2 => ?_)
  · replace h := hq_in c2 h
    refine hv_iconst (v := 0) dX4_canSlip_36 (by decide) ?_
    refine hv_istore_n (L' := [(3, .int (0 : Int32)), (0, .ref m0), (1, .int p1), (2, .int p2)]) dX4_canSlip_37 rfl (Nat.le_of_ble_eq_true rfl) rfl ?_
    refine hv_sub [1, 2, 3, 0] rfl ?_
    refine wk_m_canSlip_L38 KM ?_ hk_F _ h
    · intro _ h
      refine hv_iconst (v := 0) dX4_canSlip_88 (by decide) ?_
      have h := Option.some.inj h
      subst h
      exact hv_zret (ty := .boolean) rfl rfl dX4_canSlip_89
  · replace h := hq_ip c2 h
    refine hv_iload_n 2 dX4_canSlip_9 rfl rfl ?_
    refine hv_aload_n 0 dX4_canSlip_10 rfl rfl ?_
    refine hm_getA (j := 15) KM (fl_X4_55) rfl (Nat.le_of_ble_eq_true rfl) dX4_canSlip_11 ?_
    refine hv_iload_n 1 dX4_canSlip_14 rfl rfl ?_
    obtain ⟨x14, e_x14, h⟩ := hq_ob h
    refine hm_iaload KM e_x14 (Nat.le_of_ble_eq_true rfl) rfl dX4_canSlip_15 ?_
    refine hv_icmp_eq (tgt := 30) dX4_canSlip_16 (by decide) (fun c15 => ?_) (fun c15 => ?_)
    · replace h := hq_ip c15 h
      refine hv_iconst (v := 1) dX4_canSlip_30 (by decide) ?_
      refine hv_goto (tgt := 35) dX4_canSlip_31 (by decide) ?_
      have h := Option.some.inj h
      subst h
      exact hv_zret (ty := .boolean) rfl rfl dX4_canSlip_35
    · replace h := hq_in c15 h
      refine hv_iload_n 2 dX4_canSlip_19 rfl rfl ?_
      refine hv_aload_n 0 dX4_canSlip_20 rfl rfl ?_
      refine hm_getA (j := 15) KM (fl_X4_55) rfl (Nat.le_of_ble_eq_true rfl) dX4_canSlip_21 ?_
      refine hv_iload_n 1 dX4_canSlip_24 rfl rfl ?_
      obtain ⟨x16, e_x16, h⟩ := hq_ob h
      refine hm_iaload KM e_x16 (Nat.le_of_ble_eq_true rfl) rfl dX4_canSlip_25 ?_
      refine hv_ineg dX4_canSlip_26 ?_
      refine hv_icmp_ne (tgt := 34) dX4_canSlip_27 (by decide) (fun c17 => ?_) (fun c17 => ?_)
      · replace h := hq_in c17 h
        refine hv_iconst (v := 0) dX4_canSlip_34 (by decide) ?_
        have h := Option.some.inj h
        subst h
        exact hv_zret (ty := .boolean) rfl rfl dX4_canSlip_35
      · replace h := hq_ip c17 h
        refine hv_iconst (v := 1) dX4_canSlip_30 (by decide) ?_
        refine hv_goto (tgt := 35) dX4_canSlip_31 (by decide) ?_
        have h := Option.some.inj h
        subst h
        exact hv_zret (ty := .boolean) rfl rfl dX4_canSlip_35
def m_slipsOf_L4b (p1 : Int32) (s0 : hk_Ms) (e0 : Int32 → Option (Int32)) (rc : Int32 → Int32 → Option (Int32)) (v1 : Int32) (v2 : Int32) : Option (Int32) :=
  if (hm_I s0 21) ≤ v2 then
    e0 v1
  else
  (m_canSlip v2 p1 s0).bind fun x5 =>
  if x5 = 0 then
    hk_nm (v1 + (0 : Int32)) fun x7 =>
    hk_nm (v2 + (1 : Int32)) fun x8 =>
    rc x7 x8
  else
  hk_nm (v1 + (1 : Int32)) fun x9 =>
  hk_nm (v2 + (1 : Int32)) fun x10 =>
  rc x9 x10
def m_slipsOf_L4 (p1 : Int32) (s0 : hk_Ms) (e0 : Int32 → Option (Int32)) : Nat → Int32 → Int32 → Option (Int32)
  | 0 => fun _ _ => none
  | n + 1 => m_slipsOf_L4b p1 s0 e0 (m_slipsOf_L4 p1 s0 e0 n)
def m_slipsOf (p1 : Int32) (s0 : hk_Ms) : Option (Int32) :=
  m_slipsOf_L4 p1 s0  (fun (v3 : Int32) =>
    some v3) hk_F (0 : Int32) (0 : Int32) 
abbrev N_m_slipsOf (l : Launch) : hk_N := (l, cX4_slipsOf, "HeadReckonsModel", 4, (some .int), 2, 45, false)
set_option maxHeartbeats 4000000 in
theorem wk_m_slipsOf_L4b {l : Launch} {Gd : hk_G} {m0 : Nat} {st : hk_St} (KM : hk_KM m0 st) {p1 : Int32} {s0 : hk_Ms} {r : Int32} {e0 : Int32 → Option (Int32)} {rc : Int32 → Int32 → Option (Int32)} (hrc : ∀ (v1 : Int32) (v2 : Int32), rc v1 v2 = some r → hk_V Gd (N_m_slipsOf l) (hk_end Gd (hk_mU m0 st s0) (some (.int r)) (hk_mU m0 st s0)) 4 [(0, .ref m0), (1, .int p1), (2, .int v1), (3, .int v2)] [] (hk_mU m0 st s0)) (he0 : ∀ (v3 : Int32), e0 v3 = some r → hk_V Gd (N_m_slipsOf l) (hk_end Gd (hk_mU m0 st s0) (some (.int r)) (hk_mU m0 st s0)) 35 [(2, .int v3)] [] (hk_mU m0 st s0)) {v1 : Int32} {v2 : Int32} (h : m_slipsOf_L4b p1 s0 e0 rc v1 v2 = some r) : hk_V Gd (N_m_slipsOf l) (hk_end Gd (hk_mU m0 st s0) (some (.int r)) (hk_mU m0 st s0)) 4 [(0, .ref m0), (1, .int p1), (2, .int v1), (3, .int v2)] [] (hk_mU m0 st s0) := by
  unfold m_slipsOf_L4b at h
  refine hv_iload_n 3 dX4_slipsOf_4 rfl rfl ?_
  refine hv_aload_n 0 dX4_slipsOf_5 rfl rfl ?_
  refine hm_getI (f := 21) KM (fl_X4_214) dX4_slipsOf_6 ?_
  refine hv_icmp_ge (tgt := 35) dX4_slipsOf_9 (by decide) (fun c4 => ?_) (fun c4 => ?_)
  · replace h := hq_ip c4 h
    refine hv_sub [2] rfl ?_
    exact he0 _ h
  · replace h := hq_in c4 h
    refine hv_iload_n 2 dX4_slipsOf_12 rfl rfl ?_
    refine hv_aload_n 0 dX4_slipsOf_13 rfl rfl ?_
    refine hv_iload_n 3 dX4_slipsOf_14 rfl rfl ?_
    refine hv_iload_n 1 dX4_slipsOf_15 rfl rfl ?_
    obtain ⟨x5, e_x5, h⟩ := hq_ob h
    refine hv_callV [.int v2, .int p1] [.int v1] [.int x5, .int v1] (wk_m_canSlip KM e_x5) cs_X4_320 KM.recv rfl ⟨Nat.le_of_ble_eq_true rfl, Nat.le_of_ble_eq_true rfl⟩ rfl (Nat.le_of_ble_eq_true rfl) rfl dX4_slipsOf_16 ?_
    refine hv_if_eq (tgt := 26) dX4_slipsOf_19 (by decide) (fun c6 => ?_) (fun c6 => ?_)
    · replace h := hq_ip c6 h
      refine hv_iconst (v := 0) dX4_slipsOf_26 (by decide) ?_
      refine hv_iadd dX4_slipsOf_27 ?_
      obtain ⟨x7, e_x7, h⟩ := hq_nm h
      rw [← e_x7]
      refine hv_istore_n (L' := [(2, .int x7), (0, .ref m0), (1, .int p1), (3, .int v2)]) dX4_slipsOf_28 rfl (Nat.le_of_ble_eq_true rfl) rfl ?_
      obtain ⟨x8, e_x8, h⟩ := hq_nm h
      refine hv_iinc (v := x8) (L' := [(3, .int x8), (2, .int x7), (0, .ref m0), (1, .int p1)]) 3 dX4_slipsOf_29 rfl (by rw [e_x8]; rfl) (Nat.le_of_ble_eq_true rfl) rfl ?_
      refine hv_goto (tgt := 4) dX4_slipsOf_32 (by decide) ?_
      refine hv_sub [2, 3, 1, 0] rfl ?_
      exact hrc _ _ h
    · replace h := hq_in c6 h
      refine hv_iconst (v := 1) dX4_slipsOf_22 (by decide) ?_
      refine hv_goto (tgt := 27) dX4_slipsOf_23 (by decide) ?_
      refine hv_iadd dX4_slipsOf_27 ?_
      obtain ⟨x9, e_x9, h⟩ := hq_nm h
      rw [← e_x9]
      refine hv_istore_n (L' := [(2, .int x9), (0, .ref m0), (1, .int p1), (3, .int v2)]) dX4_slipsOf_28 rfl (Nat.le_of_ble_eq_true rfl) rfl ?_
      obtain ⟨x10, e_x10, h⟩ := hq_nm h
      refine hv_iinc (v := x10) (L' := [(3, .int x10), (2, .int x9), (0, .ref m0), (1, .int p1)]) 3 dX4_slipsOf_29 rfl (by rw [e_x10]; rfl) (Nat.le_of_ble_eq_true rfl) rfl ?_
      refine hv_goto (tgt := 4) dX4_slipsOf_32 (by decide) ?_
      refine hv_sub [2, 3, 1, 0] rfl ?_
      exact hrc _ _ h
theorem wk_m_slipsOf_L4 {l : Launch} {Gd : hk_G} {m0 : Nat} {st : hk_St} (KM : hk_KM m0 st) {p1 : Int32} {s0 : hk_Ms} {r : Int32} {e0 : Int32 → Option (Int32)} (he0 : ∀ (v3 : Int32), e0 v3 = some r → hk_V Gd (N_m_slipsOf l) (hk_end Gd (hk_mU m0 st s0) (some (.int r)) (hk_mU m0 st s0)) 35 [(2, .int v3)] [] (hk_mU m0 st s0)) : ∀ (n : Nat) (v1 : Int32) (v2 : Int32), m_slipsOf_L4 p1 s0 e0 n v1 v2 = some r → hk_V Gd (N_m_slipsOf l) (hk_end Gd (hk_mU m0 st s0) (some (.int r)) (hk_mU m0 st s0)) 4 [(0, .ref m0), (1, .int p1), (2, .int v1), (3, .int v2)] [] (hk_mU m0 st s0) := by
  intro n
  induction n with
  | zero => intro v1 v2 h; cases h
  | succ n ih => intro v1 v2 h; exact wk_m_slipsOf_L4b KM ih he0 h
set_option maxHeartbeats 4000000 in
theorem wk_m_slipsOf {l : Launch} {Gd : hk_G} {m0 : Nat} {st : hk_St} (KM : hk_KM m0 st) {p1 : Int32} {s0 : hk_Ms} {r : Int32} (h : m_slipsOf p1 s0 = some r) : hk_Met Gd l yX4_slipsOf cX4_slipsOf 4 (some .int) 2 45 [.ref m0, .int p1] (hk_mU m0 st s0) (some (.int r)) (hk_mU m0 st s0) := by
  refine hk_start "HeadReckonsModel" false (by decide +kernel) rfl (by decide) (Nat.le_of_ble_eq_true rfl) ?_
  show hk_V Gd (N_m_slipsOf l) (hk_end Gd (hk_mU m0 st s0) (some (.int r)) (hk_mU m0 st s0)) 0 [(0, .ref m0), (1, .int p1)] [] (hk_mU m0 st s0)
  unfold m_slipsOf at h
  refine hv_iconst (v := 0) dX4_slipsOf_0 (by decide) ?_
  refine hv_istore_n (L' := [(2, .int (0 : Int32)), (0, .ref m0), (1, .int p1)]) dX4_slipsOf_1 rfl (Nat.le_of_ble_eq_true rfl) rfl ?_
  refine hv_iconst (v := 0) dX4_slipsOf_2 (by decide) ?_
  refine hv_istore_n (L' := [(3, .int (0 : Int32)), (2, .int (0 : Int32)), (0, .ref m0), (1, .int p1)]) dX4_slipsOf_3 rfl (Nat.le_of_ble_eq_true rfl) rfl ?_
  refine hv_sub [2, 3, 1, 0] rfl ?_
  refine wk_m_slipsOf_L4 KM ?_ hk_F _ _ h
  · intro v3 h
    refine hv_iload_n 0 dX4_slipsOf_35 rfl rfl ?_
    have h := Option.some.inj h
    subst h
    exact hv_iret rfl dX4_slipsOf_36
def m_doesFit_L3b (p1 : Int32) (p2 : Int32) (p3 : Int32) (e0 : hk_Ms → Option (Int32 × hk_Ms)) (rc : Int32 → hk_Ms → Option (Int32 × hk_Ms)) (v1 : Int32) (s2 : hk_Ms) : Option (Int32 × hk_Ms) :=
  if (hm_I s2 33) ≤ v1 then
    e0 s2
  else
  (hm_lI s2 18 40 v1).bind fun x5 =>
  (m_layOut p1 p2 x5 (0 : Int32) s2).bind fun q6 =>
  if q6.1 = 0 then
    some ((0 : Int32), q6.2)
  else
  (m_seconds  q6.2).bind fun x8 =>
  (hm_lI q6.2 19 40 v1).bind fun x9 =>
  if (m_size (x8 - x9)) ≤ p3 then
    (m_offBy v1 q6.2).bind fun x11 =>
    if x11 = 0 then
      hk_nm (v1 + (1 : Int32)) fun x13 =>
      rc x13 q6.2
    else
    (m_offBy v1 q6.2).bind fun x14 =>
    (m_slipsOf x14 q6.2).bind fun x15 =>
    if x15 = 0 then
      some ((0 : Int32), q6.2)
    else
    hk_nm (v1 + (1 : Int32)) fun x17 =>
      rc x17 q6.2
  else
  some ((0 : Int32), q6.2)
def m_doesFit_L3 (p1 : Int32) (p2 : Int32) (p3 : Int32) (e0 : hk_Ms → Option (Int32 × hk_Ms)) : Nat → Int32 → hk_Ms → Option (Int32 × hk_Ms)
  | 0 => fun _ _ => none
  | n + 1 => m_doesFit_L3b p1 p2 p3 e0 (m_doesFit_L3 p1 p2 p3 e0 n)
def m_doesFit (p1 : Int32) (p2 : Int32) (p3 : Int32) (s0 : hk_Ms) : Option (Int32 × hk_Ms) :=
  m_doesFit_L3 p1 p2 p3  (fun (s3 : hk_Ms) =>
    some ((1 : Int32), s3)) hk_F (0 : Int32) s0
abbrev N_m_doesFit (l : Launch) : hk_N := (l, cX4_doesFit, "HeadReckonsModel", 5, (some .boolean), 6, 149, false)
set_option maxHeartbeats 4000000 in
theorem wk_m_doesFit_L3b {l : Launch} {Gd : hk_G} {m0 : Nat} {st : hk_St} (KM : hk_KM m0 st) {p1 : Int32} {p2 : Int32} {p3 : Int32} {s0 : hk_Ms} {r : Int32} {fin : hk_Ms} {e0 : hk_Ms → Option (Int32 × hk_Ms)} {rc : Int32 → hk_Ms → Option (Int32 × hk_Ms)} (hrc : ∀ (v1 : Int32) (s2 : hk_Ms), rc v1 s2 = some (r, fin) → hk_V Gd (N_m_doesFit l) (hk_end Gd (hk_mU m0 st s0) (some (.int r)) (hk_mU m0 st fin)) 3 [(0, .ref m0), (1, .int p1), (2, .int p2), (3, .int p3), (4, .int v1)] [] (hk_mU m0 st s2)) (he0 : ∀ (s3 : hk_Ms), e0 s3 = some (r, fin) → hk_V Gd (N_m_doesFit l) (hk_end Gd (hk_mU m0 st s0) (some (.int r)) (hk_mU m0 st fin)) 80 [] [] (hk_mU m0 st s3)) {v1 : Int32} {s2 : hk_Ms} (h : m_doesFit_L3b p1 p2 p3 e0 rc v1 s2 = some (r, fin)) : hk_V Gd (N_m_doesFit l) (hk_end Gd (hk_mU m0 st s0) (some (.int r)) (hk_mU m0 st fin)) 3 [(0, .ref m0), (1, .int p1), (2, .int p2), (3, .int p3), (4, .int v1)] [] (hk_mU m0 st s2) := by
  unfold m_doesFit_L3b at h
  refine hv_iload 4 dX4_doesFit_3 rfl ?_
  refine hv_aload_n 0 dX4_doesFit_5 rfl rfl ?_
  refine hm_getI (f := 33) KM (fl_X4_306) dX4_doesFit_6 ?_
  refine hv_icmp_ge (tgt := 80) dX4_doesFit_9 (by decide) (fun c4 => ?_) (fun c4 => ?_)
  · replace h := hq_ip c4 h
    refine hv_sub [] rfl ?_
    exact he0 _ h
  · replace h := hq_in c4 h
    refine hv_aload_n 0 dX4_doesFit_12 rfl rfl ?_
    refine hv_iload_n 1 dX4_doesFit_13 rfl rfl ?_
    refine hv_iload_n 2 dX4_doesFit_14 rfl rfl ?_
    refine hv_aload_n 0 dX4_doesFit_15 rfl rfl ?_
    refine hm_getA (j := 18) KM (fl_X4_64) rfl (Nat.le_of_ble_eq_true rfl) dX4_doesFit_16 ?_
    refine hv_iload 4 dX4_doesFit_19 rfl ?_
    obtain ⟨x5, e_x5, h⟩ := hq_ob h
    refine hm_iaload KM e_x5 (Nat.le_of_ble_eq_true rfl) rfl dX4_doesFit_21 ?_
    refine hv_iconst (v := 0) dX4_doesFit_22 (by decide) ?_
    obtain ⟨q6, e_q6, h⟩ := hq_ob h
    refine hv_callV [.int p1, .int p2, .int x5, .int (0 : Int32)] [] [.int q6.1] (wk_m_layOut KM e_q6) cs_X4_279 KM.recv rfl ⟨Nat.le_of_ble_eq_true rfl, Nat.le_of_ble_eq_true rfl⟩ rfl (Nat.le_of_ble_eq_true rfl) rfl dX4_doesFit_23 ?_
    refine hv_if_eq (tgt := 48) dX4_doesFit_26 (by decide) (fun c7 => ?_) (fun c7 => ?_)
    · replace h := hq_ip c7 h
      refine hv_iconst (v := 0) dX4_doesFit_48 (by decide) ?_
      obtain ⟨h1, h2⟩ := hq_ret h
      subst h1
      subst h2
      exact hv_zret (ty := .boolean) rfl rfl dX4_doesFit_49
    · replace h := hq_in c7 h
      refine hv_aload_n 0 dX4_doesFit_29 rfl rfl ?_
      obtain ⟨x8, e_x8, h⟩ := hq_ob h
      refine hv_callV [] [] [.int x8] (wk_m_seconds KM e_x8) cs_X4_283 KM.recv rfl ⟨Nat.le_of_ble_eq_true rfl, Nat.le_of_ble_eq_true rfl⟩ rfl (Nat.le_of_ble_eq_true rfl) rfl dX4_doesFit_30 ?_
      refine hv_aload_n 0 dX4_doesFit_33 rfl rfl ?_
      refine hm_getA (j := 19) KM (fl_X4_67) rfl (Nat.le_of_ble_eq_true rfl) dX4_doesFit_34 ?_
      refine hv_iload 4 dX4_doesFit_37 rfl ?_
      obtain ⟨x9, e_x9, h⟩ := hq_ob h
      refine hm_iaload KM e_x9 (Nat.le_of_ble_eq_true rfl) rfl dX4_doesFit_39 ?_
      refine hv_isub dX4_doesFit_40 ?_
      refine hv_callS [.int (x8 - x9)] [] [.int (m_size (x8 - x9))] (wk_m_size rfl) cs_X4_250 rfl ⟨Nat.le_of_ble_eq_true rfl, Nat.le_of_ble_eq_true rfl⟩ rfl (Nat.le_of_ble_eq_true rfl) rfl dX4_doesFit_41 ?_
      refine hv_iload_n 3 dX4_doesFit_44 rfl rfl ?_
      refine hv_icmp_le (tgt := 50) dX4_doesFit_45 (by decide) (fun c10 => ?_) (fun c10 => ?_)
      · replace h := hq_ip c10 h
        refine hv_aload_n 0 dX4_doesFit_50 rfl rfl ?_
        refine hv_iload 4 dX4_doesFit_51 rfl ?_
        obtain ⟨x11, e_x11, h⟩ := hq_ob h
        refine hv_callV [.int v1] [] [.int x11] (wk_m_offBy KM e_x11) cs_X4_317 KM.recv rfl ⟨Nat.le_of_ble_eq_true rfl, Nat.le_of_ble_eq_true rfl⟩ rfl (Nat.le_of_ble_eq_true rfl) rfl dX4_doesFit_53 ?_
        refine hv_if_eq (tgt := 74) dX4_doesFit_56 (by decide) (fun c12 => ?_) (fun c12 => ?_)
        · replace h := hq_ip c12 h
          obtain ⟨x13, e_x13, h⟩ := hq_nm h
          refine hv_iinc (v := x13) (L' := [(4, .int x13), (0, .ref m0), (1, .int p1), (2, .int p2), (3, .int p3)]) 4 dX4_doesFit_74 rfl (by rw [e_x13]; rfl) (Nat.le_of_ble_eq_true rfl) rfl ?_
          refine hv_goto (tgt := 3) dX4_doesFit_77 (by decide) ?_
          refine hv_sub [1, 2, 3, 4, 0] rfl ?_
          exact hrc _ _ h
        · replace h := hq_in c12 h
          refine hv_aload_n 0 dX4_doesFit_59 rfl rfl ?_
          refine hv_aload_n 0 dX4_doesFit_60 rfl rfl ?_
          refine hv_iload 4 dX4_doesFit_61 rfl ?_
          obtain ⟨x14, e_x14, h⟩ := hq_ob h
          refine hv_callV [.int v1] [.ref m0] [.int x14, .ref m0] (wk_m_offBy KM e_x14) cs_X4_317 KM.recv rfl ⟨Nat.le_of_ble_eq_true rfl, Nat.le_of_ble_eq_true rfl⟩ rfl (Nat.le_of_ble_eq_true rfl) rfl dX4_doesFit_63 ?_
          obtain ⟨x15, e_x15, h⟩ := hq_ob h
          refine hv_callV [.int x14] [] [.int x15] (wk_m_slipsOf KM e_x15) cs_X4_323 KM.recv rfl ⟨Nat.le_of_ble_eq_true rfl, Nat.le_of_ble_eq_true rfl⟩ rfl (Nat.le_of_ble_eq_true rfl) rfl dX4_doesFit_66 ?_
          refine hv_if_ne (tgt := 74) dX4_doesFit_69 (by decide) (fun c16 => ?_) (fun c16 => ?_)
          · replace h := hq_in c16 h
            obtain ⟨x17, e_x17, h⟩ := hq_nm h
            refine hv_iinc (v := x17) (L' := [(4, .int x17), (0, .ref m0), (1, .int p1), (2, .int p2), (3, .int p3)]) 4 dX4_doesFit_74 rfl (by rw [e_x17]; rfl) (Nat.le_of_ble_eq_true rfl) rfl ?_
            refine hv_goto (tgt := 3) dX4_doesFit_77 (by decide) ?_
            refine hv_sub [1, 2, 3, 4, 0] rfl ?_
            exact hrc _ _ h
          · replace h := hq_ip c16 h
            refine hv_iconst (v := 0) dX4_doesFit_72 (by decide) ?_
            obtain ⟨h1, h2⟩ := hq_ret h
            subst h1
            subst h2
            exact hv_zret (ty := .boolean) rfl rfl dX4_doesFit_73
      · replace h := hq_in c10 h
        refine hv_iconst (v := 0) dX4_doesFit_48 (by decide) ?_
        obtain ⟨h1, h2⟩ := hq_ret h
        subst h1
        subst h2
        exact hv_zret (ty := .boolean) rfl rfl dX4_doesFit_49
theorem wk_m_doesFit_L3 {l : Launch} {Gd : hk_G} {m0 : Nat} {st : hk_St} (KM : hk_KM m0 st) {p1 : Int32} {p2 : Int32} {p3 : Int32} {s0 : hk_Ms} {r : Int32} {fin : hk_Ms} {e0 : hk_Ms → Option (Int32 × hk_Ms)} (he0 : ∀ (s3 : hk_Ms), e0 s3 = some (r, fin) → hk_V Gd (N_m_doesFit l) (hk_end Gd (hk_mU m0 st s0) (some (.int r)) (hk_mU m0 st fin)) 80 [] [] (hk_mU m0 st s3)) : ∀ (n : Nat) (v1 : Int32) (s2 : hk_Ms), m_doesFit_L3 p1 p2 p3 e0 n v1 s2 = some (r, fin) → hk_V Gd (N_m_doesFit l) (hk_end Gd (hk_mU m0 st s0) (some (.int r)) (hk_mU m0 st fin)) 3 [(0, .ref m0), (1, .int p1), (2, .int p2), (3, .int p3), (4, .int v1)] [] (hk_mU m0 st s2) := by
  intro n
  induction n with
  | zero => intro v1 s2 h; cases h
  | succ n ih => intro v1 s2 h; exact wk_m_doesFit_L3b KM ih he0 h
set_option maxHeartbeats 4000000 in
theorem wk_m_doesFit {l : Launch} {Gd : hk_G} {m0 : Nat} {st : hk_St} (KM : hk_KM m0 st) {p1 : Int32} {p2 : Int32} {p3 : Int32} {s0 : hk_Ms} {r : Int32} {fin : hk_Ms} (h : m_doesFit p1 p2 p3 s0 = some (r, fin)) : hk_Met Gd l yX4_doesFit cX4_doesFit 5 (some .boolean) 6 149 [.ref m0, .int p1, .int p2, .int p3] (hk_mU m0 st s0) (some (.int r)) (hk_mU m0 st fin) := by
  refine hk_start "HeadReckonsModel" false (by decide +kernel) rfl (by decide) (Nat.le_of_ble_eq_true rfl) ?_
  show hk_V Gd (N_m_doesFit l) (hk_end Gd (hk_mU m0 st s0) (some (.int r)) (hk_mU m0 st fin)) 0 [(0, .ref m0), (1, .int p1), (2, .int p2), (3, .int p3)] [] (hk_mU m0 st s0)
  unfold m_doesFit at h
  refine hv_iconst (v := 0) dX4_doesFit_0 (by decide) ?_
  refine hv_istore (L' := [(4, .int (0 : Int32)), (0, .ref m0), (1, .int p1), (2, .int p2), (3, .int p3)]) dX4_doesFit_1 (Nat.le_of_ble_eq_true rfl) rfl ?_
  refine hv_sub [1, 2, 3, 4, 0] rfl ?_
  refine wk_m_doesFit_L3 KM ?_ hk_F _ _ h
  · intro s3 h
    refine hv_iconst (v := 1) dX4_doesFit_80 (by decide) ?_
    obtain ⟨h1, h2⟩ := hq_ret h
    subst h1
    subst h2
    exact hv_zret (ty := .boolean) rfl rfl dX4_doesFit_81
def m_fits_L37b (p1 : Int32) (p2 : Int32) (e0 : Int32 → hk_Ms → Option (Int32 × hk_Ms)) (rc : Int32 → Int32 → hk_Ms → Option (Int32 × hk_Ms)) (v5 : Int32) (v6 : Int32) (s7 : hk_Ms) : Option (Int32 × hk_Ms) :=
  if (7 : Int32) ≤ v6 then
    e0 v5 s7
  else
  (m_doesFit p1 v6 p2 s7).bind fun q11 =>
  if q11.1 = 0 then
    hk_nm (v5 ||| (0 : Int32)) fun x13 =>
    hk_nm (v6 + (1 : Int32)) fun x14 =>
    rc x13 x14 q11.2
  else
  hk_nm (v5 ||| ((1 : Int32) <<< (v6 &&& 31))) fun x15 =>
  hk_nm (v6 + (1 : Int32)) fun x16 =>
  rc x15 x16 q11.2
def m_fits_L37 (p1 : Int32) (p2 : Int32) (e0 : Int32 → hk_Ms → Option (Int32 × hk_Ms)) : Nat → Int32 → Int32 → hk_Ms → Option (Int32 × hk_Ms)
  | 0 => fun _ _ _ => none
  | n + 1 => m_fits_L37b p1 p2 e0 (m_fits_L37 p1 p2 e0 n)
def m_fits (p1 : Int32) (p2 : Int32) (s0 : hk_Ms) : Option (Int32 × hk_Ms) :=
  (m_isHead p1 s0).bind fun x1 =>
  if x1 = 0 then
    some ((-1 : Int32), s0)
  else
  if (m_within p2.toInt64 (0 : Int64) (9999 : Int64)) = 0 then
    some ((-1 : Int32), s0)
  else
  if (hm_I s0 33) = 0 then
      some ((-5 : Int32), s0)
    else
    m_fits_L37 p1 p2  (fun (v8 : Int32) (s9 : hk_Ms) =>
        some (v8, s9)) hk_F (0 : Int32) (0 : Int32) s0
abbrev N_m_fits (l : Launch) : hk_N := (l, cX4_fits, "HeadReckonsModel", 5, (some .int), 7, 173, false)
set_option maxHeartbeats 4000000 in
theorem wk_m_fits_L37b {l : Launch} {Gd : hk_G} {m0 : Nat} {st : hk_St} (KM : hk_KM m0 st) {p1 : Int32} {p2 : Int32} {s0 : hk_Ms} {r : Int32} {fin : hk_Ms} {e0 : Int32 → hk_Ms → Option (Int32 × hk_Ms)} {rc : Int32 → Int32 → hk_Ms → Option (Int32 × hk_Ms)} (hrc : ∀ (v5 : Int32) (v6 : Int32) (s7 : hk_Ms), rc v5 v6 s7 = some (r, fin) → hk_V Gd (N_m_fits l) (hk_end Gd (hk_mU m0 st s0) (some (.int r)) (hk_mU m0 st fin)) 37 [(0, .ref m0), (1, .int p1), (2, .int p2), (3, .int v5), (4, .int v6)] [] (hk_mU m0 st s7)) (he0 : ∀ (v8 : Int32) (s9 : hk_Ms), e0 v8 s9 = some (r, fin) → hk_V Gd (N_m_fits l) (hk_end Gd (hk_mU m0 st s0) (some (.int r)) (hk_mU m0 st fin)) 72 [(3, .int v8)] [] (hk_mU m0 st s9)) {v5 : Int32} {v6 : Int32} {s7 : hk_Ms} (h : m_fits_L37b p1 p2 e0 rc v5 v6 s7 = some (r, fin)) : hk_V Gd (N_m_fits l) (hk_end Gd (hk_mU m0 st s0) (some (.int r)) (hk_mU m0 st fin)) 37 [(0, .ref m0), (1, .int p1), (2, .int p2), (3, .int v5), (4, .int v6)] [] (hk_mU m0 st s7) := by
  unfold m_fits_L37b at h
  refine hv_iload 4 dX4_fits_37 rfl ?_
  refine hv_bipush (v := 7) dX4_fits_39 (by decide) ?_
  refine hv_icmp_ge (tgt := 72) dX4_fits_41 (by decide) (fun c10 => ?_) (fun c10 => ?_)
  · replace h := hq_ip c10 h
    refine hv_sub [3] rfl ?_
    exact he0 _ _ h
  · replace h := hq_in c10 h
    refine hv_iload_n 3 dX4_fits_44 rfl rfl ?_
    refine hv_aload_n 0 dX4_fits_45 rfl rfl ?_
    refine hv_iload_n 1 dX4_fits_46 rfl rfl ?_
    refine hv_iload 4 dX4_fits_47 rfl ?_
    refine hv_iload_n 2 dX4_fits_49 rfl rfl ?_
    obtain ⟨q11, e_q11, h⟩ := hq_ob h
    refine hv_callV [.int p1, .int v6, .int p2] [.int v5] [.int q11.1, .int v5] (wk_m_doesFit KM e_q11) cs_X4_326 KM.recv rfl ⟨Nat.le_of_ble_eq_true rfl, Nat.le_of_ble_eq_true rfl⟩ rfl (Nat.le_of_ble_eq_true rfl) rfl dX4_fits_50 ?_
    refine hv_if_eq (tgt := 63) dX4_fits_53 (by decide) (fun c12 => ?_) (fun c12 => ?_)
    · replace h := hq_ip c12 h
      refine hv_iconst (v := 0) dX4_fits_63 (by decide) ?_
      refine hv_ior dX4_fits_64 ?_
      obtain ⟨x13, e_x13, h⟩ := hq_nm h
      rw [← e_x13]
      refine hv_istore_n (L' := [(3, .int x13), (0, .ref m0), (1, .int p1), (2, .int p2), (4, .int v6)]) dX4_fits_65 rfl (Nat.le_of_ble_eq_true rfl) rfl ?_
      obtain ⟨x14, e_x14, h⟩ := hq_nm h
      refine hv_iinc (v := x14) (L' := [(4, .int x14), (3, .int x13), (0, .ref m0), (1, .int p1), (2, .int p2)]) 4 dX4_fits_66 rfl (by rw [e_x14]; rfl) (Nat.le_of_ble_eq_true rfl) rfl ?_
      refine hv_goto (tgt := 37) dX4_fits_69 (by decide) ?_
      refine hv_sub [2, 3, 4, 1, 0] rfl ?_
      exact hrc _ _ _ h
    · replace h := hq_in c12 h
      refine hv_iconst (v := 1) dX4_fits_56 (by decide) ?_
      refine hv_iload 4 dX4_fits_57 rfl ?_
      refine hv_ishl dX4_fits_59 ?_
      refine hv_goto (tgt := 64) dX4_fits_60 (by decide) ?_
      refine hv_ior dX4_fits_64 ?_
      obtain ⟨x15, e_x15, h⟩ := hq_nm h
      rw [← e_x15]
      refine hv_istore_n (L' := [(3, .int x15), (0, .ref m0), (1, .int p1), (2, .int p2), (4, .int v6)]) dX4_fits_65 rfl (Nat.le_of_ble_eq_true rfl) rfl ?_
      obtain ⟨x16, e_x16, h⟩ := hq_nm h
      refine hv_iinc (v := x16) (L' := [(4, .int x16), (3, .int x15), (0, .ref m0), (1, .int p1), (2, .int p2)]) 4 dX4_fits_66 rfl (by rw [e_x16]; rfl) (Nat.le_of_ble_eq_true rfl) rfl ?_
      refine hv_goto (tgt := 37) dX4_fits_69 (by decide) ?_
      refine hv_sub [2, 3, 4, 1, 0] rfl ?_
      exact hrc _ _ _ h
theorem wk_m_fits_L37 {l : Launch} {Gd : hk_G} {m0 : Nat} {st : hk_St} (KM : hk_KM m0 st) {p1 : Int32} {p2 : Int32} {s0 : hk_Ms} {r : Int32} {fin : hk_Ms} {e0 : Int32 → hk_Ms → Option (Int32 × hk_Ms)} (he0 : ∀ (v8 : Int32) (s9 : hk_Ms), e0 v8 s9 = some (r, fin) → hk_V Gd (N_m_fits l) (hk_end Gd (hk_mU m0 st s0) (some (.int r)) (hk_mU m0 st fin)) 72 [(3, .int v8)] [] (hk_mU m0 st s9)) : ∀ (n : Nat) (v5 : Int32) (v6 : Int32) (s7 : hk_Ms), m_fits_L37 p1 p2 e0 n v5 v6 s7 = some (r, fin) → hk_V Gd (N_m_fits l) (hk_end Gd (hk_mU m0 st s0) (some (.int r)) (hk_mU m0 st fin)) 37 [(0, .ref m0), (1, .int p1), (2, .int p2), (3, .int v5), (4, .int v6)] [] (hk_mU m0 st s7) := by
  intro n
  induction n with
  | zero => intro v5 v6 s7 h; cases h
  | succ n ih => intro v5 v6 s7 h; exact wk_m_fits_L37b KM ih he0 h
set_option maxHeartbeats 4000000 in
theorem wk_m_fits {l : Launch} {Gd : hk_G} {m0 : Nat} {st : hk_St} (KM : hk_KM m0 st) {p1 : Int32} {p2 : Int32} {s0 : hk_Ms} {r : Int32} {fin : hk_Ms} (h : m_fits p1 p2 s0 = some (r, fin)) : hk_Met Gd l yX4_fits cX4_fits 5 (some .int) 7 173 [.ref m0, .int p1, .int p2] (hk_mU m0 st s0) (some (.int r)) (hk_mU m0 st fin) := by
  refine hk_start "HeadReckonsModel" false (by decide +kernel) rfl (by decide) (Nat.le_of_ble_eq_true rfl) ?_
  show hk_V Gd (N_m_fits l) (hk_end Gd (hk_mU m0 st s0) (some (.int r)) (hk_mU m0 st fin)) 0 [(0, .ref m0), (1, .int p1), (2, .int p2)] [] (hk_mU m0 st s0)
  unfold m_fits at h
  refine hv_aload_n 0 dX4_fits_0 rfl rfl ?_
  refine hv_iload_n 1 dX4_fits_1 rfl rfl ?_
  obtain ⟨x1, e_x1, h⟩ := hq_ob h
  refine hv_callV [.int p1] [] [.int x1] (wk_m_isHead KM e_x1) cs_X4_188 KM.recv rfl ⟨Nat.le_of_ble_eq_true rfl, Nat.le_of_ble_eq_true rfl⟩ rfl (Nat.le_of_ble_eq_true rfl) rfl dX4_fits_2 ?_
  refine hv_if_eq (tgt := 20) dX4_fits_5 (by decide) (fun c2 => ?_) (fun c2 => ?_)
  · replace h := hq_ip c2 h
    refine hv_iconst (v := -1) dX4_fits_20 (by decide) ?_
    obtain ⟨h1, h2⟩ := hq_ret h
    subst h1
    subst h2
    exact hv_iret rfl dX4_fits_21
  · replace h := hq_in c2 h
    refine hv_iload_n 2 dX4_fits_8 rfl rfl ?_
    refine hv_i2l dX4_fits_9 ?_
    refine hv_lconst (v := 0) dX4_fits_10 (by decide) ?_
    refine hv_ldc2 q1873 dX4_fits_11 ?_
    refine hv_callS [.long p2.toInt64, .long (0 : Int64), .long (9999 : Int64)] [] [.int (m_within p2.toInt64 (0 : Int64) (9999 : Int64))] (wk_m_within rfl) cs_X4_113 rfl ⟨Nat.le_of_ble_eq_true rfl, Nat.le_of_ble_eq_true rfl⟩ rfl (Nat.le_of_ble_eq_true rfl) rfl dX4_fits_14 ?_
    refine hv_if_ne (tgt := 22) dX4_fits_17 (by decide) (fun c3 => ?_) (fun c3 => ?_)
    · replace h := hq_in c3 h
      refine hv_aload_n 0 dX4_fits_22 rfl rfl ?_
      refine hm_getI (f := 33) KM (fl_X4_306) dX4_fits_23 ?_
      refine hv_if_ne (tgt := 32) dX4_fits_26 (by decide) (fun c4 => ?_) (fun c4 => ?_)
      · replace h := hq_in c4 h
        refine hv_iconst (v := 0) dX4_fits_32 (by decide) ?_
        refine hv_istore_n (L' := [(3, .int (0 : Int32)), (0, .ref m0), (1, .int p1), (2, .int p2)]) dX4_fits_33 rfl (Nat.le_of_ble_eq_true rfl) rfl ?_
        refine hv_iconst (v := 0) dX4_fits_34 (by decide) ?_
        refine hv_istore (L' := [(4, .int (0 : Int32)), (3, .int (0 : Int32)), (0, .ref m0), (1, .int p1), (2, .int p2)]) dX4_fits_35 (Nat.le_of_ble_eq_true rfl) rfl ?_
        refine hv_sub [2, 3, 4, 1, 0] rfl ?_
        refine wk_m_fits_L37 KM ?_ hk_F _ _ _ h
        · intro v8 s9 h
          refine hv_iload_n 0 dX4_fits_72 rfl rfl ?_
          obtain ⟨h1, h2⟩ := hq_ret h
          subst h1
          subst h2
          exact hv_iret rfl dX4_fits_73
      · replace h := hq_ip c4 h
        refine hv_bipush (v := -5) dX4_fits_29 (by decide) ?_
        obtain ⟨h1, h2⟩ := hq_ret h
        subst h1
        subst h2
        exact hv_iret rfl dX4_fits_31
    · replace h := hq_ip c3 h
      refine hv_iconst (v := -1) dX4_fits_20 (by decide) ?_
      obtain ⟨h1, h2⟩ := hq_ret h
      subst h1
      subst h2
      exact hv_iret rfl dX4_fits_21
def m_offSum_L5b (p1 : Int32) (p2 : Int32) (e0 : Int32 → hk_Ms → Option (Int32 × hk_Ms)) (rc : Int32 → Int32 → hk_Ms → Option (Int32 × hk_Ms)) (v1 : Int32) (v2 : Int32) (s3 : hk_Ms) : Option (Int32 × hk_Ms) :=
  hk_nm (fun (v6 : Int32) (v7 : Int32) (v8 : Int32) (s9 : hk_Ms) =>
    if v8 = 0 then
      some ((-1 : Int32), s9)
    else
    (m_seconds  s9).bind fun x11 =>
      (hm_lI s9 19 40 v7).bind fun x12 =>
      hk_nm (v6 + (m_size (x11 - x12))) fun x13 =>
      hk_nm (v7 + (1 : Int32)) fun x14 =>
      rc x13 x14 s9) fun k57 =>
  if (hm_I s3 33) ≤ v2 then
    e0 v1 s3
  else
  if p2 = (7 : Int32) then
    (hm_lI s3 18 40 v2).bind fun x19 =>
  (m_chosenBy p1 x19 (0 : Int32) s3).bind fun q20 =>
  k57 v1 v2 (1 : Int32) q20.2
  else
  (hm_lI s3 18 40 v2).bind fun x17 =>
    (m_layOut p1 p2 x17 (0 : Int32) s3).bind fun q18 =>
    k57 v1 v2 q18.1 q18.2
def m_offSum_L5 (p1 : Int32) (p2 : Int32) (e0 : Int32 → hk_Ms → Option (Int32 × hk_Ms)) : Nat → Int32 → Int32 → hk_Ms → Option (Int32 × hk_Ms)
  | 0 => fun _ _ _ => none
  | n + 1 => m_offSum_L5b p1 p2 e0 (m_offSum_L5 p1 p2 e0 n)
def m_offSum (p1 : Int32) (p2 : Int32) (s0 : hk_Ms) : Option (Int32 × hk_Ms) :=
  m_offSum_L5 p1 p2  (fun (v4 : Int32) (s5 : hk_Ms) =>
    some (v4, s5)) hk_F (0 : Int32) (0 : Int32) s0
abbrev N_m_offSum (l : Launch) : hk_N := (l, cX4_offSum, "HeadReckonsModel", 7, (some .int), 83, 4275, false)
set_option maxHeartbeats 4000000 in
theorem wk_m_offSum_L5b {l : Launch} {Gd : hk_G} {m0 : Nat} {st : hk_St} (KM : hk_KM m0 st) {p1 : Int32} {p2 : Int32} {s0 : hk_Ms} {r : Int32} {fin : hk_Ms} {e0 : Int32 → hk_Ms → Option (Int32 × hk_Ms)} {rc : Int32 → Int32 → hk_Ms → Option (Int32 × hk_Ms)} (hrc : ∀ (v1 : Int32) (v2 : Int32) (s3 : hk_Ms), rc v1 v2 s3 = some (r, fin) → hk_V Gd (N_m_offSum l) (hk_end Gd (hk_mU m0 st s0) (some (.int r)) (hk_mU m0 st fin)) 5 [(0, .ref m0), (1, .int p1), (2, .int p2), (3, .int v1), (4, .int v2)] [] (hk_mU m0 st s3)) (he0 : ∀ (v4 : Int32) (s5 : hk_Ms), e0 v4 s5 = some (r, fin) → hk_V Gd (N_m_offSum l) (hk_end Gd (hk_mU m0 st s0) (some (.int r)) (hk_mU m0 st fin)) 88 [(3, .int v4)] [] (hk_mU m0 st s5)) {v1 : Int32} {v2 : Int32} {s3 : hk_Ms} (h : m_offSum_L5b p1 p2 e0 rc v1 v2 s3 = some (r, fin)) : hk_V Gd (N_m_offSum l) (hk_end Gd (hk_mU m0 st s0) (some (.int r)) (hk_mU m0 st fin)) 5 [(0, .ref m0), (1, .int p1), (2, .int p2), (3, .int v1), (4, .int v2)] [] (hk_mU m0 st s3) := by
  unfold m_offSum_L5b at h
  obtain ⟨k57, e_k57, h⟩ := hq_nm h
  have wk57 : ∀ (v6 : Int32) (v7 : Int32) (v8 : Int32) (s9 : hk_Ms), k57 v6 v7 v8 s9 = some (r, fin) → hk_V Gd (N_m_offSum l) (hk_end Gd (hk_mU m0 st s0) (some (.int r)) (hk_mU m0 st fin)) 57 [(0, .ref m0), (1, .int p1), (2, .int p2), (3, .int v6), (4, .int v7), (5, .int v8)] [] (hk_mU m0 st s9) := by
    intro v6 v7 v8 s9 h
    rw [e_k57] at h
    refine hv_iload 5 dX4_offSum_57 rfl ?_
    refine hv_if_ne (tgt := 64) dX4_offSum_59 (by decide) (fun c10 => ?_) (fun c10 => ?_)
    · replace h := hq_in c10 h
      refine hv_iload_n 3 dX4_offSum_64 rfl rfl ?_
      refine hv_aload_n 0 dX4_offSum_65 rfl rfl ?_
      obtain ⟨x11, e_x11, h⟩ := hq_ob h
      refine hv_callV [] [.int v6] [.int x11, .int v6] (wk_m_seconds KM e_x11) cs_X4_283 KM.recv rfl ⟨Nat.le_of_ble_eq_true rfl, Nat.le_of_ble_eq_true rfl⟩ rfl (Nat.le_of_ble_eq_true rfl) rfl dX4_offSum_66 ?_
      refine hv_aload_n 0 dX4_offSum_69 rfl rfl ?_
      refine hm_getA (j := 19) KM (fl_X4_67) rfl (Nat.le_of_ble_eq_true rfl) dX4_offSum_70 ?_
      refine hv_iload 4 dX4_offSum_73 rfl ?_
      obtain ⟨x12, e_x12, h⟩ := hq_ob h
      refine hm_iaload KM e_x12 (Nat.le_of_ble_eq_true rfl) rfl dX4_offSum_75 ?_
      refine hv_isub dX4_offSum_76 ?_
      refine hv_callS [.int (x11 - x12)] [.int v6] [.int (m_size (x11 - x12)), .int v6] (wk_m_size rfl) cs_X4_250 rfl ⟨Nat.le_of_ble_eq_true rfl, Nat.le_of_ble_eq_true rfl⟩ rfl (Nat.le_of_ble_eq_true rfl) rfl dX4_offSum_77 ?_
      refine hv_iadd dX4_offSum_80 ?_
      obtain ⟨x13, e_x13, h⟩ := hq_nm h
      rw [← e_x13]
      refine hv_istore_n (L' := [(3, .int x13), (0, .ref m0), (1, .int p1), (2, .int p2), (4, .int v7), (5, .int v8)]) dX4_offSum_81 rfl (Nat.le_of_ble_eq_true rfl) rfl ?_
      obtain ⟨x14, e_x14, h⟩ := hq_nm h
      refine hv_iinc (v := x14) (L' := [(4, .int x14), (3, .int x13), (0, .ref m0), (1, .int p1), (2, .int p2), (5, .int v8)]) 4 dX4_offSum_82 rfl (by rw [e_x14]; rfl) (Nat.le_of_ble_eq_true rfl) rfl ?_
      refine hv_goto (tgt := 5) dX4_offSum_85 (by decide) ?_
      refine hv_sub [2, 3, 4, 1, 0] rfl ?_
      exact hrc _ _ _ h
    · replace h := hq_ip c10 h
      refine hv_iconst (v := -1) dX4_offSum_62 (by decide) ?_
      obtain ⟨h1, h2⟩ := hq_ret h
      subst h1
      subst h2
      exact hv_iret rfl dX4_offSum_63
  clear e_k57
  refine hv_iload 4 dX4_offSum_5 rfl ?_
  refine hv_aload_n 0 dX4_offSum_7 rfl rfl ?_
  refine hm_getI (f := 33) KM (fl_X4_306) dX4_offSum_8 ?_
  refine hv_icmp_ge (tgt := 88) dX4_offSum_11 (by decide) (fun c15 => ?_) (fun c15 => ?_)
  · replace h := hq_ip c15 h
    refine hv_sub [3] rfl ?_
    exact he0 _ _ h
  · replace h := hq_in c15 h
    refine hv_iconst (v := 1) dX4_offSum_14 (by decide) ?_
    refine hv_istore (L' := [(5, .int (1 : Int32)), (0, .ref m0), (1, .int p1), (2, .int p2), (3, .int v1), (4, .int v2)]) dX4_offSum_15 (Nat.le_of_ble_eq_true rfl) rfl ?_
    refine hv_iload_n 3 dX4_offSum_17 rfl rfl ?_
    refine hv_bipush (v := 7) dX4_offSum_18 (by decide) ?_
    refine hv_icmp_ne (tgt := 41) dX4_offSum_20 (by decide) (fun c16 => ?_) (fun c16 => ?_)
    · replace h := hq_in c16 h
      refine hv_aload_n 1 dX4_offSum_41 rfl rfl ?_
      refine hv_iload_n 2 dX4_offSum_42 rfl rfl ?_
      refine hv_iload_n 3 dX4_offSum_43 rfl rfl ?_
      refine hv_aload_n 1 dX4_offSum_44 rfl rfl ?_
      refine hm_getA (j := 18) KM (fl_X4_64) rfl (Nat.le_of_ble_eq_true rfl) dX4_offSum_45 ?_
      refine hv_iload 5 dX4_offSum_48 rfl ?_
      obtain ⟨x17, e_x17, h⟩ := hq_ob h
      refine hm_iaload KM e_x17 (Nat.le_of_ble_eq_true rfl) rfl dX4_offSum_50 ?_
      refine hv_iconst (v := 0) dX4_offSum_51 (by decide) ?_
      obtain ⟨q18, e_q18, h⟩ := hq_ob h
      refine hv_callV [.int p1, .int p2, .int x17, .int (0 : Int32)] [] [.int q18.1] (wk_m_layOut KM e_q18) cs_X4_279 KM.recv rfl ⟨Nat.le_of_ble_eq_true rfl, Nat.le_of_ble_eq_true rfl⟩ rfl (Nat.le_of_ble_eq_true rfl) rfl dX4_offSum_52 ?_
      refine hv_istore (L' := [(5, .int q18.1), (0, .ref m0), (1, .int p1), (2, .int p2), (3, .int v1), (4, .int v2)]) dX4_offSum_55 (Nat.le_of_ble_eq_true rfl) rfl ?_
      refine hv_sub [1, 2, 3, 4, 5, 0] rfl ?_
      exact wk57 _ _ _ _ h
    · replace h := hq_ip c16 h
      refine hv_aload_n 1 dX4_offSum_23 rfl rfl ?_
      refine hv_iload_n 2 dX4_offSum_24 rfl rfl ?_
      refine hv_aload_n 1 dX4_offSum_25 rfl rfl ?_
      refine hm_getA (j := 18) KM (fl_X4_64) rfl (Nat.le_of_ble_eq_true rfl) dX4_offSum_26 ?_
      refine hv_iload 5 dX4_offSum_29 rfl ?_
      obtain ⟨x19, e_x19, h⟩ := hq_ob h
      refine hm_iaload KM e_x19 (Nat.le_of_ble_eq_true rfl) rfl dX4_offSum_31 ?_
      refine hv_iconst (v := 0) dX4_offSum_32 (by decide) ?_
      obtain ⟨q20, e_q20, h⟩ := hq_ob h
      refine hv_callV [.int p1, .int x19, .int (0 : Int32)] [] [.int q20.1] (wk_m_chosenBy KM e_q20) cs_X4_297 KM.recv rfl ⟨Nat.le_of_ble_eq_true rfl, Nat.le_of_ble_eq_true rfl⟩ rfl (Nat.le_of_ble_eq_true rfl) rfl dX4_offSum_33 ?_
      refine hv_istore (L' := [(6, .int q20.1), (5, .int (1 : Int32)), (0, .ref m0), (1, .int p1), (2, .int p2), (3, .int v1), (4, .int v2)]) dX4_offSum_36 (Nat.le_of_ble_eq_true rfl) rfl ?_
      refine hv_goto (tgt := 57) dX4_offSum_38 (by decide) ?_
      refine hv_sub [2, 3, 4, 5, 6, 1] rfl ?_
      exact wk57 _ _ _ _ h
theorem wk_m_offSum_L5 {l : Launch} {Gd : hk_G} {m0 : Nat} {st : hk_St} (KM : hk_KM m0 st) {p1 : Int32} {p2 : Int32} {s0 : hk_Ms} {r : Int32} {fin : hk_Ms} {e0 : Int32 → hk_Ms → Option (Int32 × hk_Ms)} (he0 : ∀ (v4 : Int32) (s5 : hk_Ms), e0 v4 s5 = some (r, fin) → hk_V Gd (N_m_offSum l) (hk_end Gd (hk_mU m0 st s0) (some (.int r)) (hk_mU m0 st fin)) 88 [(3, .int v4)] [] (hk_mU m0 st s5)) : ∀ (n : Nat) (v1 : Int32) (v2 : Int32) (s3 : hk_Ms), m_offSum_L5 p1 p2 e0 n v1 v2 s3 = some (r, fin) → hk_V Gd (N_m_offSum l) (hk_end Gd (hk_mU m0 st s0) (some (.int r)) (hk_mU m0 st fin)) 5 [(0, .ref m0), (1, .int p1), (2, .int p2), (3, .int v1), (4, .int v2)] [] (hk_mU m0 st s3) := by
  intro n
  induction n with
  | zero => intro v1 v2 s3 h; cases h
  | succ n ih => intro v1 v2 s3 h; exact wk_m_offSum_L5b KM ih he0 h
set_option maxHeartbeats 4000000 in
theorem wk_m_offSum {l : Launch} {Gd : hk_G} {m0 : Nat} {st : hk_St} (KM : hk_KM m0 st) {p1 : Int32} {p2 : Int32} {s0 : hk_Ms} {r : Int32} {fin : hk_Ms} (h : m_offSum p1 p2 s0 = some (r, fin)) : hk_Met Gd l yX4_offSum cX4_offSum 7 (some .int) 83 4275 [.ref m0, .int p1, .int p2] (hk_mU m0 st s0) (some (.int r)) (hk_mU m0 st fin) := by
  refine hk_start "HeadReckonsModel" false (by decide +kernel) rfl (by decide) (Nat.le_of_ble_eq_true rfl) ?_
  show hk_V Gd (N_m_offSum l) (hk_end Gd (hk_mU m0 st s0) (some (.int r)) (hk_mU m0 st fin)) 0 [(0, .ref m0), (1, .int p1), (2, .int p2)] [] (hk_mU m0 st s0)
  unfold m_offSum at h
  refine hv_iconst (v := 0) dX4_offSum_0 (by decide) ?_
  refine hv_istore_n (L' := [(3, .int (0 : Int32)), (0, .ref m0), (1, .int p1), (2, .int p2)]) dX4_offSum_1 rfl (Nat.le_of_ble_eq_true rfl) rfl ?_
  refine hv_iconst (v := 0) dX4_offSum_2 (by decide) ?_
  refine hv_istore (L' := [(4, .int (0 : Int32)), (3, .int (0 : Int32)), (0, .ref m0), (1, .int p1), (2, .int p2)]) dX4_offSum_3 (Nat.le_of_ble_eq_true rfl) rfl ?_
  refine hv_sub [2, 3, 4, 1, 0] rfl ?_
  refine wk_m_offSum_L5 KM ?_ hk_F _ _ _ h
  · intro v4 s5 h
    refine hv_iload_n 0 dX4_offSum_88 rfl rfl ?_
    obtain ⟨h1, h2⟩ := hq_ret h
    subst h1
    subst h2
    exact hv_iret rfl dX4_offSum_89
