set_option maxRecDepth 100000
def m_best_L38b (p1 : Int32) (p2 : Int32) (e0 : Int32 → Int32 → hk_Ms → Option (Int32 × hk_Ms)) (rc : Int32 → Int32 → Int32 → hk_Ms → Option (Int32 × hk_Ms)) (v5 : Int32) (v6 : Int32) (v7 : Int32) (s8 : hk_Ms) : Option (Int32 × hk_Ms) :=
  if (7 : Int32) < v7 then
    e0 v5 v6 s8
  else
  (m_offSum p1 v7 s8).bind fun q13 =>
  if q13.1 < 0 then
    hk_nm (v7 + (1 : Int32)) fun x15 =>
    rc v5 v6 x15 q13.2
  else
  if v5 < 0 then
    hk_nm (v7 + (1 : Int32)) fun x17 =>
    rc v7 q13.1 x17 q13.2
  else
  if v6 ≤ q13.1 then
    hk_nm (v7 + (1 : Int32)) fun x19 =>
    rc v5 v6 x19 q13.2
  else
  hk_nm (v7 + (1 : Int32)) fun x20 =>
  rc v7 q13.1 x20 q13.2
def m_best_L38 (p1 : Int32) (p2 : Int32) (e0 : Int32 → Int32 → hk_Ms → Option (Int32 × hk_Ms)) : Nat → Int32 → Int32 → Int32 → hk_Ms → Option (Int32 × hk_Ms)
  | 0 => fun _ _ _ _ => none
  | n + 1 => m_best_L38b p1 p2 e0 (m_best_L38 p1 p2 e0 n)
def m_best (p1 : Int32) (p2 : Int32) (s0 : hk_Ms) : Option (Int32 × hk_Ms) :=
  (m_isHead p1 s0).bind fun x1 =>
  if x1 = 0 then
    some ((-1 : Int32), s0)
  else
  if (m_within p2.toInt64 (0 : Int64) (1 : Int64)) = 0 then
    some ((-1 : Int32), s0)
  else
  if (hm_I s0 33) = 0 then
      some ((-5 : Int32), s0)
    else
    m_best_L38 p1 p2  (fun (v9 : Int32) (v10 : Int32) (s11 : hk_Ms) =>
        if p2 = 0 then
          some (v9, s11)
        else
        some (v10, s11)) hk_F (-1 : Int32) (0 : Int32) (0 : Int32) s0
abbrev N_m_best (l : Launch) : hk_N := (l, cX4_best, "HeadReckonsModel", 7, (some .int), 84, 4301, false)
set_option maxHeartbeats 4000000 in
theorem wk_m_best_L38b {l : Launch} {Gd : hk_G} {m0 : Nat} {st : hk_St} (KM : hk_KM m0 st) {p1 : Int32} {p2 : Int32} {s0 : hk_Ms} {r : Int32} {fin : hk_Ms} {e0 : Int32 → Int32 → hk_Ms → Option (Int32 × hk_Ms)} {rc : Int32 → Int32 → Int32 → hk_Ms → Option (Int32 × hk_Ms)} (hrc : ∀ (v5 : Int32) (v6 : Int32) (v7 : Int32) (s8 : hk_Ms), rc v5 v6 v7 s8 = some (r, fin) → hk_V Gd (N_m_best l) (hk_end Gd (hk_mU m0 st s0) (some (.int r)) (hk_mU m0 st fin)) 38 [(0, .ref m0), (1, .int p1), (2, .int p2), (3, .int v5), (4, .int v6), (5, .int v7)] [] (hk_mU m0 st s8)) (he0 : ∀ (v9 : Int32) (v10 : Int32) (s11 : hk_Ms), e0 v9 v10 s11 = some (r, fin) → hk_V Gd (N_m_best l) (hk_end Gd (hk_mU m0 st s0) (some (.int r)) (hk_mU m0 st fin)) 83 [(2, .int p2), (3, .int v9), (4, .int v10)] [] (hk_mU m0 st s11)) {v5 : Int32} {v6 : Int32} {v7 : Int32} {s8 : hk_Ms} (h : m_best_L38b p1 p2 e0 rc v5 v6 v7 s8 = some (r, fin)) : hk_V Gd (N_m_best l) (hk_end Gd (hk_mU m0 st s0) (some (.int r)) (hk_mU m0 st fin)) 38 [(0, .ref m0), (1, .int p1), (2, .int p2), (3, .int v5), (4, .int v6), (5, .int v7)] [] (hk_mU m0 st s8) := by
  unfold m_best_L38b at h
  refine hv_iload 5 dX4_best_38 rfl ?_
  refine hv_bipush (v := 7) dX4_best_40 (by decide) ?_
  refine hv_icmp_gt (tgt := 83) dX4_best_42 (by decide) (fun c12 => ?_) (fun c12 => ?_)
  · replace h := hq_ip c12 h
    refine hv_sub [2, 3, 4] rfl ?_
    exact he0 _ _ _ h
  · replace h := hq_in c12 h
    refine hv_aload_n 0 dX4_best_45 rfl rfl ?_
    refine hv_iload_n 1 dX4_best_46 rfl rfl ?_
    refine hv_iload 5 dX4_best_47 rfl ?_
    obtain ⟨q13, e_q13, h⟩ := hq_ob h
    refine hv_callV [.int p1, .int v7] [] [.int q13.1] (wk_m_offSum KM e_q13) cs_X4_330 KM.recv rfl ⟨Nat.le_of_ble_eq_true rfl, Nat.le_of_ble_eq_true rfl⟩ rfl (Nat.le_of_ble_eq_true rfl) rfl dX4_best_49 ?_
    refine hv_istore (L' := [(6, .int q13.1), (0, .ref m0), (1, .int p1), (2, .int p2), (3, .int v5), (4, .int v6), (5, .int v7)]) dX4_best_52 (Nat.le_of_ble_eq_true rfl) rfl ?_
    refine hv_iload 0 dX4_best_54 rfl ?_
    refine hv_if_lt (tgt := 77) dX4_best_56 (by decide) (fun c14 => ?_) (fun c14 => ?_)
    · replace h := hq_ip c14 h
      obtain ⟨x15, e_x15, h⟩ := hq_nm h
      refine hv_iinc (v := x15) (L' := [(5, .int x15), (6, .int q13.1), (0, .ref m0), (1, .int p1), (2, .int p2), (3, .int v5), (4, .int v6)]) 6 dX4_best_77 rfl (by rw [e_x15]; rfl) (Nat.le_of_ble_eq_true rfl) rfl ?_
      refine hv_goto (tgt := 38) dX4_best_80 (by decide) ?_
      refine hv_sub [2, 3, 4, 5, 6, 0] rfl ?_
      exact hrc _ _ _ _ h
    · replace h := hq_in c14 h
      refine hv_iload_n 4 dX4_best_59 rfl rfl ?_
      refine hv_if_lt (tgt := 70) dX4_best_60 (by decide) (fun c16 => ?_) (fun c16 => ?_)
      · replace h := hq_ip c16 h
        refine hv_iload 6 dX4_best_70 rfl ?_
        refine hv_istore_n (L' := [(3, .int v7), (6, .int q13.1), (0, .ref m0), (1, .int p1), (2, .int p2), (4, .int v6), (5, .int v7)]) dX4_best_72 rfl (Nat.le_of_ble_eq_true rfl) rfl ?_
        refine hv_iload 1 dX4_best_73 rfl ?_
        refine hv_istore (L' := [(4, .int q13.1), (3, .int v7), (6, .int q13.1), (0, .ref m0), (1, .int p1), (2, .int p2), (5, .int v7)]) dX4_best_75 (Nat.le_of_ble_eq_true rfl) rfl ?_
        obtain ⟨x17, e_x17, h⟩ := hq_nm h
        refine hv_iinc (v := x17) (L' := [(5, .int x17), (4, .int q13.1), (3, .int v7), (6, .int q13.1), (0, .ref m0), (1, .int p1), (2, .int p2)]) 6 dX4_best_77 rfl (by rw [e_x17]; rfl) (Nat.le_of_ble_eq_true rfl) rfl ?_
        refine hv_goto (tgt := 38) dX4_best_80 (by decide) ?_
        refine hv_sub [4, 5, 6, 2, 1, 0] rfl ?_
        exact hrc _ _ _ _ h
      · replace h := hq_in c16 h
        refine hv_iload 0 dX4_best_63 rfl ?_
        refine hv_iload 5 dX4_best_65 rfl ?_
        refine hv_icmp_ge (tgt := 77) dX4_best_67 (by decide) (fun c18 => ?_) (fun c18 => ?_)
        · replace h := hq_ip c18 h
          obtain ⟨x19, e_x19, h⟩ := hq_nm h
          refine hv_iinc (v := x19) (L' := [(5, .int x19), (6, .int q13.1), (0, .ref m0), (1, .int p1), (2, .int p2), (3, .int v5), (4, .int v6)]) 6 dX4_best_77 rfl (by rw [e_x19]; rfl) (Nat.le_of_ble_eq_true rfl) rfl ?_
          refine hv_goto (tgt := 38) dX4_best_80 (by decide) ?_
          refine hv_sub [2, 3, 4, 5, 6, 0] rfl ?_
          exact hrc _ _ _ _ h
        · replace h := hq_in c18 h
          refine hv_iload 6 dX4_best_70 rfl ?_
          refine hv_istore_n (L' := [(3, .int v7), (6, .int q13.1), (0, .ref m0), (1, .int p1), (2, .int p2), (4, .int v6), (5, .int v7)]) dX4_best_72 rfl (Nat.le_of_ble_eq_true rfl) rfl ?_
          refine hv_iload 1 dX4_best_73 rfl ?_
          refine hv_istore (L' := [(4, .int q13.1), (3, .int v7), (6, .int q13.1), (0, .ref m0), (1, .int p1), (2, .int p2), (5, .int v7)]) dX4_best_75 (Nat.le_of_ble_eq_true rfl) rfl ?_
          obtain ⟨x20, e_x20, h⟩ := hq_nm h
          refine hv_iinc (v := x20) (L' := [(5, .int x20), (4, .int q13.1), (3, .int v7), (6, .int q13.1), (0, .ref m0), (1, .int p1), (2, .int p2)]) 6 dX4_best_77 rfl (by rw [e_x20]; rfl) (Nat.le_of_ble_eq_true rfl) rfl ?_
          refine hv_goto (tgt := 38) dX4_best_80 (by decide) ?_
          refine hv_sub [4, 5, 6, 2, 1, 0] rfl ?_
          exact hrc _ _ _ _ h
theorem wk_m_best_L38 {l : Launch} {Gd : hk_G} {m0 : Nat} {st : hk_St} (KM : hk_KM m0 st) {p1 : Int32} {p2 : Int32} {s0 : hk_Ms} {r : Int32} {fin : hk_Ms} {e0 : Int32 → Int32 → hk_Ms → Option (Int32 × hk_Ms)} (he0 : ∀ (v9 : Int32) (v10 : Int32) (s11 : hk_Ms), e0 v9 v10 s11 = some (r, fin) → hk_V Gd (N_m_best l) (hk_end Gd (hk_mU m0 st s0) (some (.int r)) (hk_mU m0 st fin)) 83 [(2, .int p2), (3, .int v9), (4, .int v10)] [] (hk_mU m0 st s11)) : ∀ (n : Nat) (v5 : Int32) (v6 : Int32) (v7 : Int32) (s8 : hk_Ms), m_best_L38 p1 p2 e0 n v5 v6 v7 s8 = some (r, fin) → hk_V Gd (N_m_best l) (hk_end Gd (hk_mU m0 st s0) (some (.int r)) (hk_mU m0 st fin)) 38 [(0, .ref m0), (1, .int p1), (2, .int p2), (3, .int v5), (4, .int v6), (5, .int v7)] [] (hk_mU m0 st s8) := by
  intro n
  induction n with
  | zero => intro v5 v6 v7 s8 h; cases h
  | succ n ih => intro v5 v6 v7 s8 h; exact wk_m_best_L38b KM ih he0 h
set_option maxHeartbeats 4000000 in
theorem wk_m_best {l : Launch} {Gd : hk_G} {m0 : Nat} {st : hk_St} (KM : hk_KM m0 st) {p1 : Int32} {p2 : Int32} {s0 : hk_Ms} {r : Int32} {fin : hk_Ms} (h : m_best p1 p2 s0 = some (r, fin)) : hk_Met Gd l yX4_best cX4_best 7 (some .int) 84 4301 [.ref m0, .int p1, .int p2] (hk_mU m0 st s0) (some (.int r)) (hk_mU m0 st fin) := by
  refine hk_start "HeadReckonsModel" false (by decide +kernel) rfl (by decide) (Nat.le_of_ble_eq_true rfl) ?_
  show hk_V Gd (N_m_best l) (hk_end Gd (hk_mU m0 st s0) (some (.int r)) (hk_mU m0 st fin)) 0 [(0, .ref m0), (1, .int p1), (2, .int p2)] [] (hk_mU m0 st s0)
  unfold m_best at h
  refine hv_aload_n 0 dX4_best_0 rfl rfl ?_
  refine hv_iload_n 1 dX4_best_1 rfl rfl ?_
  obtain ⟨x1, e_x1, h⟩ := hq_ob h
  refine hv_callV [.int p1] [] [.int x1] (wk_m_isHead KM e_x1) cs_X4_188 KM.recv rfl ⟨Nat.le_of_ble_eq_true rfl, Nat.le_of_ble_eq_true rfl⟩ rfl (Nat.le_of_ble_eq_true rfl) rfl dX4_best_2 ?_
  refine hv_if_eq (tgt := 18) dX4_best_5 (by decide) (fun c2 => ?_) (fun c2 => ?_)
  · replace h := hq_ip c2 h
    refine hv_iconst (v := -1) dX4_best_18 (by decide) ?_
    obtain ⟨h1, h2⟩ := hq_ret h
    subst h1
    subst h2
    exact hv_iret rfl dX4_best_19
  · replace h := hq_in c2 h
    refine hv_iload_n 2 dX4_best_8 rfl rfl ?_
    refine hv_i2l dX4_best_9 ?_
    refine hv_lconst (v := 0) dX4_best_10 (by decide) ?_
    refine hv_lconst (v := 1) dX4_best_11 (by decide) ?_
    refine hv_callS [.long p2.toInt64, .long (0 : Int64), .long (1 : Int64)] [] [.int (m_within p2.toInt64 (0 : Int64) (1 : Int64))] (wk_m_within rfl) cs_X4_113 rfl ⟨Nat.le_of_ble_eq_true rfl, Nat.le_of_ble_eq_true rfl⟩ rfl (Nat.le_of_ble_eq_true rfl) rfl dX4_best_12 ?_
    refine hv_if_ne (tgt := 20) dX4_best_15 (by decide) (fun c3 => ?_) (fun c3 => ?_)
    · replace h := hq_in c3 h
      refine hv_aload_n 0 dX4_best_20 rfl rfl ?_
      refine hm_getI (f := 33) KM (fl_X4_306) dX4_best_21 ?_
      refine hv_if_ne (tgt := 30) dX4_best_24 (by decide) (fun c4 => ?_) (fun c4 => ?_)
      · replace h := hq_in c4 h
        refine hv_iconst (v := -1) dX4_best_30 (by decide) ?_
        refine hv_istore_n (L' := [(3, .int (-1 : Int32)), (0, .ref m0), (1, .int p1), (2, .int p2)]) dX4_best_31 rfl (Nat.le_of_ble_eq_true rfl) rfl ?_
        refine hv_iconst (v := 0) dX4_best_32 (by decide) ?_
        refine hv_istore (L' := [(4, .int (0 : Int32)), (3, .int (-1 : Int32)), (0, .ref m0), (1, .int p1), (2, .int p2)]) dX4_best_33 (Nat.le_of_ble_eq_true rfl) rfl ?_
        refine hv_iconst (v := 0) dX4_best_35 (by decide) ?_
        refine hv_istore (L' := [(5, .int (0 : Int32)), (4, .int (0 : Int32)), (3, .int (-1 : Int32)), (0, .ref m0), (1, .int p1), (2, .int p2)]) dX4_best_36 (Nat.le_of_ble_eq_true rfl) rfl ?_
        refine hv_sub [3, 4, 5, 2, 1, 0] rfl ?_
        refine wk_m_best_L38 KM ?_ hk_F _ _ _ _ h
        · intro v9 v10 s11 h
          refine hv_iload_n 0 dX4_best_83 rfl rfl ?_
          refine hv_if_ne (tgt := 91) dX4_best_84 (by decide) (fun c21 => ?_) (fun c21 => ?_)
          · replace h := hq_in c21 h
            refine hv_iload 2 dX4_best_91 rfl ?_
            obtain ⟨h1, h2⟩ := hq_ret h
            subst h1
            subst h2
            exact hv_iret rfl dX4_best_93
          · replace h := hq_ip c21 h
            refine hv_iload_n 1 dX4_best_87 rfl rfl ?_
            refine hv_goto (tgt := 93) dX4_best_88 (by decide) ?_
            obtain ⟨h1, h2⟩ := hq_ret h
            subst h1
            subst h2
            exact hv_iret rfl dX4_best_93
      · replace h := hq_ip c4 h
        refine hv_bipush (v := -5) dX4_best_27 (by decide) ?_
        obtain ⟨h1, h2⟩ := hq_ret h
        subst h1
        subst h2
        exact hv_iret rfl dX4_best_29
    · replace h := hq_ip c3 h
      refine hv_iconst (v := -1) dX4_best_18 (by decide) ?_
      obtain ⟨h1, h2⟩ := hq_ret h
      subst h1
      subst h2
      exact hv_iret rfl dX4_best_19
def m_slip_L87b (p1 : Int32) (p2 : Int32) (p3 : Int32) (e0 : hk_Ms → Option (Int32 × hk_Ms)) (rc : Int32 → hk_Ms → Option (Int32 × hk_Ms)) (v11 : Int32) (s12 : hk_Ms) : Option (Int32 × hk_Ms) :=
  if (hm_I s12 21) ≤ v11 then
    e0 s12
  else
  (m_offBy p2 s12).bind fun x15 =>
  (m_canSlip v11 x15 s12).bind fun x16 =>
  if x16 = 0 then
    hk_nm (v11 + (1 : Int32)) fun x18 =>
    rc x18 s12
  else
  some (v11, s12)
def m_slip_L87 (p1 : Int32) (p2 : Int32) (p3 : Int32) (e0 : hk_Ms → Option (Int32 × hk_Ms)) : Nat → Int32 → hk_Ms → Option (Int32 × hk_Ms)
  | 0 => fun _ _ => none
  | n + 1 => m_slip_L87b p1 p2 p3 e0 (m_slip_L87 p1 p2 p3 e0 n)
def m_slip (p1 : Int32) (p2 : Int32) (p3 : Int32) (s0 : hk_Ms) : Option (Int32 × hk_Ms) :=
  (m_isHw p1 s0).bind fun x1 =>
  if x1 = 0 then
    some ((-1 : Int32), s0)
  else
  if (m_within p2.toInt64 (0 : Int64) (((hm_I s0 33) - (1 : Int32)).toInt64)) = 0 then
    some ((-1 : Int32), s0)
  else
  if (m_within p3.toInt64 (0 : Int64) (1 : Int64)) = 0 then
    some ((-1 : Int32), s0)
  else
  (m_offBy p2 s0).bind fun x5 =>
  if x5 = 0 then
    some ((-1 : Int32), s0)
  else
  (hm_lI s0 18 40 p2).bind fun x7 =>
    (m_layOut (p1 / (10 : Int32)) (p1 - p1 / (10 : Int32) * (10 : Int32)) x7 (0 : Int32) s0).bind fun q8 =>
    if q8.1 = 0 then
      some ((-2 : Int32), q8.2)
    else
    if p3 = (1 : Int32) then
        (m_offBy p2 q8.2).bind fun x19 =>
      (m_slipsOf x19 q8.2).bind fun x20 =>
      some (x20, q8.2)
      else
      m_slip_L87 p1 p2 p3  (fun (s13 : hk_Ms) =>
          some ((-2 : Int32), s13)) hk_F (0 : Int32) q8.2
abbrev N_m_slip (l : Launch) : hk_N := (l, cX4_slip, "HeadReckonsModel", 5, (some .int), 6, 149, false)
set_option maxHeartbeats 4000000 in
theorem wk_m_slip_L87b {l : Launch} {Gd : hk_G} {m0 : Nat} {st : hk_St} (KM : hk_KM m0 st) {p1 : Int32} {p2 : Int32} {p3 : Int32} {s0 : hk_Ms} {r : Int32} {fin : hk_Ms} {e0 : hk_Ms → Option (Int32 × hk_Ms)} {rc : Int32 → hk_Ms → Option (Int32 × hk_Ms)} (hrc : ∀ (v11 : Int32) (s12 : hk_Ms), rc v11 s12 = some (r, fin) → hk_V Gd (N_m_slip l) (hk_end Gd (hk_mU m0 st s0) (some (.int r)) (hk_mU m0 st fin)) 87 [(0, .ref m0), (2, .int p2), (4, .int v11)] [] (hk_mU m0 st s12)) (he0 : ∀ (s13 : hk_Ms), e0 s13 = some (r, fin) → hk_V Gd (N_m_slip l) (hk_end Gd (hk_mU m0 st s0) (some (.int r)) (hk_mU m0 st fin)) 119 [] [] (hk_mU m0 st s13)) {v11 : Int32} {s12 : hk_Ms} (h : m_slip_L87b p1 p2 p3 e0 rc v11 s12 = some (r, fin)) : hk_V Gd (N_m_slip l) (hk_end Gd (hk_mU m0 st s0) (some (.int r)) (hk_mU m0 st fin)) 87 [(0, .ref m0), (2, .int p2), (4, .int v11)] [] (hk_mU m0 st s12) := by
  unfold m_slip_L87b at h
  refine hv_iload 2 dX4_slip_87 rfl ?_
  refine hv_aload_n 0 dX4_slip_89 rfl rfl ?_
  refine hm_getI (f := 21) KM (fl_X4_214) dX4_slip_90 ?_
  refine hv_icmp_ge (tgt := 119) dX4_slip_93 (by decide) (fun c14 => ?_) (fun c14 => ?_)
  · replace h := hq_ip c14 h
    refine hv_sub [] rfl ?_
    exact he0 _ h
  · replace h := hq_in c14 h
    refine hv_aload_n 0 dX4_slip_96 rfl rfl ?_
    refine hv_iload 2 dX4_slip_97 rfl ?_
    refine hv_aload_n 0 dX4_slip_99 rfl rfl ?_
    refine hv_iload_n 1 dX4_slip_100 rfl rfl ?_
    obtain ⟨x15, e_x15, h⟩ := hq_ob h
    refine hv_callV [.int p2] [.int v11, .ref m0] [.int x15, .int v11, .ref m0] (wk_m_offBy KM e_x15) cs_X4_317 KM.recv rfl ⟨Nat.le_of_ble_eq_true rfl, Nat.le_of_ble_eq_true rfl⟩ rfl (Nat.le_of_ble_eq_true rfl) rfl dX4_slip_101 ?_
    obtain ⟨x16, e_x16, h⟩ := hq_ob h
    refine hv_callV [.int v11, .int x15] [] [.int x16] (wk_m_canSlip KM e_x16) cs_X4_320 KM.recv rfl ⟨Nat.le_of_ble_eq_true rfl, Nat.le_of_ble_eq_true rfl⟩ rfl (Nat.le_of_ble_eq_true rfl) rfl dX4_slip_104 ?_
    refine hv_if_eq (tgt := 113) dX4_slip_107 (by decide) (fun c17 => ?_) (fun c17 => ?_)
    · replace h := hq_ip c17 h
      obtain ⟨x18, e_x18, h⟩ := hq_nm h
      refine hv_iinc (v := x18) (L' := [(4, .int x18), (0, .ref m0), (2, .int p2)]) 2 dX4_slip_113 rfl (by rw [e_x18]; rfl) (Nat.le_of_ble_eq_true rfl) rfl ?_
      refine hv_goto (tgt := 87) dX4_slip_116 (by decide) ?_
      refine hv_sub [1, 2, 0] rfl ?_
      exact hrc _ _ h
    · replace h := hq_in c17 h
      refine hv_iload 2 dX4_slip_110 rfl ?_
      obtain ⟨h1, h2⟩ := hq_ret h
      subst h1
      subst h2
      exact hv_iret rfl dX4_slip_112
theorem wk_m_slip_L87 {l : Launch} {Gd : hk_G} {m0 : Nat} {st : hk_St} (KM : hk_KM m0 st) {p1 : Int32} {p2 : Int32} {p3 : Int32} {s0 : hk_Ms} {r : Int32} {fin : hk_Ms} {e0 : hk_Ms → Option (Int32 × hk_Ms)} (he0 : ∀ (s13 : hk_Ms), e0 s13 = some (r, fin) → hk_V Gd (N_m_slip l) (hk_end Gd (hk_mU m0 st s0) (some (.int r)) (hk_mU m0 st fin)) 119 [] [] (hk_mU m0 st s13)) : ∀ (n : Nat) (v11 : Int32) (s12 : hk_Ms), m_slip_L87 p1 p2 p3 e0 n v11 s12 = some (r, fin) → hk_V Gd (N_m_slip l) (hk_end Gd (hk_mU m0 st s0) (some (.int r)) (hk_mU m0 st fin)) 87 [(0, .ref m0), (2, .int p2), (4, .int v11)] [] (hk_mU m0 st s12) := by
  intro n
  induction n with
  | zero => intro v11 s12 h; cases h
  | succ n ih => intro v11 s12 h; exact wk_m_slip_L87b KM ih he0 h
set_option maxHeartbeats 4000000 in
theorem wk_m_slip {l : Launch} {Gd : hk_G} {m0 : Nat} {st : hk_St} (KM : hk_KM m0 st) {p1 : Int32} {p2 : Int32} {p3 : Int32} {s0 : hk_Ms} {r : Int32} {fin : hk_Ms} (h : m_slip p1 p2 p3 s0 = some (r, fin)) : hk_Met Gd l yX4_slip cX4_slip 5 (some .int) 6 149 [.ref m0, .int p1, .int p2, .int p3] (hk_mU m0 st s0) (some (.int r)) (hk_mU m0 st fin) := by
  refine hk_start "HeadReckonsModel" false (by decide +kernel) rfl (by decide) (Nat.le_of_ble_eq_true rfl) ?_
  show hk_V Gd (N_m_slip l) (hk_end Gd (hk_mU m0 st s0) (some (.int r)) (hk_mU m0 st fin)) 0 [(0, .ref m0), (1, .int p1), (2, .int p2), (3, .int p3)] [] (hk_mU m0 st s0)
  unfold m_slip at h
  refine hv_aload_n 0 dX4_slip_0 rfl rfl ?_
  refine hv_iload_n 1 dX4_slip_1 rfl rfl ?_
  obtain ⟨x1, e_x1, h⟩ := hq_ob h
  refine hv_callV [.int p1] [] [.int x1] (wk_m_isHw KM e_x1) cs_X4_274 KM.recv rfl ⟨Nat.le_of_ble_eq_true rfl, Nat.le_of_ble_eq_true rfl⟩ rfl (Nat.le_of_ble_eq_true rfl) rfl dX4_slip_2 ?_
  refine hv_if_eq (tgt := 42) dX4_slip_5 (by decide) (fun c2 => ?_) (fun c2 => ?_)
  · replace h := hq_ip c2 h
    refine hv_iconst (v := -1) dX4_slip_42 (by decide) ?_
    obtain ⟨h1, h2⟩ := hq_ret h
    subst h1
    subst h2
    exact hv_iret rfl dX4_slip_43
  · replace h := hq_in c2 h
    refine hv_iload_n 2 dX4_slip_8 rfl rfl ?_
    refine hv_i2l dX4_slip_9 ?_
    refine hv_lconst (v := 0) dX4_slip_10 (by decide) ?_
    refine hv_aload_n 0 dX4_slip_11 rfl rfl ?_
    refine hm_getI (f := 33) KM (fl_X4_306) dX4_slip_12 ?_
    refine hv_iconst (v := 1) dX4_slip_15 (by decide) ?_
    refine hv_isub dX4_slip_16 ?_
    refine hv_i2l dX4_slip_17 ?_
    refine hv_callS [.long p2.toInt64, .long (0 : Int64), .long (((hm_I s0 33) - (1 : Int32)).toInt64)] [] [.int (m_within p2.toInt64 (0 : Int64) (((hm_I s0 33) - (1 : Int32)).toInt64))] (wk_m_within rfl) cs_X4_113 rfl ⟨Nat.le_of_ble_eq_true rfl, Nat.le_of_ble_eq_true rfl⟩ rfl (Nat.le_of_ble_eq_true rfl) rfl dX4_slip_18 ?_
    refine hv_if_eq (tgt := 42) dX4_slip_21 (by decide) (fun c3 => ?_) (fun c3 => ?_)
    · replace h := hq_ip c3 h
      refine hv_iconst (v := -1) dX4_slip_42 (by decide) ?_
      obtain ⟨h1, h2⟩ := hq_ret h
      subst h1
      subst h2
      exact hv_iret rfl dX4_slip_43
    · replace h := hq_in c3 h
      refine hv_iload_n 3 dX4_slip_24 rfl rfl ?_
      refine hv_i2l dX4_slip_25 ?_
      refine hv_lconst (v := 0) dX4_slip_26 (by decide) ?_
      refine hv_lconst (v := 1) dX4_slip_27 (by decide) ?_
      refine hv_callS [.long p3.toInt64, .long (0 : Int64), .long (1 : Int64)] [] [.int (m_within p3.toInt64 (0 : Int64) (1 : Int64))] (wk_m_within rfl) cs_X4_113 rfl ⟨Nat.le_of_ble_eq_true rfl, Nat.le_of_ble_eq_true rfl⟩ rfl (Nat.le_of_ble_eq_true rfl) rfl dX4_slip_28 ?_
      refine hv_if_eq (tgt := 42) dX4_slip_31 (by decide) (fun c4 => ?_) (fun c4 => ?_)
      · replace h := hq_ip c4 h
        refine hv_iconst (v := -1) dX4_slip_42 (by decide) ?_
        obtain ⟨h1, h2⟩ := hq_ret h
        subst h1
        subst h2
        exact hv_iret rfl dX4_slip_43
      · replace h := hq_in c4 h
        refine hv_aload_n 0 dX4_slip_34 rfl rfl ?_
        refine hv_iload_n 2 dX4_slip_35 rfl rfl ?_
        obtain ⟨x5, e_x5, h⟩ := hq_ob h
        refine hv_callV [.int p2] [] [.int x5] (wk_m_offBy KM e_x5) cs_X4_317 KM.recv rfl ⟨Nat.le_of_ble_eq_true rfl, Nat.le_of_ble_eq_true rfl⟩ rfl (Nat.le_of_ble_eq_true rfl) rfl dX4_slip_36 ?_
        refine hv_if_ne (tgt := 44) dX4_slip_39 (by decide) (fun c6 => ?_) (fun c6 => ?_)
        · replace h := hq_in c6 h
          refine hv_aload_n 0 dX4_slip_44 rfl rfl ?_
          refine hv_iload_n 1 dX4_slip_45 rfl rfl ?_
          refine hv_bipush (v := 10) dX4_slip_46 (by decide) ?_
          refine hv_idiv (by decide) dX4_slip_48 ?_
          refine hv_iload_n 1 dX4_slip_49 rfl rfl ?_
          refine hv_bipush (v := 10) dX4_slip_50 (by decide) ?_
          refine hv_irem (by decide) dX4_slip_52 ?_
          refine hv_aload_n 0 dX4_slip_53 rfl rfl ?_
          refine hm_getA (j := 18) KM (fl_X4_64) rfl (Nat.le_of_ble_eq_true rfl) dX4_slip_54 ?_
          refine hv_iload_n 2 dX4_slip_57 rfl rfl ?_
          obtain ⟨x7, e_x7, h⟩ := hq_ob h
          refine hm_iaload KM e_x7 (Nat.le_of_ble_eq_true rfl) rfl dX4_slip_58 ?_
          refine hv_iconst (v := 0) dX4_slip_59 (by decide) ?_
          obtain ⟨q8, e_q8, h⟩ := hq_ob h
          refine hv_callV [.int (p1 / (10 : Int32)), .int (p1 - p1 / (10 : Int32) * (10 : Int32)), .int x7, .int (0 : Int32)] [] [.int q8.1] (wk_m_layOut KM e_q8) cs_X4_279 KM.recv rfl ⟨Nat.le_of_ble_eq_true rfl, Nat.le_of_ble_eq_true rfl⟩ rfl (Nat.le_of_ble_eq_true rfl) rfl dX4_slip_60 ?_
          refine hv_if_ne (tgt := 69) dX4_slip_63 (by decide) (fun c9 => ?_) (fun c9 => ?_)
          · replace h := hq_in c9 h
            refine hv_iload_n 3 dX4_slip_69 rfl rfl ?_
            refine hv_iconst (v := 1) dX4_slip_70 (by decide) ?_
            refine hv_icmp_ne (tgt := 84) dX4_slip_71 (by decide) (fun c10 => ?_) (fun c10 => ?_)
            · replace h := hq_in c10 h
              refine hv_iconst (v := 0) dX4_slip_84 (by decide) ?_
              refine hv_istore (L' := [(4, .int (0 : Int32)), (0, .ref m0), (1, .int p1), (2, .int p2), (3, .int p3)]) dX4_slip_85 (Nat.le_of_ble_eq_true rfl) rfl ?_
              refine hv_sub [1, 3, 0] rfl ?_
              refine wk_m_slip_L87 KM ?_ hk_F _ _ h
              · intro s13 h
                refine hv_bipush (v := -2) dX4_slip_119 (by decide) ?_
                obtain ⟨h1, h2⟩ := hq_ret h
                subst h1
                subst h2
                exact hv_iret rfl dX4_slip_121
            · replace h := hq_ip c10 h
              refine hv_aload_n 0 dX4_slip_74 rfl rfl ?_
              refine hv_aload_n 0 dX4_slip_75 rfl rfl ?_
              refine hv_iload_n 2 dX4_slip_76 rfl rfl ?_
              obtain ⟨x19, e_x19, h⟩ := hq_ob h
              refine hv_callV [.int p2] [.ref m0] [.int x19, .ref m0] (wk_m_offBy KM e_x19) cs_X4_317 KM.recv rfl ⟨Nat.le_of_ble_eq_true rfl, Nat.le_of_ble_eq_true rfl⟩ rfl (Nat.le_of_ble_eq_true rfl) rfl dX4_slip_77 ?_
              obtain ⟨x20, e_x20, h⟩ := hq_ob h
              refine hv_callV [.int x19] [] [.int x20] (wk_m_slipsOf KM e_x20) cs_X4_323 KM.recv rfl ⟨Nat.le_of_ble_eq_true rfl, Nat.le_of_ble_eq_true rfl⟩ rfl (Nat.le_of_ble_eq_true rfl) rfl dX4_slip_80 ?_
              obtain ⟨h1, h2⟩ := hq_ret h
              subst h1
              subst h2
              exact hv_iret rfl dX4_slip_83
          · replace h := hq_ip c9 h
            refine hv_bipush (v := -2) dX4_slip_66 (by decide) ?_
            obtain ⟨h1, h2⟩ := hq_ret h
            subst h1
            subst h2
            exact hv_iret rfl dX4_slip_68
        · replace h := hq_ip c6 h
          refine hv_iconst (v := -1) dX4_slip_42 (by decide) ?_
          obtain ⟨h1, h2⟩ := hq_ret h
          subst h1
          subst h2
          exact hv_iret rfl dX4_slip_43
def m_suits_L24b (p1 : Int32) (e0 : Int32 → hk_Ms → Option (Int32 × hk_Ms)) (rc : Int32 → Int32 → hk_Ms → Option (Int32 × hk_Ms)) (v4 : Int32) (v5 : Int32) (s6 : hk_Ms) : Option (Int32 × hk_Ms) :=
  if (hm_I s6 33) ≤ v5 then
    e0 v4 s6
  else
  (hm_lI s6 18 40 v5).bind fun x10 =>
  (m_chosenBy p1 x10 (0 : Int32) s6).bind fun q11 =>
  (m_seconds  q11.2).bind fun x12 =>
  (hm_lI q11.2 18 40 v5).bind fun x13 =>
  (m_layOut p1 (1 : Int32) x13 (0 : Int32) q11.2).bind fun q14 =>
  (m_seconds  q14.2).bind fun x15 =>
  if (x15 / (2 : Int32)) < x12 then
    hk_nm (v4 + (0 : Int32)) fun x17 =>
    hk_nm (v5 + (1 : Int32)) fun x18 =>
    rc x17 x18 q14.2
  else
  hk_nm (v4 + (1 : Int32)) fun x19 =>
  hk_nm (v5 + (1 : Int32)) fun x20 =>
  rc x19 x20 q14.2
def m_suits_L24 (p1 : Int32) (e0 : Int32 → hk_Ms → Option (Int32 × hk_Ms)) : Nat → Int32 → Int32 → hk_Ms → Option (Int32 × hk_Ms)
  | 0 => fun _ _ _ => none
  | n + 1 => m_suits_L24b p1 e0 (m_suits_L24 p1 e0 n)
def m_suits (p1 : Int32) (s0 : hk_Ms) : Option (Int32 × hk_Ms) :=
  (m_isHead p1 s0).bind fun x1 =>
  if x1 = 0 then
    some ((-1 : Int32), s0)
  else
  if (hm_I s0 33) = 0 then
      some ((-5 : Int32), s0)
    else
    m_suits_L24 p1  (fun (v7 : Int32) (s8 : hk_Ms) =>
        hk_gd (decide (¬ (hm_I s8 33) = 0)) <|
        some (((1000 : Int32) * v7) / (hm_I s8 33), s8)) hk_F (0 : Int32) (0 : Int32) s0
abbrev N_m_suits (l : Launch) : hk_N := (l, cX4_suits, "HeadReckonsModel", 7, (some .int), 83, 4275, false)
set_option maxHeartbeats 4000000 in
theorem wk_m_suits_L24b {l : Launch} {Gd : hk_G} {m0 : Nat} {st : hk_St} (KM : hk_KM m0 st) {p1 : Int32} {s0 : hk_Ms} {r : Int32} {fin : hk_Ms} {e0 : Int32 → hk_Ms → Option (Int32 × hk_Ms)} {rc : Int32 → Int32 → hk_Ms → Option (Int32 × hk_Ms)} (hrc : ∀ (v4 : Int32) (v5 : Int32) (s6 : hk_Ms), rc v4 v5 s6 = some (r, fin) → hk_V Gd (N_m_suits l) (hk_end Gd (hk_mU m0 st s0) (some (.int r)) (hk_mU m0 st fin)) 24 [(0, .ref m0), (1, .int p1), (2, .int v4), (3, .int v5)] [] (hk_mU m0 st s6)) (he0 : ∀ (v7 : Int32) (s8 : hk_Ms), e0 v7 s8 = some (r, fin) → hk_V Gd (N_m_suits l) (hk_end Gd (hk_mU m0 st s0) (some (.int r)) (hk_mU m0 st fin)) 92 [(0, .ref m0), (2, .int v7)] [] (hk_mU m0 st s8)) {v4 : Int32} {v5 : Int32} {s6 : hk_Ms} (h : m_suits_L24b p1 e0 rc v4 v5 s6 = some (r, fin)) : hk_V Gd (N_m_suits l) (hk_end Gd (hk_mU m0 st s0) (some (.int r)) (hk_mU m0 st fin)) 24 [(0, .ref m0), (1, .int p1), (2, .int v4), (3, .int v5)] [] (hk_mU m0 st s6) := by
  unfold m_suits_L24b at h
  refine hv_iload_n 3 dX4_suits_24 rfl rfl ?_
  refine hv_aload_n 0 dX4_suits_25 rfl rfl ?_
  refine hm_getI (f := 33) KM (fl_X4_306) dX4_suits_26 ?_
  refine hv_icmp_ge (tgt := 92) dX4_suits_29 (by decide) (fun c9 => ?_) (fun c9 => ?_)
  · replace h := hq_ip c9 h
    refine hv_sub [0, 2] rfl ?_
    exact he0 _ _ h
  · replace h := hq_in c9 h
    refine hv_aload_n 0 dX4_suits_32 rfl rfl ?_
    refine hv_iload_n 1 dX4_suits_33 rfl rfl ?_
    refine hv_aload_n 0 dX4_suits_34 rfl rfl ?_
    refine hm_getA (j := 18) KM (fl_X4_64) rfl (Nat.le_of_ble_eq_true rfl) dX4_suits_35 ?_
    refine hv_iload_n 3 dX4_suits_38 rfl rfl ?_
    obtain ⟨x10, e_x10, h⟩ := hq_ob h
    refine hm_iaload KM e_x10 (Nat.le_of_ble_eq_true rfl) rfl dX4_suits_39 ?_
    refine hv_iconst (v := 0) dX4_suits_40 (by decide) ?_
    obtain ⟨q11, e_q11, h⟩ := hq_ob h
    refine hv_callV [.int p1, .int x10, .int (0 : Int32)] [] [.int q11.1] (wk_m_chosenBy KM e_q11) cs_X4_297 KM.recv rfl ⟨Nat.le_of_ble_eq_true rfl, Nat.le_of_ble_eq_true rfl⟩ rfl (Nat.le_of_ble_eq_true rfl) rfl dX4_suits_41 ?_
    refine hv_istore (L' := [(4, .int q11.1), (0, .ref m0), (1, .int p1), (2, .int v4), (3, .int v5)]) dX4_suits_44 (Nat.le_of_ble_eq_true rfl) rfl ?_
    refine hv_aload_n 1 dX4_suits_46 rfl rfl ?_
    obtain ⟨x12, e_x12, h⟩ := hq_ob h
    refine hv_callV [] [] [.int x12] (wk_m_seconds KM e_x12) cs_X4_283 KM.recv rfl ⟨Nat.le_of_ble_eq_true rfl, Nat.le_of_ble_eq_true rfl⟩ rfl (Nat.le_of_ble_eq_true rfl) rfl dX4_suits_47 ?_
    refine hv_istore (L' := [(5, .int x12), (4, .int q11.1), (0, .ref m0), (1, .int p1), (2, .int v4), (3, .int v5)]) dX4_suits_50 (Nat.le_of_ble_eq_true rfl) rfl ?_
    refine hv_aload_n 2 dX4_suits_52 rfl rfl ?_
    refine hv_iload_n 3 dX4_suits_53 rfl rfl ?_
    refine hv_iconst (v := 1) dX4_suits_54 (by decide) ?_
    refine hv_aload_n 2 dX4_suits_55 rfl rfl ?_
    refine hm_getA (j := 18) KM (fl_X4_64) rfl (Nat.le_of_ble_eq_true rfl) dX4_suits_56 ?_
    refine hv_iload_n 5 dX4_suits_59 rfl rfl ?_
    obtain ⟨x13, e_x13, h⟩ := hq_ob h
    refine hm_iaload KM e_x13 (Nat.le_of_ble_eq_true rfl) rfl dX4_suits_60 ?_
    refine hv_iconst (v := 0) dX4_suits_61 (by decide) ?_
    obtain ⟨q14, e_q14, h⟩ := hq_ob h
    refine hv_callV [.int p1, .int (1 : Int32), .int x13, .int (0 : Int32)] [] [.int q14.1] (wk_m_layOut KM e_q14) cs_X4_279 KM.recv rfl ⟨Nat.le_of_ble_eq_true rfl, Nat.le_of_ble_eq_true rfl⟩ rfl (Nat.le_of_ble_eq_true rfl) rfl dX4_suits_62 ?_
    refine hv_istore (L' := [(6, .int q14.1), (5, .int x12), (4, .int q11.1), (0, .ref m0), (1, .int p1), (2, .int v4), (3, .int v5)]) dX4_suits_65 (Nat.le_of_ble_eq_true rfl) rfl ?_
    refine hv_iload_n 5 dX4_suits_67 rfl rfl ?_
    refine hv_iload 1 dX4_suits_68 rfl ?_
    refine hv_aload_n 3 dX4_suits_70 rfl rfl ?_
    obtain ⟨x15, e_x15, h⟩ := hq_ob h
    refine hv_callV [] [.int x12, .int v4] [.int x15, .int x12, .int v4] (wk_m_seconds KM e_x15) cs_X4_283 KM.recv rfl ⟨Nat.le_of_ble_eq_true rfl, Nat.le_of_ble_eq_true rfl⟩ rfl (Nat.le_of_ble_eq_true rfl) rfl dX4_suits_71 ?_
    refine hv_iconst (v := 2) dX4_suits_74 (by decide) ?_
    refine hv_idiv (by decide) dX4_suits_75 ?_
    refine hv_icmp_gt (tgt := 83) dX4_suits_76 (by decide) (fun c16 => ?_) (fun c16 => ?_)
    · replace h := hq_ip c16 h
      refine hv_iconst (v := 0) dX4_suits_83 (by decide) ?_
      refine hv_iadd dX4_suits_84 ?_
      obtain ⟨x17, e_x17, h⟩ := hq_nm h
      rw [← e_x17]
      refine hv_istore_n (L' := [(2, .int x17), (6, .int q14.1), (5, .int x12), (4, .int q11.1), (0, .ref m0), (1, .int p1), (3, .int v5)]) dX4_suits_85 rfl (Nat.le_of_ble_eq_true rfl) rfl ?_
      obtain ⟨x18, e_x18, h⟩ := hq_nm h
      refine hv_iinc (v := x18) (L' := [(3, .int x18), (2, .int x17), (6, .int q14.1), (5, .int x12), (4, .int q11.1), (0, .ref m0), (1, .int p1)]) 6 dX4_suits_86 rfl (by rw [e_x18]; rfl) (Nat.le_of_ble_eq_true rfl) rfl ?_
      refine hv_goto (tgt := 24) dX4_suits_89 (by decide) ?_
      refine hv_sub [5, 6, 1, 0] rfl ?_
      exact hrc _ _ _ h
    · replace h := hq_in c16 h
      refine hv_iconst (v := 1) dX4_suits_79 (by decide) ?_
      refine hv_goto (tgt := 84) dX4_suits_80 (by decide) ?_
      refine hv_iadd dX4_suits_84 ?_
      obtain ⟨x19, e_x19, h⟩ := hq_nm h
      rw [← e_x19]
      refine hv_istore_n (L' := [(2, .int x19), (6, .int q14.1), (5, .int x12), (4, .int q11.1), (0, .ref m0), (1, .int p1), (3, .int v5)]) dX4_suits_85 rfl (Nat.le_of_ble_eq_true rfl) rfl ?_
      obtain ⟨x20, e_x20, h⟩ := hq_nm h
      refine hv_iinc (v := x20) (L' := [(3, .int x20), (2, .int x19), (6, .int q14.1), (5, .int x12), (4, .int q11.1), (0, .ref m0), (1, .int p1)]) 6 dX4_suits_86 rfl (by rw [e_x20]; rfl) (Nat.le_of_ble_eq_true rfl) rfl ?_
      refine hv_goto (tgt := 24) dX4_suits_89 (by decide) ?_
      refine hv_sub [5, 6, 1, 0] rfl ?_
      exact hrc _ _ _ h
theorem wk_m_suits_L24 {l : Launch} {Gd : hk_G} {m0 : Nat} {st : hk_St} (KM : hk_KM m0 st) {p1 : Int32} {s0 : hk_Ms} {r : Int32} {fin : hk_Ms} {e0 : Int32 → hk_Ms → Option (Int32 × hk_Ms)} (he0 : ∀ (v7 : Int32) (s8 : hk_Ms), e0 v7 s8 = some (r, fin) → hk_V Gd (N_m_suits l) (hk_end Gd (hk_mU m0 st s0) (some (.int r)) (hk_mU m0 st fin)) 92 [(0, .ref m0), (2, .int v7)] [] (hk_mU m0 st s8)) : ∀ (n : Nat) (v4 : Int32) (v5 : Int32) (s6 : hk_Ms), m_suits_L24 p1 e0 n v4 v5 s6 = some (r, fin) → hk_V Gd (N_m_suits l) (hk_end Gd (hk_mU m0 st s0) (some (.int r)) (hk_mU m0 st fin)) 24 [(0, .ref m0), (1, .int p1), (2, .int v4), (3, .int v5)] [] (hk_mU m0 st s6) := by
  intro n
  induction n with
  | zero => intro v4 v5 s6 h; cases h
  | succ n ih => intro v4 v5 s6 h; exact wk_m_suits_L24b KM ih he0 h
set_option maxHeartbeats 4000000 in
theorem wk_m_suits {l : Launch} {Gd : hk_G} {m0 : Nat} {st : hk_St} (KM : hk_KM m0 st) {p1 : Int32} {s0 : hk_Ms} {r : Int32} {fin : hk_Ms} (h : m_suits p1 s0 = some (r, fin)) : hk_Met Gd l yX4_suits cX4_suits 7 (some .int) 83 4275 [.ref m0, .int p1] (hk_mU m0 st s0) (some (.int r)) (hk_mU m0 st fin) := by
  refine hk_start "HeadReckonsModel" false (by decide +kernel) rfl (by decide) (Nat.le_of_ble_eq_true rfl) ?_
  show hk_V Gd (N_m_suits l) (hk_end Gd (hk_mU m0 st s0) (some (.int r)) (hk_mU m0 st fin)) 0 [(0, .ref m0), (1, .int p1)] [] (hk_mU m0 st s0)
  unfold m_suits at h
  refine hv_aload_n 0 dX4_suits_0 rfl rfl ?_
  refine hv_iload_n 1 dX4_suits_1 rfl rfl ?_
  obtain ⟨x1, e_x1, h⟩ := hq_ob h
  refine hv_callV [.int p1] [] [.int x1] (wk_m_isHead KM e_x1) cs_X4_188 KM.recv rfl ⟨Nat.le_of_ble_eq_true rfl, Nat.le_of_ble_eq_true rfl⟩ rfl (Nat.le_of_ble_eq_true rfl) rfl dX4_suits_2 ?_
  refine hv_if_ne (tgt := 10) dX4_suits_5 (by decide) (fun c2 => ?_) (fun c2 => ?_)
  · replace h := hq_in c2 h
    refine hv_aload_n 0 dX4_suits_10 rfl rfl ?_
    refine hm_getI (f := 33) KM (fl_X4_306) dX4_suits_11 ?_
    refine hv_if_ne (tgt := 20) dX4_suits_14 (by decide) (fun c3 => ?_) (fun c3 => ?_)
    · replace h := hq_in c3 h
      refine hv_iconst (v := 0) dX4_suits_20 (by decide) ?_
      refine hv_istore_n (L' := [(2, .int (0 : Int32)), (0, .ref m0), (1, .int p1)]) dX4_suits_21 rfl (Nat.le_of_ble_eq_true rfl) rfl ?_
      refine hv_iconst (v := 0) dX4_suits_22 (by decide) ?_
      refine hv_istore_n (L' := [(3, .int (0 : Int32)), (2, .int (0 : Int32)), (0, .ref m0), (1, .int p1)]) dX4_suits_23 rfl (Nat.le_of_ble_eq_true rfl) rfl ?_
      refine hv_sub [2, 3, 1, 0] rfl ?_
      refine wk_m_suits_L24 KM ?_ hk_F _ _ _ h
      · intro v7 s8 h
        refine hv_sipush (v := 1000) dX4_suits_92 (by decide) ?_
        refine hv_iload_n 1 dX4_suits_95 rfl rfl ?_
        refine hv_imul dX4_suits_96 ?_
        refine hv_aload_n 0 dX4_suits_97 rfl rfl ?_
        refine hm_getI (f := 33) KM (fl_X4_306) dX4_suits_98 ?_
        obtain ⟨g21, h⟩ := hq_gd h
        refine hv_idiv (of_decide_eq_true g21) dX4_suits_101 ?_
        obtain ⟨h1, h2⟩ := hq_ret h
        subst h1
        subst h2
        exact hv_iret rfl dX4_suits_102
    · replace h := hq_ip c3 h
      refine hv_bipush (v := -5) dX4_suits_17 (by decide) ?_
      obtain ⟨h1, h2⟩ := hq_ret h
      subst h1
      subst h2
      exact hv_iret rfl dX4_suits_19
  · replace h := hq_ip c2 h
    refine hv_iconst (v := -1) dX4_suits_8 (by decide) ?_
    obtain ⟨h1, h2⟩ := hq_ret h
    subst h1
    subst h2
    exact hv_iret rfl dX4_suits_9
def m_tell (p1 : Int32) (s0 : hk_Ms) : Option (Int32 × hk_Ms) :=
  if (m_isAsk p1) = 0 then
    some ((-1 : Int32), s0)
  else
  if (hm_I s0 37) = (8 : Int32) then
      some ((-3 : Int32), s0)
    else
    (hm_tI s0 21 8 (hm_I s0 37) p1).bind fun s3 =>
      hk_nm (hm_sI s3 37 ((hm_I s3 37) + (1 : Int32))) fun s4 =>
      some ((hm_I s4 37), s4)
abbrev N_m_tell (l : Launch) : hk_N := (l, cX4_tell, "HeadReckonsModel", 2, (some .int), 2, 45, false)
set_option maxHeartbeats 4000000 in
theorem wk_m_tell {l : Launch} {Gd : hk_G} {m0 : Nat} {st : hk_St} (KM : hk_KM m0 st) {p1 : Int32} {s0 : hk_Ms} {r : Int32} {fin : hk_Ms} (h : m_tell p1 s0 = some (r, fin)) : hk_Met Gd l yX4_tell cX4_tell 2 (some .int) 2 45 [.ref m0, .int p1] (hk_mU m0 st s0) (some (.int r)) (hk_mU m0 st fin) := by
  refine hk_start "HeadReckonsModel" false (by decide +kernel) rfl (by decide) (Nat.le_of_ble_eq_true rfl) ?_
  show hk_V Gd (N_m_tell l) (hk_end Gd (hk_mU m0 st s0) (some (.int r)) (hk_mU m0 st fin)) 0 [(0, .ref m0), (1, .int p1)] [] (hk_mU m0 st s0)
  unfold m_tell at h
  refine hv_iload_n 1 dX4_tell_0 rfl rfl ?_
  refine hv_callS [.int p1] [] [.int (m_isAsk p1)] (wk_m_isAsk rfl) cs_X4_208 rfl ⟨Nat.le_of_ble_eq_true rfl, Nat.le_of_ble_eq_true rfl⟩ rfl (Nat.le_of_ble_eq_true rfl) rfl dX4_tell_1 ?_
  refine hv_if_ne (tgt := 9) dX4_tell_4 (by decide) (fun c1 => ?_) (fun c1 => ?_)
  · replace h := hq_in c1 h
    refine hv_aload_n 0 dX4_tell_9 rfl rfl ?_
    refine hm_getI (f := 37) KM (fl_X4_333) dX4_tell_10 ?_
    refine hv_bipush (v := 8) dX4_tell_13 (by decide) ?_
    refine hv_icmp_ne (tgt := 21) dX4_tell_15 (by decide) (fun c2 => ?_) (fun c2 => ?_)
    · replace h := hq_in c2 h
      refine hv_aload_n 0 dX4_tell_21 rfl rfl ?_
      refine hm_getA (j := 21) KM (fl_X4_73) rfl (Nat.le_of_ble_eq_true rfl) dX4_tell_22 ?_
      refine hv_aload_n 0 dX4_tell_25 rfl rfl ?_
      refine hm_getI (f := 37) KM (fl_X4_333) dX4_tell_26 ?_
      refine hv_iload_n 1 dX4_tell_29 rfl rfl ?_
      obtain ⟨s3, e_s3, h⟩ := hq_ob h
      refine hm_iastore KM e_s3 (Nat.le_of_ble_eq_true rfl) rfl dX4_tell_30 ?_
      refine hv_aload_n 0 dX4_tell_31 rfl rfl ?_
      refine hv_dup dX4_tell_32 rfl ?_
      refine hm_getI (f := 37) KM (fl_X4_333) dX4_tell_33 ?_
      refine hv_iconst (v := 1) dX4_tell_36 (by decide) ?_
      refine hv_iadd dX4_tell_37 ?_
      obtain ⟨s4, e_s4, h⟩ := hq_nm h
      refine hm_putI (f := 37) KM (fp_X4_333) e_s4 dX4_tell_38 ?_
      refine hv_aload_n 0 dX4_tell_41 rfl rfl ?_
      refine hm_getI (f := 37) KM (fl_X4_333) dX4_tell_42 ?_
      obtain ⟨h1, h2⟩ := hq_ret h
      subst h1
      subst h2
      exact hv_iret rfl dX4_tell_45
    · replace h := hq_ip c2 h
      refine hv_bipush (v := -3) dX4_tell_18 (by decide) ?_
      obtain ⟨h1, h2⟩ := hq_ret h
      subst h1
      subst h2
      exact hv_iret rfl dX4_tell_20
  · replace h := hq_ip c1 h
    refine hv_iconst (v := -1) dX4_tell_7 (by decide) ?_
    obtain ⟨h1, h2⟩ := hq_ret h
    subst h1
    subst h2
    exact hv_iret rfl dX4_tell_8
def m_untell (s0 : hk_Ms) : Option (Int32 × hk_Ms) :=
  hk_nm (hm_I s0 37) fun x1 =>
  hk_nm (hm_sI s0 37 (0 : Int32)) fun s2 =>
  some (x1, s2)
abbrev N_m_untell (l : Launch) : hk_N := (l, cX4_untell, "HeadReckonsModel", 2, (some .int), 0, 0, false)
set_option maxHeartbeats 4000000 in
theorem wk_m_untell {l : Launch} {Gd : hk_G} {m0 : Nat} {st : hk_St} (KM : hk_KM m0 st) {s0 : hk_Ms} {r : Int32} {fin : hk_Ms} (h : m_untell s0 = some (r, fin)) : hk_Met Gd l yX4_untell cX4_untell 2 (some .int) 0 0 [.ref m0] (hk_mU m0 st s0) (some (.int r)) (hk_mU m0 st fin) := by
  refine hk_start "HeadReckonsModel" false (by decide +kernel) rfl (by decide) (Nat.le_of_ble_eq_true rfl) ?_
  show hk_V Gd (N_m_untell l) (hk_end Gd (hk_mU m0 st s0) (some (.int r)) (hk_mU m0 st fin)) 0 [(0, .ref m0)] [] (hk_mU m0 st s0)
  unfold m_untell at h
  refine hv_aload_n 0 dX4_untell_0 rfl rfl ?_
  refine hm_getI (f := 37) KM (fl_X4_333) dX4_untell_1 ?_
  obtain ⟨x1, e_x1, h⟩ := hq_nm h
  rw [← e_x1]
  refine hv_istore_n (L' := [(1, .int x1), (0, .ref m0)]) dX4_untell_4 rfl (Nat.le_of_ble_eq_true rfl) rfl ?_
  refine hv_aload_n 1 dX4_untell_5 rfl rfl ?_
  refine hv_iconst (v := 0) dX4_untell_6 (by decide) ?_
  obtain ⟨s2, e_s2, h⟩ := hq_nm h
  refine hm_putI (f := 37) KM (fp_X4_333) e_s2 dX4_untell_7 ?_
  refine hv_iload_n 0 dX4_untell_10 rfl rfl ?_
  obtain ⟨h1, h2⟩ := hq_ret h
  subst h1
  subst h2
  exact hv_iret rfl dX4_untell_11
def m_parts_L70b (p1 : Int32) (p2 : Int32) (p3 : Int32) (v14 : Int32) (v15 : Int32) (v16 : Int32) (e0 : Int32 → Int32 → hk_Ms → Option (Int32 × hk_Ms)) (rc : Int32 → Int32 → Int32 → hk_Ms → Option (Int32 × hk_Ms)) (v17 : Int32) (v18 : Int32) (v19 : Int32) (s20 : hk_Ms) : Option (Int32 × hk_Ms) :=
  hk_nm (fun (v24 : Int32) (v25 : Int32) (v26 : Int32) (s27 : hk_Ms) =>
    (m_seconds  s27).bind fun x28 =>
    if x28 ≤ v24 then
      hk_nm (v25 + (1 : Int32)) fun x30 =>
      rc v26 v24 x30 s27
    else
    (m_seconds  s27).bind fun x31 =>
    hk_nm (v25 + (1 : Int32)) fun x32 =>
    rc v26 x31 x32 s27) fun k128 =>
  hk_nm (fun (v33 : Int32) (v34 : Int32) (s35 : hk_Ms) =>
    (m_seconds  s35).bind fun x36 =>
    k128 v33 v34 x36 s35) fun k119 =>
  if (7 : Int32) ≤ v19 then
    e0 v17 v18 s20
  else
  if ((p2 >>> (v19 &&& 31)) &&& (1 : Int32)) = (1 : Int32) then
    (hm_lI s20 21 8 v16).bind fun x40 =>
  (m_layOut p1 v19 x40 (0 : Int32) s20).bind fun q41 =>
  if q41.1 = 0 then
    hk_nm (v19 + (1 : Int32)) fun x43 =>
    rc v17 v18 x43 q41.2
  else
  if v17 < 0 then
    k119 v18 v19 q41.2
  else
  (m_seconds  q41.2).bind fun x45 =>
  if v17 ≤ x45 then
    k128 v18 v19 v17 q41.2
  else
  k119 v18 v19 q41.2
  else
  hk_nm (v19 + (1 : Int32)) fun x39 =>
    rc v17 v18 x39 s20
def m_parts_L70 (p1 : Int32) (p2 : Int32) (p3 : Int32) (v14 : Int32) (v15 : Int32) (v16 : Int32) (e0 : Int32 → Int32 → hk_Ms → Option (Int32 × hk_Ms)) : Nat → Int32 → Int32 → Int32 → hk_Ms → Option (Int32 × hk_Ms)
  | 0 => fun _ _ _ _ => none
  | n + 1 => m_parts_L70b p1 p2 p3 v14 v15 v16 e0 (m_parts_L70 p1 p2 p3 v14 v15 v16 e0 n)
def m_parts_L52b (p1 : Int32) (p2 : Int32) (p3 : Int32) (e0 : Int32 → Int32 → hk_Ms → Option (Int32 × hk_Ms)) (rc : Int32 → Int32 → Int32 → hk_Ms → Option (Int32 × hk_Ms)) (v6 : Int32) (v7 : Int32) (v8 : Int32) (s9 : hk_Ms) : Option (Int32 × hk_Ms) :=
  if (hm_I s9 37) ≤ v8 then
    e0 v6 v7 s9
  else
  m_parts_L70 p1 p2 p3 v6 v7 v8 (fun (v21 : Int32) (v22 : Int32) (s23 : hk_Ms) =>
    if v21 < 0 then
      hk_nm (v8 + (1 : Int32)) fun x48 =>
      rc v6 v7 x48 s23
    else
    if (v22 - v21) ≤ v7 then
      hk_nm (v8 + (1 : Int32)) fun x50 =>
      rc v6 v7 x50 s23
    else
    hk_nm (v22 - v21) fun x51 =>
    hk_nm (v8 + (1 : Int32)) fun x52 =>
    rc v8 x51 x52 s23) hk_F (-1 : Int32) (-1 : Int32) (0 : Int32) s9
def m_parts_L52 (p1 : Int32) (p2 : Int32) (p3 : Int32) (e0 : Int32 → Int32 → hk_Ms → Option (Int32 × hk_Ms)) : Nat → Int32 → Int32 → Int32 → hk_Ms → Option (Int32 × hk_Ms)
  | 0 => fun _ _ _ _ => none
  | n + 1 => m_parts_L52b p1 p2 p3 e0 (m_parts_L52 p1 p2 p3 e0 n)
def m_parts (p1 : Int32) (p2 : Int32) (p3 : Int32) (s0 : hk_Ms) : Option (Int32 × hk_Ms) :=
  (m_isHead p1 s0).bind fun x1 =>
  if x1 = 0 then
    some ((-1 : Int32), s0)
  else
  if (m_within p2.toInt64 (0 : Int64) (127 : Int64)) = 0 then
    some ((-1 : Int32), s0)
  else
  if (m_within p3.toInt64 (0 : Int64) (1 : Int64)) = 0 then
    some ((-1 : Int32), s0)
  else
  if (hm_I s0 37) = 0 then
      some ((-5 : Int32), s0)
    else
    m_parts_L52 p1 p2 p3  (fun (v10 : Int32) (v11 : Int32) (s12 : hk_Ms) =>
        if 0 ≤ v10 then
          if p3 = 0 then
            some (v10, s12)
          else
          some (v11, s12)
        else
        some ((-2 : Int32), s12)) hk_F (-2 : Int32) (-1 : Int32) (0 : Int32) s0
abbrev N_m_parts (l : Launch) : hk_N := (l, cX4_parts, "HeadReckonsModel", 10, (some .int), 6, 149, false)
set_option maxHeartbeats 4000000 in
theorem wk_m_parts_L70b {l : Launch} {Gd : hk_G} {m0 : Nat} {st : hk_St} (KM : hk_KM m0 st) {p1 : Int32} {p2 : Int32} {p3 : Int32} {s0 : hk_Ms} {r : Int32} {fin : hk_Ms} {v14 : Int32} {v15 : Int32} {v16 : Int32} {e0 : Int32 → Int32 → hk_Ms → Option (Int32 × hk_Ms)} {rc : Int32 → Int32 → Int32 → hk_Ms → Option (Int32 × hk_Ms)} (hrc : ∀ (v17 : Int32) (v18 : Int32) (v19 : Int32) (s20 : hk_Ms), rc v17 v18 v19 s20 = some (r, fin) → hk_V Gd (N_m_parts l) (hk_end Gd (hk_mU m0 st s0) (some (.int r)) (hk_mU m0 st fin)) 70 [(0, .ref m0), (1, .int p1), (2, .int p2), (3, .int p3), (4, .int v14), (5, .int v15), (6, .int v16), (7, .int v17), (8, .int v18), (9, .int v19)] [] (hk_mU m0 st s20)) (he0 : ∀ (v21 : Int32) (v22 : Int32) (s23 : hk_Ms), e0 v21 v22 s23 = some (r, fin) → hk_V Gd (N_m_parts l) (hk_end Gd (hk_mU m0 st s0) (some (.int r)) (hk_mU m0 st fin)) 156 [(0, .ref m0), (1, .int p1), (2, .int p2), (3, .int p3), (4, .int v14), (5, .int v15), (6, .int v16), (7, .int v21), (8, .int v22)] [] (hk_mU m0 st s23)) {v17 : Int32} {v18 : Int32} {v19 : Int32} {s20 : hk_Ms} (h : m_parts_L70b p1 p2 p3 v14 v15 v16 e0 rc v17 v18 v19 s20 = some (r, fin)) : hk_V Gd (N_m_parts l) (hk_end Gd (hk_mU m0 st s0) (some (.int r)) (hk_mU m0 st fin)) 70 [(0, .ref m0), (1, .int p1), (2, .int p2), (3, .int p3), (4, .int v14), (5, .int v15), (6, .int v16), (7, .int v17), (8, .int v18), (9, .int v19)] [] (hk_mU m0 st s20) := by
  unfold m_parts_L70b at h
  obtain ⟨k128, e_k128, h⟩ := hq_nm h
  have wk128 : ∀ (v24 : Int32) (v25 : Int32) (v26 : Int32) (s27 : hk_Ms), k128 v24 v25 v26 s27 = some (r, fin) → hk_V Gd (N_m_parts l) (hk_end Gd (hk_mU m0 st s0) (some (.int r)) (hk_mU m0 st fin)) 128 [(0, .ref m0), (1, .int p1), (2, .int p2), (3, .int p3), (4, .int v14), (5, .int v15), (6, .int v16), (8, .int v24), (9, .int v25)] [.int v26] (hk_mU m0 st s27) := by
    intro v24 v25 v26 s27 h
    rw [e_k128] at h
    refine hv_istore (L' := [(7, .int v26), (0, .ref m0), (1, .int p1), (2, .int p2), (3, .int p3), (4, .int v14), (5, .int v15), (6, .int v16), (8, .int v24), (9, .int v25)]) dX4_parts_128 (Nat.le_of_ble_eq_true rfl) rfl ?_
    refine hv_aload_n 1 dX4_parts_130 rfl rfl ?_
    obtain ⟨x28, e_x28, h⟩ := hq_ob h
    refine hv_callV [] [] [.int x28] (wk_m_seconds KM e_x28) cs_X4_283 KM.recv rfl ⟨Nat.le_of_ble_eq_true rfl, Nat.le_of_ble_eq_true rfl⟩ rfl (Nat.le_of_ble_eq_true rfl) rfl dX4_parts_131 ?_
    refine hv_iload 8 dX4_parts_134 rfl ?_
    refine hv_icmp_le (tgt := 146) dX4_parts_136 (by decide) (fun c29 => ?_) (fun c29 => ?_)
    · replace h := hq_ip c29 h
      refine hv_iload 8 dX4_parts_146 rfl ?_
      refine hv_istore (L' := [(8, .int v24), (7, .int v26), (0, .ref m0), (1, .int p1), (2, .int p2), (3, .int p3), (4, .int v14), (5, .int v15), (6, .int v16), (9, .int v25)]) dX4_parts_148 (Nat.le_of_ble_eq_true rfl) rfl ?_
      obtain ⟨x30, e_x30, h⟩ := hq_nm h
      refine hv_iinc (v := x30) (L' := [(9, .int x30), (8, .int v24), (7, .int v26), (0, .ref m0), (1, .int p1), (2, .int p2), (3, .int p3), (4, .int v14), (5, .int v15), (6, .int v16)]) 9 dX4_parts_150 rfl (by rw [e_x30]; rfl) (Nat.le_of_ble_eq_true rfl) rfl ?_
      refine hv_goto (tgt := 70) dX4_parts_153 (by decide) ?_
      refine hv_sub [3, 4, 5, 6, 7, 8, 9, 2, 1, 0] rfl ?_
      exact hrc _ _ _ _ h
    · replace h := hq_in c29 h
      refine hv_aload_n 1 dX4_parts_139 rfl rfl ?_
      obtain ⟨x31, e_x31, h⟩ := hq_ob h
      refine hv_callV [] [] [.int x31] (wk_m_seconds KM e_x31) cs_X4_283 KM.recv rfl ⟨Nat.le_of_ble_eq_true rfl, Nat.le_of_ble_eq_true rfl⟩ rfl (Nat.le_of_ble_eq_true rfl) rfl dX4_parts_140 ?_
      refine hv_goto (tgt := 148) dX4_parts_143 (by decide) ?_
      refine hv_istore (L' := [(8, .int x31), (7, .int v26), (0, .ref m0), (1, .int p1), (2, .int p2), (3, .int p3), (4, .int v14), (5, .int v15), (6, .int v16), (9, .int v25)]) dX4_parts_148 (Nat.le_of_ble_eq_true rfl) rfl ?_
      obtain ⟨x32, e_x32, h⟩ := hq_nm h
      refine hv_iinc (v := x32) (L' := [(9, .int x32), (8, .int x31), (7, .int v26), (0, .ref m0), (1, .int p1), (2, .int p2), (3, .int p3), (4, .int v14), (5, .int v15), (6, .int v16)]) 9 dX4_parts_150 rfl (by rw [e_x32]; rfl) (Nat.le_of_ble_eq_true rfl) rfl ?_
      refine hv_goto (tgt := 70) dX4_parts_153 (by decide) ?_
      refine hv_sub [3, 4, 5, 6, 7, 8, 9, 2, 1, 0] rfl ?_
      exact hrc _ _ _ _ h
  clear e_k128
  obtain ⟨k119, e_k119, h⟩ := hq_nm h
  have wk119 : ∀ (v33 : Int32) (v34 : Int32) (s35 : hk_Ms), k119 v33 v34 s35 = some (r, fin) → hk_V Gd (N_m_parts l) (hk_end Gd (hk_mU m0 st s0) (some (.int r)) (hk_mU m0 st fin)) 119 [(0, .ref m0), (1, .int p1), (2, .int p2), (3, .int p3), (4, .int v14), (5, .int v15), (6, .int v16), (8, .int v33), (9, .int v34)] [] (hk_mU m0 st s35) := by
    intro v33 v34 s35 h
    rw [e_k119] at h
    refine hv_aload_n 0 dX4_parts_119 rfl rfl ?_
    obtain ⟨x36, e_x36, h⟩ := hq_ob h
    refine hv_callV [] [] [.int x36] (wk_m_seconds KM e_x36) cs_X4_283 KM.recv rfl ⟨Nat.le_of_ble_eq_true rfl, Nat.le_of_ble_eq_true rfl⟩ rfl (Nat.le_of_ble_eq_true rfl) rfl dX4_parts_120 ?_
    refine hv_goto (tgt := 128) dX4_parts_123 (by decide) ?_
    exact wk128 _ _ _ _ h
  clear e_k119
  refine hv_iload 9 dX4_parts_70 rfl ?_
  refine hv_bipush (v := 7) dX4_parts_72 (by decide) ?_
  refine hv_icmp_ge (tgt := 156) dX4_parts_74 (by decide) (fun c37 => ?_) (fun c37 => ?_)
  · replace h := hq_ip c37 h
    refine hv_sub [0, 1, 2, 3, 4, 5, 6, 7, 8] rfl ?_
    exact he0 _ _ _ h
  · replace h := hq_in c37 h
    refine hv_iload_n 2 dX4_parts_77 rfl rfl ?_
    refine hv_iload 9 dX4_parts_78 rfl ?_
    refine hv_ishr dX4_parts_80 ?_
    refine hv_iconst (v := 1) dX4_parts_81 (by decide) ?_
    refine hv_iand dX4_parts_82 ?_
    refine hv_iconst (v := 1) dX4_parts_83 (by decide) ?_
    refine hv_icmp_ne (tgt := 150) dX4_parts_84 (by decide) (fun c38 => ?_) (fun c38 => ?_)
    · replace h := hq_in c38 h
      obtain ⟨x39, e_x39, h⟩ := hq_nm h
      refine hv_iinc (v := x39) (L' := [(9, .int x39), (0, .ref m0), (1, .int p1), (2, .int p2), (3, .int p3), (4, .int v14), (5, .int v15), (6, .int v16), (7, .int v17), (8, .int v18)]) 9 dX4_parts_150 rfl (by rw [e_x39]; rfl) (Nat.le_of_ble_eq_true rfl) rfl ?_
      refine hv_goto (tgt := 70) dX4_parts_153 (by decide) ?_
      refine hv_sub [1, 2, 3, 4, 5, 6, 7, 8, 9, 0] rfl ?_
      exact hrc _ _ _ _ h
    · replace h := hq_ip c38 h
      refine hv_aload_n 0 dX4_parts_87 rfl rfl ?_
      refine hv_iload_n 1 dX4_parts_88 rfl rfl ?_
      refine hv_iload 9 dX4_parts_89 rfl ?_
      refine hv_aload_n 0 dX4_parts_91 rfl rfl ?_
      refine hm_getA (j := 21) KM (fl_X4_73) rfl (Nat.le_of_ble_eq_true rfl) dX4_parts_92 ?_
      refine hv_iload 6 dX4_parts_95 rfl ?_
      obtain ⟨x40, e_x40, h⟩ := hq_ob h
      refine hm_iaload KM e_x40 (Nat.le_of_ble_eq_true rfl) rfl dX4_parts_97 ?_
      refine hv_iconst (v := 0) dX4_parts_98 (by decide) ?_
      obtain ⟨q41, e_q41, h⟩ := hq_ob h
      refine hv_callV [.int p1, .int v19, .int x40, .int (0 : Int32)] [] [.int q41.1] (wk_m_layOut KM e_q41) cs_X4_279 KM.recv rfl ⟨Nat.le_of_ble_eq_true rfl, Nat.le_of_ble_eq_true rfl⟩ rfl (Nat.le_of_ble_eq_true rfl) rfl dX4_parts_99 ?_
      refine hv_if_eq (tgt := 150) dX4_parts_102 (by decide) (fun c42 => ?_) (fun c42 => ?_)
      · replace h := hq_ip c42 h
        obtain ⟨x43, e_x43, h⟩ := hq_nm h
        refine hv_iinc (v := x43) (L' := [(9, .int x43), (0, .ref m0), (1, .int p1), (2, .int p2), (3, .int p3), (4, .int v14), (5, .int v15), (6, .int v16), (7, .int v17), (8, .int v18)]) 9 dX4_parts_150 rfl (by rw [e_x43]; rfl) (Nat.le_of_ble_eq_true rfl) rfl ?_
        refine hv_goto (tgt := 70) dX4_parts_153 (by decide) ?_
        refine hv_sub [1, 2, 3, 4, 5, 6, 7, 8, 9, 0] rfl ?_
        exact hrc _ _ _ _ h
      · replace h := hq_in c42 h
        refine hv_iload 7 dX4_parts_105 rfl ?_
        refine hv_if_lt (tgt := 119) dX4_parts_107 (by decide) (fun c44 => ?_) (fun c44 => ?_)
        · replace h := hq_ip c44 h
          refine hv_sub [0, 1, 2, 3, 4, 5, 6, 8, 9] rfl ?_
          exact wk119 _ _ _ h
        · replace h := hq_in c44 h
          refine hv_aload_n 0 dX4_parts_110 rfl rfl ?_
          obtain ⟨x45, e_x45, h⟩ := hq_ob h
          refine hv_callV [] [] [.int x45] (wk_m_seconds KM e_x45) cs_X4_283 KM.recv rfl ⟨Nat.le_of_ble_eq_true rfl, Nat.le_of_ble_eq_true rfl⟩ rfl (Nat.le_of_ble_eq_true rfl) rfl dX4_parts_111 ?_
          refine hv_iload 7 dX4_parts_114 rfl ?_
          refine hv_icmp_ge (tgt := 126) dX4_parts_116 (by decide) (fun c46 => ?_) (fun c46 => ?_)
          · replace h := hq_ip c46 h
            refine hv_iload 7 dX4_parts_126 rfl ?_
            refine hv_sub [0, 1, 2, 3, 4, 5, 6, 8, 9] rfl ?_
            exact wk128 _ _ _ _ h
          · replace h := hq_in c46 h
            refine hv_sub [0, 1, 2, 3, 4, 5, 6, 8, 9] rfl ?_
            exact wk119 _ _ _ h
theorem wk_m_parts_L70 {l : Launch} {Gd : hk_G} {m0 : Nat} {st : hk_St} (KM : hk_KM m0 st) {p1 : Int32} {p2 : Int32} {p3 : Int32} {s0 : hk_Ms} {r : Int32} {fin : hk_Ms} {v14 : Int32} {v15 : Int32} {v16 : Int32} {e0 : Int32 → Int32 → hk_Ms → Option (Int32 × hk_Ms)} (he0 : ∀ (v21 : Int32) (v22 : Int32) (s23 : hk_Ms), e0 v21 v22 s23 = some (r, fin) → hk_V Gd (N_m_parts l) (hk_end Gd (hk_mU m0 st s0) (some (.int r)) (hk_mU m0 st fin)) 156 [(0, .ref m0), (1, .int p1), (2, .int p2), (3, .int p3), (4, .int v14), (5, .int v15), (6, .int v16), (7, .int v21), (8, .int v22)] [] (hk_mU m0 st s23)) : ∀ (n : Nat) (v17 : Int32) (v18 : Int32) (v19 : Int32) (s20 : hk_Ms), m_parts_L70 p1 p2 p3 v14 v15 v16 e0 n v17 v18 v19 s20 = some (r, fin) → hk_V Gd (N_m_parts l) (hk_end Gd (hk_mU m0 st s0) (some (.int r)) (hk_mU m0 st fin)) 70 [(0, .ref m0), (1, .int p1), (2, .int p2), (3, .int p3), (4, .int v14), (5, .int v15), (6, .int v16), (7, .int v17), (8, .int v18), (9, .int v19)] [] (hk_mU m0 st s20) := by
  intro n
  induction n with
  | zero => intro v17 v18 v19 s20 h; cases h
  | succ n ih => intro v17 v18 v19 s20 h; exact wk_m_parts_L70b KM ih he0 h
set_option maxHeartbeats 4000000 in
theorem wk_m_parts_L52b {l : Launch} {Gd : hk_G} {m0 : Nat} {st : hk_St} (KM : hk_KM m0 st) {p1 : Int32} {p2 : Int32} {p3 : Int32} {s0 : hk_Ms} {r : Int32} {fin : hk_Ms} {e0 : Int32 → Int32 → hk_Ms → Option (Int32 × hk_Ms)} {rc : Int32 → Int32 → Int32 → hk_Ms → Option (Int32 × hk_Ms)} (hrc : ∀ (v6 : Int32) (v7 : Int32) (v8 : Int32) (s9 : hk_Ms), rc v6 v7 v8 s9 = some (r, fin) → hk_V Gd (N_m_parts l) (hk_end Gd (hk_mU m0 st s0) (some (.int r)) (hk_mU m0 st fin)) 52 [(0, .ref m0), (1, .int p1), (2, .int p2), (3, .int p3), (4, .int v6), (5, .int v7), (6, .int v8)] [] (hk_mU m0 st s9)) (he0 : ∀ (v10 : Int32) (v11 : Int32) (s12 : hk_Ms), e0 v10 v11 s12 = some (r, fin) → hk_V Gd (N_m_parts l) (hk_end Gd (hk_mU m0 st s0) (some (.int r)) (hk_mU m0 st fin)) 188 [(3, .int p3), (4, .int v10), (5, .int v11)] [] (hk_mU m0 st s12)) {v6 : Int32} {v7 : Int32} {v8 : Int32} {s9 : hk_Ms} (h : m_parts_L52b p1 p2 p3 e0 rc v6 v7 v8 s9 = some (r, fin)) : hk_V Gd (N_m_parts l) (hk_end Gd (hk_mU m0 st s0) (some (.int r)) (hk_mU m0 st fin)) 52 [(0, .ref m0), (1, .int p1), (2, .int p2), (3, .int p3), (4, .int v6), (5, .int v7), (6, .int v8)] [] (hk_mU m0 st s9) := by
  unfold m_parts_L52b at h
  refine hv_iload 6 dX4_parts_52 rfl ?_
  refine hv_aload_n 0 dX4_parts_54 rfl rfl ?_
  refine hm_getI (f := 37) KM (fl_X4_333) dX4_parts_55 ?_
  refine hv_icmp_ge (tgt := 188) dX4_parts_58 (by decide) (fun c13 => ?_) (fun c13 => ?_)
  · replace h := hq_ip c13 h
    refine hv_sub [3, 4, 5] rfl ?_
    exact he0 _ _ _ h
  · replace h := hq_in c13 h
    refine hv_iconst (v := -1) dX4_parts_61 (by decide) ?_
    refine hv_istore (L' := [(7, .int (-1 : Int32)), (0, .ref m0), (1, .int p1), (2, .int p2), (3, .int p3), (4, .int v6), (5, .int v7), (6, .int v8)]) dX4_parts_62 (Nat.le_of_ble_eq_true rfl) rfl ?_
    refine hv_iconst (v := -1) dX4_parts_64 (by decide) ?_
    refine hv_istore (L' := [(8, .int (-1 : Int32)), (7, .int (-1 : Int32)), (0, .ref m0), (1, .int p1), (2, .int p2), (3, .int p3), (4, .int v6), (5, .int v7), (6, .int v8)]) dX4_parts_65 (Nat.le_of_ble_eq_true rfl) rfl ?_
    refine hv_iconst (v := 0) dX4_parts_67 (by decide) ?_
    refine hv_istore (L' := [(9, .int (0 : Int32)), (8, .int (-1 : Int32)), (7, .int (-1 : Int32)), (0, .ref m0), (1, .int p1), (2, .int p2), (3, .int p3), (4, .int v6), (5, .int v7), (6, .int v8)]) dX4_parts_68 (Nat.le_of_ble_eq_true rfl) rfl ?_
    refine hv_sub [3, 4, 5, 6, 7, 8, 9, 2, 1, 0] rfl ?_
    refine wk_m_parts_L70 KM ?_ hk_F _ _ _ _ h
    · intro v21 v22 s23 h
      refine hv_iload 7 dX4_parts_156 rfl ?_
      refine hv_if_lt (tgt := 182) dX4_parts_158 (by decide) (fun c47 => ?_) (fun c47 => ?_)
      · replace h := hq_ip c47 h
        obtain ⟨x48, e_x48, h⟩ := hq_nm h
        refine hv_iinc (v := x48) (L' := [(6, .int x48), (0, .ref m0), (1, .int p1), (2, .int p2), (3, .int p3), (4, .int v6), (5, .int v7), (7, .int v21), (8, .int v22)]) 6 dX4_parts_182 rfl (by rw [e_x48]; rfl) (Nat.le_of_ble_eq_true rfl) rfl ?_
        refine hv_goto (tgt := 52) dX4_parts_185 (by decide) ?_
        refine hv_sub [1, 2, 3, 4, 5, 6, 0] rfl ?_
        exact hrc _ _ _ _ h
      · replace h := hq_in c47 h
        refine hv_iload 8 dX4_parts_161 rfl ?_
        refine hv_iload 7 dX4_parts_163 rfl ?_
        refine hv_isub dX4_parts_165 ?_
        refine hv_iload 5 dX4_parts_166 rfl ?_
        refine hv_icmp_le (tgt := 182) dX4_parts_168 (by decide) (fun c49 => ?_) (fun c49 => ?_)
        · replace h := hq_ip c49 h
          obtain ⟨x50, e_x50, h⟩ := hq_nm h
          refine hv_iinc (v := x50) (L' := [(6, .int x50), (0, .ref m0), (1, .int p1), (2, .int p2), (3, .int p3), (4, .int v6), (5, .int v7), (7, .int v21), (8, .int v22)]) 6 dX4_parts_182 rfl (by rw [e_x50]; rfl) (Nat.le_of_ble_eq_true rfl) rfl ?_
          refine hv_goto (tgt := 52) dX4_parts_185 (by decide) ?_
          refine hv_sub [1, 2, 3, 4, 5, 6, 0] rfl ?_
          exact hrc _ _ _ _ h
        · replace h := hq_in c49 h
          refine hv_iload 6 dX4_parts_171 rfl ?_
          refine hv_istore (L' := [(4, .int v8), (0, .ref m0), (1, .int p1), (2, .int p2), (3, .int p3), (5, .int v7), (6, .int v8), (7, .int v21), (8, .int v22)]) dX4_parts_173 (Nat.le_of_ble_eq_true rfl) rfl ?_
          refine hv_iload 8 dX4_parts_175 rfl ?_
          refine hv_iload 7 dX4_parts_177 rfl ?_
          refine hv_isub dX4_parts_179 ?_
          obtain ⟨x51, e_x51, h⟩ := hq_nm h
          rw [← e_x51]
          refine hv_istore (L' := [(5, .int x51), (4, .int v8), (0, .ref m0), (1, .int p1), (2, .int p2), (3, .int p3), (6, .int v8), (7, .int v21), (8, .int v22)]) dX4_parts_180 (Nat.le_of_ble_eq_true rfl) rfl ?_
          obtain ⟨x52, e_x52, h⟩ := hq_nm h
          refine hv_iinc (v := x52) (L' := [(6, .int x52), (5, .int x51), (4, .int v8), (0, .ref m0), (1, .int p1), (2, .int p2), (3, .int p3), (7, .int v21), (8, .int v22)]) 6 dX4_parts_182 rfl (by rw [e_x52]; rfl) (Nat.le_of_ble_eq_true rfl) rfl ?_
          refine hv_goto (tgt := 52) dX4_parts_185 (by decide) ?_
          refine hv_sub [3, 4, 5, 6, 2, 1, 0] rfl ?_
          exact hrc _ _ _ _ h
theorem wk_m_parts_L52 {l : Launch} {Gd : hk_G} {m0 : Nat} {st : hk_St} (KM : hk_KM m0 st) {p1 : Int32} {p2 : Int32} {p3 : Int32} {s0 : hk_Ms} {r : Int32} {fin : hk_Ms} {e0 : Int32 → Int32 → hk_Ms → Option (Int32 × hk_Ms)} (he0 : ∀ (v10 : Int32) (v11 : Int32) (s12 : hk_Ms), e0 v10 v11 s12 = some (r, fin) → hk_V Gd (N_m_parts l) (hk_end Gd (hk_mU m0 st s0) (some (.int r)) (hk_mU m0 st fin)) 188 [(3, .int p3), (4, .int v10), (5, .int v11)] [] (hk_mU m0 st s12)) : ∀ (n : Nat) (v6 : Int32) (v7 : Int32) (v8 : Int32) (s9 : hk_Ms), m_parts_L52 p1 p2 p3 e0 n v6 v7 v8 s9 = some (r, fin) → hk_V Gd (N_m_parts l) (hk_end Gd (hk_mU m0 st s0) (some (.int r)) (hk_mU m0 st fin)) 52 [(0, .ref m0), (1, .int p1), (2, .int p2), (3, .int p3), (4, .int v6), (5, .int v7), (6, .int v8)] [] (hk_mU m0 st s9) := by
  intro n
  induction n with
  | zero => intro v6 v7 v8 s9 h; cases h
  | succ n ih => intro v6 v7 v8 s9 h; exact wk_m_parts_L52b KM ih he0 h
set_option maxHeartbeats 4000000 in
theorem wk_m_parts {l : Launch} {Gd : hk_G} {m0 : Nat} {st : hk_St} (KM : hk_KM m0 st) {p1 : Int32} {p2 : Int32} {p3 : Int32} {s0 : hk_Ms} {r : Int32} {fin : hk_Ms} (h : m_parts p1 p2 p3 s0 = some (r, fin)) : hk_Met Gd l yX4_parts cX4_parts 10 (some .int) 6 149 [.ref m0, .int p1, .int p2, .int p3] (hk_mU m0 st s0) (some (.int r)) (hk_mU m0 st fin) := by
  refine hk_start "HeadReckonsModel" false (by decide +kernel) rfl (by decide) (Nat.le_of_ble_eq_true rfl) ?_
  show hk_V Gd (N_m_parts l) (hk_end Gd (hk_mU m0 st s0) (some (.int r)) (hk_mU m0 st fin)) 0 [(0, .ref m0), (1, .int p1), (2, .int p2), (3, .int p3)] [] (hk_mU m0 st s0)
  unfold m_parts at h
  refine hv_aload_n 0 dX4_parts_0 rfl rfl ?_
  refine hv_iload_n 1 dX4_parts_1 rfl rfl ?_
  obtain ⟨x1, e_x1, h⟩ := hq_ob h
  refine hv_callV [.int p1] [] [.int x1] (wk_m_isHead KM e_x1) cs_X4_188 KM.recv rfl ⟨Nat.le_of_ble_eq_true rfl, Nat.le_of_ble_eq_true rfl⟩ rfl (Nat.le_of_ble_eq_true rfl) rfl dX4_parts_2 ?_
  refine hv_if_eq (tgt := 30) dX4_parts_5 (by decide) (fun c2 => ?_) (fun c2 => ?_)
  · replace h := hq_ip c2 h
    refine hv_iconst (v := -1) dX4_parts_30 (by decide) ?_
    obtain ⟨h1, h2⟩ := hq_ret h
    subst h1
    subst h2
    exact hv_iret rfl dX4_parts_31
  · replace h := hq_in c2 h
    refine hv_iload_n 2 dX4_parts_8 rfl rfl ?_
    refine hv_i2l dX4_parts_9 ?_
    refine hv_lconst (v := 0) dX4_parts_10 (by decide) ?_
    refine hv_ldc2 q2060 dX4_parts_11 ?_
    refine hv_callS [.long p2.toInt64, .long (0 : Int64), .long (127 : Int64)] [] [.int (m_within p2.toInt64 (0 : Int64) (127 : Int64))] (wk_m_within rfl) cs_X4_113 rfl ⟨Nat.le_of_ble_eq_true rfl, Nat.le_of_ble_eq_true rfl⟩ rfl (Nat.le_of_ble_eq_true rfl) rfl dX4_parts_14 ?_
    refine hv_if_eq (tgt := 30) dX4_parts_17 (by decide) (fun c3 => ?_) (fun c3 => ?_)
    · replace h := hq_ip c3 h
      refine hv_iconst (v := -1) dX4_parts_30 (by decide) ?_
      obtain ⟨h1, h2⟩ := hq_ret h
      subst h1
      subst h2
      exact hv_iret rfl dX4_parts_31
    · replace h := hq_in c3 h
      refine hv_iload_n 3 dX4_parts_20 rfl rfl ?_
      refine hv_i2l dX4_parts_21 ?_
      refine hv_lconst (v := 0) dX4_parts_22 (by decide) ?_
      refine hv_lconst (v := 1) dX4_parts_23 (by decide) ?_
      refine hv_callS [.long p3.toInt64, .long (0 : Int64), .long (1 : Int64)] [] [.int (m_within p3.toInt64 (0 : Int64) (1 : Int64))] (wk_m_within rfl) cs_X4_113 rfl ⟨Nat.le_of_ble_eq_true rfl, Nat.le_of_ble_eq_true rfl⟩ rfl (Nat.le_of_ble_eq_true rfl) rfl dX4_parts_24 ?_
      refine hv_if_ne (tgt := 32) dX4_parts_27 (by decide) (fun c4 => ?_) (fun c4 => ?_)
      · replace h := hq_in c4 h
        refine hv_aload_n 0 dX4_parts_32 rfl rfl ?_
        refine hm_getI (f := 37) KM (fl_X4_333) dX4_parts_33 ?_
        refine hv_if_ne (tgt := 42) dX4_parts_36 (by decide) (fun c5 => ?_) (fun c5 => ?_)
        · replace h := hq_in c5 h
          refine hv_bipush (v := -2) dX4_parts_42 (by decide) ?_
          refine hv_istore (L' := [(4, .int (-2 : Int32)), (0, .ref m0), (1, .int p1), (2, .int p2), (3, .int p3)]) dX4_parts_44 (Nat.le_of_ble_eq_true rfl) rfl ?_
          refine hv_iconst (v := -1) dX4_parts_46 (by decide) ?_
          refine hv_istore (L' := [(5, .int (-1 : Int32)), (4, .int (-2 : Int32)), (0, .ref m0), (1, .int p1), (2, .int p2), (3, .int p3)]) dX4_parts_47 (Nat.le_of_ble_eq_true rfl) rfl ?_
          refine hv_iconst (v := 0) dX4_parts_49 (by decide) ?_
          refine hv_istore (L' := [(6, .int (0 : Int32)), (5, .int (-1 : Int32)), (4, .int (-2 : Int32)), (0, .ref m0), (1, .int p1), (2, .int p2), (3, .int p3)]) dX4_parts_50 (Nat.le_of_ble_eq_true rfl) rfl ?_
          refine hv_sub [3, 4, 5, 6, 2, 1, 0] rfl ?_
          refine wk_m_parts_L52 KM ?_ hk_F _ _ _ _ h
          · intro v10 v11 s12 h
            refine hv_iload 1 dX4_parts_188 rfl ?_
            refine hv_if_ge (tgt := 198) dX4_parts_190 (by decide) (fun c53 => ?_) (fun c53 => ?_)
            · replace h := hq_ip c53 h
              refine hv_iload_n 0 dX4_parts_198 rfl rfl ?_
              refine hv_if_ne (tgt := 207) dX4_parts_199 (by decide) (fun c54 => ?_) (fun c54 => ?_)
              · replace h := hq_in c54 h
                refine hv_iload 2 dX4_parts_207 rfl ?_
                obtain ⟨h1, h2⟩ := hq_ret h
                subst h1
                subst h2
                exact hv_iret rfl dX4_parts_209
              · replace h := hq_ip c54 h
                refine hv_iload 1 dX4_parts_202 rfl ?_
                refine hv_goto (tgt := 209) dX4_parts_204 (by decide) ?_
                obtain ⟨h1, h2⟩ := hq_ret h
                subst h1
                subst h2
                exact hv_iret rfl dX4_parts_209
            · replace h := hq_in c53 h
              refine hv_bipush (v := -2) dX4_parts_193 (by decide) ?_
              refine hv_goto (tgt := 209) dX4_parts_195 (by decide) ?_
              obtain ⟨h1, h2⟩ := hq_ret h
              subst h1
              subst h2
              exact hv_iret rfl dX4_parts_209
        · replace h := hq_ip c5 h
          refine hv_bipush (v := -5) dX4_parts_39 (by decide) ?_
          obtain ⟨h1, h2⟩ := hq_ret h
          subst h1
          subst h2
          exact hv_iret rfl dX4_parts_41
      · replace h := hq_ip c4 h
        refine hv_iconst (v := -1) dX4_parts_30 (by decide) ?_
        obtain ⟨h1, h2⟩ := hq_ret h
        subst h1
        subst h2
        exact hv_iret rfl dX4_parts_31
def m_isListBad_L2b (s0 : hk_Ms) (e0 : Unit → Option (Int32)) (rc : Int32 → Option (Int32)) (v1 : Int32) : Option (Int32) :=
  if (hm_I s0 37) ≤ v1 then
    e0 ()
  else
  (hm_lI s0 21 8 v1).bind fun x3 =>
  if (m_isSmall x3) = 0 then
    some (1 : Int32)
  else
  hk_nm (v1 + (1 : Int32)) fun x5 =>
    rc x5
def m_isListBad_L2 (s0 : hk_Ms) (e0 : Unit → Option (Int32)) : Nat → Int32 → Option (Int32)
  | 0 => fun _ => none
  | n + 1 => m_isListBad_L2b s0 e0 (m_isListBad_L2 s0 e0 n)
def m_isListBad (s0 : hk_Ms) : Option (Int32) :=
  m_isListBad_L2 s0  (fun (_ : Unit) =>
    some (0 : Int32)) hk_F (0 : Int32) 
abbrev N_m_isListBad (l : Launch) : hk_N := (l, cX4_isListBad, "HeadReckonsModel", 2, (some .boolean), 1, 20, false)
set_option maxHeartbeats 4000000 in
theorem wk_m_isListBad_L2b {l : Launch} {Gd : hk_G} {m0 : Nat} {st : hk_St} (KM : hk_KM m0 st) {s0 : hk_Ms} {r : Int32} {e0 : Unit → Option (Int32)} {rc : Int32 → Option (Int32)} (hrc : ∀ (v1 : Int32), rc v1 = some r → hk_V Gd (N_m_isListBad l) (hk_end Gd (hk_mU m0 st s0) (some (.int r)) (hk_mU m0 st s0)) 2 [(0, .ref m0), (1, .int v1)] [] (hk_mU m0 st s0)) (he0 : ∀ (_ : Unit), e0 () = some r → hk_V Gd (N_m_isListBad l) (hk_end Gd (hk_mU m0 st s0) (some (.int r)) (hk_mU m0 st s0)) 30 [] [] (hk_mU m0 st s0)) {v1 : Int32} (h : m_isListBad_L2b s0 e0 rc v1 = some r) : hk_V Gd (N_m_isListBad l) (hk_end Gd (hk_mU m0 st s0) (some (.int r)) (hk_mU m0 st s0)) 2 [(0, .ref m0), (1, .int v1)] [] (hk_mU m0 st s0) := by
  unfold m_isListBad_L2b at h
  refine hv_iload_n 1 dX4_isListBad_2 rfl rfl ?_
  refine hv_aload_n 0 dX4_isListBad_3 rfl rfl ?_
  refine hm_getI (f := 37) KM (fl_X4_333) dX4_isListBad_4 ?_
  refine hv_icmp_ge (tgt := 30) dX4_isListBad_7 (by decide) (fun c2 => ?_) (fun c2 => ?_)
  · replace h := hq_ip c2 h
    refine hv_sub [] rfl ?_
    exact he0 () h
  · replace h := hq_in c2 h
    refine hv_aload_n 0 dX4_isListBad_10 rfl rfl ?_
    refine hm_getA (j := 21) KM (fl_X4_73) rfl (Nat.le_of_ble_eq_true rfl) dX4_isListBad_11 ?_
    refine hv_iload_n 1 dX4_isListBad_14 rfl rfl ?_
    obtain ⟨x3, e_x3, h⟩ := hq_ob h
    refine hm_iaload KM e_x3 (Nat.le_of_ble_eq_true rfl) rfl dX4_isListBad_15 ?_
    refine hv_callS [.int x3] [] [.int (m_isSmall x3)] (wk_m_isSmall rfl) cs_X4_202 rfl ⟨Nat.le_of_ble_eq_true rfl, Nat.le_of_ble_eq_true rfl⟩ rfl (Nat.le_of_ble_eq_true rfl) rfl dX4_isListBad_16 ?_
    refine hv_if_ne (tgt := 24) dX4_isListBad_19 (by decide) (fun c4 => ?_) (fun c4 => ?_)
    · replace h := hq_in c4 h
      obtain ⟨x5, e_x5, h⟩ := hq_nm h
      refine hv_iinc (v := x5) (L' := [(1, .int x5), (0, .ref m0)]) 1 dX4_isListBad_24 rfl (by rw [e_x5]; rfl) (Nat.le_of_ble_eq_true rfl) rfl ?_
      refine hv_goto (tgt := 2) dX4_isListBad_27 (by decide) ?_
      refine hv_sub [1, 0] rfl ?_
      exact hrc _ h
    · replace h := hq_ip c4 h
      refine hv_iconst (v := 1) dX4_isListBad_22 (by decide) ?_
      have h := Option.some.inj h
      subst h
      exact hv_zret (ty := .boolean) rfl rfl dX4_isListBad_23
theorem wk_m_isListBad_L2 {l : Launch} {Gd : hk_G} {m0 : Nat} {st : hk_St} (KM : hk_KM m0 st) {s0 : hk_Ms} {r : Int32} {e0 : Unit → Option (Int32)} (he0 : ∀ (_ : Unit), e0 () = some r → hk_V Gd (N_m_isListBad l) (hk_end Gd (hk_mU m0 st s0) (some (.int r)) (hk_mU m0 st s0)) 30 [] [] (hk_mU m0 st s0)) : ∀ (n : Nat) (v1 : Int32), m_isListBad_L2 s0 e0 n v1 = some r → hk_V Gd (N_m_isListBad l) (hk_end Gd (hk_mU m0 st s0) (some (.int r)) (hk_mU m0 st s0)) 2 [(0, .ref m0), (1, .int v1)] [] (hk_mU m0 st s0) := by
  intro n
  induction n with
  | zero => intro v1 h; cases h
  | succ n ih => intro v1 h; exact wk_m_isListBad_L2b KM ih he0 h
set_option maxHeartbeats 4000000 in
theorem wk_m_isListBad {l : Launch} {Gd : hk_G} {m0 : Nat} {st : hk_St} (KM : hk_KM m0 st) {s0 : hk_Ms} {r : Int32} (h : m_isListBad s0 = some r) : hk_Met Gd l yX4_isListBad cX4_isListBad 2 (some .boolean) 1 20 [.ref m0] (hk_mU m0 st s0) (some (.int r)) (hk_mU m0 st s0) := by
  refine hk_start "HeadReckonsModel" false (by decide +kernel) rfl (by decide) (Nat.le_of_ble_eq_true rfl) ?_
  show hk_V Gd (N_m_isListBad l) (hk_end Gd (hk_mU m0 st s0) (some (.int r)) (hk_mU m0 st s0)) 0 [(0, .ref m0)] [] (hk_mU m0 st s0)
  unfold m_isListBad at h
  refine hv_iconst (v := 0) dX4_isListBad_0 (by decide) ?_
  refine hv_istore_n (L' := [(1, .int (0 : Int32)), (0, .ref m0)]) dX4_isListBad_1 rfl (Nat.le_of_ble_eq_true rfl) rfl ?_
  refine hv_sub [1, 0] rfl ?_
  refine wk_m_isListBad_L2 KM ?_ hk_F _ h
  · intro _ h
    refine hv_iconst (v := 0) dX4_isListBad_30 (by decide) ?_
    have h := Option.some.inj h
    subst h
    exact hv_zret (ty := .boolean) rfl rfl dX4_isListBad_31
def m_keeps_L12b (p1 : Int32) (e0 : hk_Ms → Option hk_Ms) (rc : Int32 → hk_Ms → Option hk_Ms) (v3 : Int32) (s4 : hk_Ms) : Option hk_Ms :=
  if (60 : Int32) ≤ v3 then
    e0 s4
  else
  (hm_lI s4 10 360 (((60 : Int32) * p1) + v3)).bind fun x7 =>
  (hm_tI s4 22 60 v3 x7).bind fun s8 =>
  hk_nm (v3 + (1 : Int32)) fun x9 =>
  rc x9 s8
def m_keeps_L12 (p1 : Int32) (e0 : hk_Ms → Option hk_Ms) : Nat → Int32 → hk_Ms → Option hk_Ms
  | 0 => fun _ _ => none
  | n + 1 => m_keeps_L12b p1 e0 (m_keeps_L12 p1 e0 n)
def m_keeps (p1 : Int32) (s0 : hk_Ms) : Option hk_Ms :=
  (hm_lI s0 8 6 p1).bind fun x1 =>
  hk_nm (hm_sI s0 40 x1) fun s2 =>
  m_keeps_L12 p1  (fun (s5 : hk_Ms) =>
    some s5) hk_F (0 : Int32) s2
abbrev N_m_keeps (l : Launch) : hk_N := (l, cX4_keeps, "HeadReckonsModel", 3, none, 0, 0, false)
set_option maxHeartbeats 4000000 in
theorem wk_m_keeps_L12b {l : Launch} {Gd : hk_G} {m0 : Nat} {st : hk_St} (KM : hk_KM m0 st) {p1 : Int32} {s0 : hk_Ms} {fin : hk_Ms} {e0 : hk_Ms → Option hk_Ms} {rc : Int32 → hk_Ms → Option hk_Ms} (hrc : ∀ (v3 : Int32) (s4 : hk_Ms), rc v3 s4 = some fin → hk_V Gd (N_m_keeps l) (hk_end Gd (hk_mU m0 st s0) none (hk_mU m0 st fin)) 12 [(0, .ref m0), (1, .int p1), (2, .int v3)] [] (hk_mU m0 st s4)) (he0 : ∀ (s5 : hk_Ms), e0 s5 = some fin → hk_V Gd (N_m_keeps l) (hk_end Gd (hk_mU m0 st s0) none (hk_mU m0 st fin)) 41 [] [] (hk_mU m0 st s5)) {v3 : Int32} {s4 : hk_Ms} (h : m_keeps_L12b p1 e0 rc v3 s4 = some fin) : hk_V Gd (N_m_keeps l) (hk_end Gd (hk_mU m0 st s0) none (hk_mU m0 st fin)) 12 [(0, .ref m0), (1, .int p1), (2, .int v3)] [] (hk_mU m0 st s4) := by
  unfold m_keeps_L12b at h
  refine hv_iload_n 2 dX4_keeps_12 rfl rfl ?_
  refine hv_bipush (v := 60) dX4_keeps_13 (by decide) ?_
  refine hv_icmp_ge (tgt := 41) dX4_keeps_15 (by decide) (fun c6 => ?_) (fun c6 => ?_)
  · replace h := hq_ip c6 h
    refine hv_sub [] rfl ?_
    exact he0 _ h
  · replace h := hq_in c6 h
    refine hv_aload_n 0 dX4_keeps_18 rfl rfl ?_
    refine hm_getA (j := 22) KM (fl_X4_76) rfl (Nat.le_of_ble_eq_true rfl) dX4_keeps_19 ?_
    refine hv_iload_n 2 dX4_keeps_22 rfl rfl ?_
    refine hv_aload_n 0 dX4_keeps_23 rfl rfl ?_
    refine hm_getA (j := 10) KM (fl_X4_40) rfl (Nat.le_of_ble_eq_true rfl) dX4_keeps_24 ?_
    refine hv_bipush (v := 60) dX4_keeps_27 (by decide) ?_
    refine hv_iload_n 1 dX4_keeps_29 rfl rfl ?_
    refine hv_imul dX4_keeps_30 ?_
    refine hv_iload_n 2 dX4_keeps_31 rfl rfl ?_
    refine hv_iadd dX4_keeps_32 ?_
    obtain ⟨x7, e_x7, h⟩ := hq_ob h
    refine hm_iaload KM e_x7 (Nat.le_of_ble_eq_true rfl) rfl dX4_keeps_33 ?_
    obtain ⟨s8, e_s8, h⟩ := hq_ob h
    refine hm_iastore KM e_s8 (Nat.le_of_ble_eq_true rfl) rfl dX4_keeps_34 ?_
    obtain ⟨x9, e_x9, h⟩ := hq_nm h
    refine hv_iinc (v := x9) (L' := [(2, .int x9), (0, .ref m0), (1, .int p1)]) 2 dX4_keeps_35 rfl (by rw [e_x9]; rfl) (Nat.le_of_ble_eq_true rfl) rfl ?_
    refine hv_goto (tgt := 12) dX4_keeps_38 (by decide) ?_
    refine hv_sub [1, 2, 0] rfl ?_
    exact hrc _ _ h
theorem wk_m_keeps_L12 {l : Launch} {Gd : hk_G} {m0 : Nat} {st : hk_St} (KM : hk_KM m0 st) {p1 : Int32} {s0 : hk_Ms} {fin : hk_Ms} {e0 : hk_Ms → Option hk_Ms} (he0 : ∀ (s5 : hk_Ms), e0 s5 = some fin → hk_V Gd (N_m_keeps l) (hk_end Gd (hk_mU m0 st s0) none (hk_mU m0 st fin)) 41 [] [] (hk_mU m0 st s5)) : ∀ (n : Nat) (v3 : Int32) (s4 : hk_Ms), m_keeps_L12 p1 e0 n v3 s4 = some fin → hk_V Gd (N_m_keeps l) (hk_end Gd (hk_mU m0 st s0) none (hk_mU m0 st fin)) 12 [(0, .ref m0), (1, .int p1), (2, .int v3)] [] (hk_mU m0 st s4) := by
  intro n
  induction n with
  | zero => intro v3 s4 h; cases h
  | succ n ih => intro v3 s4 h; exact wk_m_keeps_L12b KM ih he0 h
set_option maxHeartbeats 4000000 in
theorem wk_m_keeps {l : Launch} {Gd : hk_G} {m0 : Nat} {st : hk_St} (KM : hk_KM m0 st) {p1 : Int32} {s0 : hk_Ms} {fin : hk_Ms} (h : m_keeps p1 s0 = some fin) : hk_Met Gd l yX4_keeps cX4_keeps 3 none 0 0 [.ref m0, .int p1] (hk_mU m0 st s0) none (hk_mU m0 st fin) := by
  refine hk_start "HeadReckonsModel" false (by decide +kernel) rfl (by decide) (Nat.le_of_ble_eq_true rfl) ?_
  show hk_V Gd (N_m_keeps l) (hk_end Gd (hk_mU m0 st s0) none (hk_mU m0 st fin)) 0 [(0, .ref m0), (1, .int p1)] [] (hk_mU m0 st s0)
  unfold m_keeps at h
  refine hv_aload_n 0 dX4_keeps_0 rfl rfl ?_
  refine hv_aload_n 0 dX4_keeps_1 rfl rfl ?_
  refine hm_getA (j := 8) KM (fl_X4_34) rfl (Nat.le_of_ble_eq_true rfl) dX4_keeps_2 ?_
  refine hv_iload_n 1 dX4_keeps_5 rfl rfl ?_
  obtain ⟨x1, e_x1, h⟩ := hq_ob h
  refine hm_iaload KM e_x1 (Nat.le_of_ble_eq_true rfl) rfl dX4_keeps_6 ?_
  obtain ⟨s2, e_s2, h⟩ := hq_nm h
  refine hm_putI (f := 40) KM (fp_X4_338) e_s2 dX4_keeps_7 ?_
  refine hv_iconst (v := 0) dX4_keeps_10 (by decide) ?_
  refine hv_istore_n (L' := [(2, .int (0 : Int32)), (0, .ref m0), (1, .int p1)]) dX4_keeps_11 rfl (Nat.le_of_ble_eq_true rfl) rfl ?_
  refine hv_sub [1, 2, 0] rfl ?_
  refine wk_m_keeps_L12 KM ?_ hk_F _ _ h
  · intro s5 h
    have h := Option.some.inj h
    subst h
    exact hv_vret rfl dX4_keeps_41
def m_asksOne (p1 : Int32) (p2 : Int32) (s0 : hk_Ms) : Option (Int32 × hk_Ms) :=
  (m_chosenBy p1 p2 (0 : Int32) s0).bind fun q1 =>
  (m_seconds  q1.2).bind fun x2 =>
  (m_askOf p1 p2 q1.2).bind fun q3 =>
  some (x2, q3.2)
abbrev N_m_asksOne (l : Launch) : hk_N := (l, cX4_asksOne, "HeadReckonsModel", 6, (some .int), 83, 4275, false)
set_option maxHeartbeats 4000000 in
theorem wk_m_asksOne {l : Launch} {Gd : hk_G} {m0 : Nat} {st : hk_St} (KM : hk_KM m0 st) {p1 : Int32} {p2 : Int32} {s0 : hk_Ms} {r : Int32} {fin : hk_Ms} (h : m_asksOne p1 p2 s0 = some (r, fin)) : hk_Met Gd l yX4_asksOne cX4_asksOne 6 (some .int) 83 4275 [.ref m0, .int p1, .int p2] (hk_mU m0 st s0) (some (.int r)) (hk_mU m0 st fin) := by
  refine hk_start "HeadReckonsModel" false (by decide +kernel) rfl (by decide) (Nat.le_of_ble_eq_true rfl) ?_
  show hk_V Gd (N_m_asksOne l) (hk_end Gd (hk_mU m0 st s0) (some (.int r)) (hk_mU m0 st fin)) 0 [(0, .ref m0), (1, .int p1), (2, .int p2)] [] (hk_mU m0 st s0)
  unfold m_asksOne at h
  refine hv_aload_n 0 dX4_asksOne_0 rfl rfl ?_
  refine hv_iload_n 1 dX4_asksOne_1 rfl rfl ?_
  refine hv_iload_n 2 dX4_asksOne_2 rfl rfl ?_
  refine hv_iconst (v := 0) dX4_asksOne_3 (by decide) ?_
  obtain ⟨q1, e_q1, h⟩ := hq_ob h
  refine hv_callV [.int p1, .int p2, .int (0 : Int32)] [] [.int q1.1] (wk_m_chosenBy KM e_q1) cs_X4_297 KM.recv rfl ⟨Nat.le_of_ble_eq_true rfl, Nat.le_of_ble_eq_true rfl⟩ rfl (Nat.le_of_ble_eq_true rfl) rfl dX4_asksOne_4 ?_
  refine hv_istore_n (L' := [(3, .int q1.1), (0, .ref m0), (1, .int p1), (2, .int p2)]) dX4_asksOne_7 rfl (Nat.le_of_ble_eq_true rfl) rfl ?_
  refine hv_aload_n 1 dX4_asksOne_8 rfl rfl ?_
  obtain ⟨x2, e_x2, h⟩ := hq_ob h
  refine hv_callV [] [] [.int x2] (wk_m_seconds KM e_x2) cs_X4_283 KM.recv rfl ⟨Nat.le_of_ble_eq_true rfl, Nat.le_of_ble_eq_true rfl⟩ rfl (Nat.le_of_ble_eq_true rfl) rfl dX4_asksOne_9 ?_
  refine hv_istore (L' := [(4, .int x2), (3, .int q1.1), (0, .ref m0), (1, .int p1), (2, .int p2)]) dX4_asksOne_12 (Nat.le_of_ble_eq_true rfl) rfl ?_
  refine hv_aload_n 2 dX4_asksOne_14 rfl rfl ?_
  refine hv_iload_n 3 dX4_asksOne_15 rfl rfl ?_
  refine hv_iload_n 4 dX4_asksOne_16 rfl rfl ?_
  obtain ⟨q3, e_q3, h⟩ := hq_ob h
  refine hv_callV [.int p1, .int p2] [] [.int q3.1] (wk_m_askOf KM e_q3) cs_X4_211 KM.recv rfl ⟨Nat.le_of_ble_eq_true rfl, Nat.le_of_ble_eq_true rfl⟩ rfl (Nat.le_of_ble_eq_true rfl) rfl dX4_asksOne_17 ?_
  refine hv_istore (L' := [(5, .int q3.1), (4, .int x2), (3, .int q1.1), (0, .ref m0), (1, .int p1), (2, .int p2)]) dX4_asksOne_20 (Nat.le_of_ble_eq_true rfl) rfl ?_
  refine hv_iload 1 dX4_asksOne_22 rfl ?_
  obtain ⟨h1, h2⟩ := hq_ret h
  subst h1
  subst h2
  exact hv_iret rfl dX4_asksOne_24
def m_putsBack_L12b (p1 : Int32) (e0 : hk_Ms → Option hk_Ms) (rc : Int32 → hk_Ms → Option hk_Ms) (v2 : Int32) (s3 : hk_Ms) : Option hk_Ms :=
  if (60 : Int32) ≤ v2 then
    e0 s3
  else
  (hm_lI s3 22 60 v2).bind fun x6 =>
  (hm_tI s3 10 360 (((60 : Int32) * p1) + v2) x6).bind fun s7 =>
  hk_nm (v2 + (1 : Int32)) fun x8 =>
  rc x8 s7
def m_putsBack_L12 (p1 : Int32) (e0 : hk_Ms → Option hk_Ms) : Nat → Int32 → hk_Ms → Option hk_Ms
  | 0 => fun _ _ => none
  | n + 1 => m_putsBack_L12b p1 e0 (m_putsBack_L12 p1 e0 n)
def m_putsBack (p1 : Int32) (s0 : hk_Ms) : Option hk_Ms :=
  (hm_tI s0 8 6 p1 (hm_I s0 40)).bind fun s1 =>
  m_putsBack_L12 p1  (fun (s4 : hk_Ms) =>
    some s4) hk_F (0 : Int32) s1
abbrev N_m_putsBack (l : Launch) : hk_N := (l, cX4_putsBack, "HeadReckonsModel", 3, none, 0, 0, false)
set_option maxHeartbeats 4000000 in
theorem wk_m_putsBack_L12b {l : Launch} {Gd : hk_G} {m0 : Nat} {st : hk_St} (KM : hk_KM m0 st) {p1 : Int32} {s0 : hk_Ms} {fin : hk_Ms} {e0 : hk_Ms → Option hk_Ms} {rc : Int32 → hk_Ms → Option hk_Ms} (hrc : ∀ (v2 : Int32) (s3 : hk_Ms), rc v2 s3 = some fin → hk_V Gd (N_m_putsBack l) (hk_end Gd (hk_mU m0 st s0) none (hk_mU m0 st fin)) 12 [(0, .ref m0), (1, .int p1), (2, .int v2)] [] (hk_mU m0 st s3)) (he0 : ∀ (s4 : hk_Ms), e0 s4 = some fin → hk_V Gd (N_m_putsBack l) (hk_end Gd (hk_mU m0 st s0) none (hk_mU m0 st fin)) 41 [] [] (hk_mU m0 st s4)) {v2 : Int32} {s3 : hk_Ms} (h : m_putsBack_L12b p1 e0 rc v2 s3 = some fin) : hk_V Gd (N_m_putsBack l) (hk_end Gd (hk_mU m0 st s0) none (hk_mU m0 st fin)) 12 [(0, .ref m0), (1, .int p1), (2, .int v2)] [] (hk_mU m0 st s3) := by
  unfold m_putsBack_L12b at h
  refine hv_iload_n 2 dX4_putsBack_12 rfl rfl ?_
  refine hv_bipush (v := 60) dX4_putsBack_13 (by decide) ?_
  refine hv_icmp_ge (tgt := 41) dX4_putsBack_15 (by decide) (fun c5 => ?_) (fun c5 => ?_)
  · replace h := hq_ip c5 h
    refine hv_sub [] rfl ?_
    exact he0 _ h
  · replace h := hq_in c5 h
    refine hv_aload_n 0 dX4_putsBack_18 rfl rfl ?_
    refine hm_getA (j := 10) KM (fl_X4_40) rfl (Nat.le_of_ble_eq_true rfl) dX4_putsBack_19 ?_
    refine hv_bipush (v := 60) dX4_putsBack_22 (by decide) ?_
    refine hv_iload_n 1 dX4_putsBack_24 rfl rfl ?_
    refine hv_imul dX4_putsBack_25 ?_
    refine hv_iload_n 2 dX4_putsBack_26 rfl rfl ?_
    refine hv_iadd dX4_putsBack_27 ?_
    refine hv_aload_n 0 dX4_putsBack_28 rfl rfl ?_
    refine hm_getA (j := 22) KM (fl_X4_76) rfl (Nat.le_of_ble_eq_true rfl) dX4_putsBack_29 ?_
    refine hv_iload_n 2 dX4_putsBack_32 rfl rfl ?_
    obtain ⟨x6, e_x6, h⟩ := hq_ob h
    refine hm_iaload KM e_x6 (Nat.le_of_ble_eq_true rfl) rfl dX4_putsBack_33 ?_
    obtain ⟨s7, e_s7, h⟩ := hq_ob h
    refine hm_iastore KM e_s7 (Nat.le_of_ble_eq_true rfl) rfl dX4_putsBack_34 ?_
    obtain ⟨x8, e_x8, h⟩ := hq_nm h
    refine hv_iinc (v := x8) (L' := [(2, .int x8), (0, .ref m0), (1, .int p1)]) 2 dX4_putsBack_35 rfl (by rw [e_x8]; rfl) (Nat.le_of_ble_eq_true rfl) rfl ?_
    refine hv_goto (tgt := 12) dX4_putsBack_38 (by decide) ?_
    refine hv_sub [1, 2, 0] rfl ?_
    exact hrc _ _ h
theorem wk_m_putsBack_L12 {l : Launch} {Gd : hk_G} {m0 : Nat} {st : hk_St} (KM : hk_KM m0 st) {p1 : Int32} {s0 : hk_Ms} {fin : hk_Ms} {e0 : hk_Ms → Option hk_Ms} (he0 : ∀ (s4 : hk_Ms), e0 s4 = some fin → hk_V Gd (N_m_putsBack l) (hk_end Gd (hk_mU m0 st s0) none (hk_mU m0 st fin)) 41 [] [] (hk_mU m0 st s4)) : ∀ (n : Nat) (v2 : Int32) (s3 : hk_Ms), m_putsBack_L12 p1 e0 n v2 s3 = some fin → hk_V Gd (N_m_putsBack l) (hk_end Gd (hk_mU m0 st s0) none (hk_mU m0 st fin)) 12 [(0, .ref m0), (1, .int p1), (2, .int v2)] [] (hk_mU m0 st s3) := by
  intro n
  induction n with
  | zero => intro v2 s3 h; cases h
  | succ n ih => intro v2 s3 h; exact wk_m_putsBack_L12b KM ih he0 h
set_option maxHeartbeats 4000000 in
theorem wk_m_putsBack {l : Launch} {Gd : hk_G} {m0 : Nat} {st : hk_St} (KM : hk_KM m0 st) {p1 : Int32} {s0 : hk_Ms} {fin : hk_Ms} (h : m_putsBack p1 s0 = some fin) : hk_Met Gd l yX4_putsBack cX4_putsBack 3 none 0 0 [.ref m0, .int p1] (hk_mU m0 st s0) none (hk_mU m0 st fin) := by
  refine hk_start "HeadReckonsModel" false (by decide +kernel) rfl (by decide) (Nat.le_of_ble_eq_true rfl) ?_
  show hk_V Gd (N_m_putsBack l) (hk_end Gd (hk_mU m0 st s0) none (hk_mU m0 st fin)) 0 [(0, .ref m0), (1, .int p1)] [] (hk_mU m0 st s0)
  unfold m_putsBack at h
  refine hv_aload_n 0 dX4_putsBack_0 rfl rfl ?_
  refine hm_getA (j := 8) KM (fl_X4_34) rfl (Nat.le_of_ble_eq_true rfl) dX4_putsBack_1 ?_
  refine hv_iload_n 1 dX4_putsBack_4 rfl rfl ?_
  refine hv_aload_n 0 dX4_putsBack_5 rfl rfl ?_
  refine hm_getI (f := 40) KM (fl_X4_338) dX4_putsBack_6 ?_
  obtain ⟨s1, e_s1, h⟩ := hq_ob h
  refine hm_iastore KM e_s1 (Nat.le_of_ble_eq_true rfl) rfl dX4_putsBack_9 ?_
  refine hv_iconst (v := 0) dX4_putsBack_10 (by decide) ?_
  refine hv_istore_n (L' := [(2, .int (0 : Int32)), (0, .ref m0), (1, .int p1)]) dX4_putsBack_11 rfl (Nat.le_of_ble_eq_true rfl) rfl ?_
  refine hv_sub [1, 2, 0] rfl ?_
  refine wk_m_putsBack_L12 KM ?_ hk_F _ _ h
  · intro s4 h
    have h := Option.some.inj h
    subst h
    exact hv_vret rfl dX4_putsBack_41
def m_taught_L60b (p1 : Int32) (p2 : Int32) (p3 : Int32) (e0 : Int32 → hk_Ms → Option (Int32 × hk_Ms)) (rc : Int32 → Int32 → hk_Ms → Option (Int32 × hk_Ms)) (v9 : Int32) (v10 : Int32) (s11 : hk_Ms) : Option (Int32 × hk_Ms) :=
  if p2 ≤ v10 then
    e0 v9 s11
  else
  hk_gd (decide (¬ (hm_I s11 37) = 0)) <|
  (hm_lI s11 21 8 (v10 - v10 / (hm_I s11 37) * (hm_I s11 37))).bind fun x16 =>
  (m_asksOne p1 x16 s11).bind fun q17 =>
  hk_nm (v9 + q17.1) fun x18 =>
  hk_nm (v10 + (1 : Int32)) fun x19 =>
  rc x18 x19 q17.2
def m_taught_L60 (p1 : Int32) (p2 : Int32) (p3 : Int32) (e0 : Int32 → hk_Ms → Option (Int32 × hk_Ms)) : Nat → Int32 → Int32 → hk_Ms → Option (Int32 × hk_Ms)
  | 0 => fun _ _ _ => none
  | n + 1 => m_taught_L60b p1 p2 p3 e0 (m_taught_L60 p1 p2 p3 e0 n)
def m_taught (p1 : Int32) (p2 : Int32) (p3 : Int32) (s0 : hk_Ms) : Option (Int32 × hk_Ms) :=
  (m_isHead p1 s0).bind fun x1 =>
  if x1 = 0 then
    some ((-1 : Int32), s0)
  else
  if (m_within p2.toInt64 (1 : Int64) (50 : Int64)) = 0 then
    some ((-1 : Int32), s0)
  else
  if (m_within p3.toInt64 (0 : Int64) (1 : Int64)) = 0 then
    some ((-1 : Int32), s0)
  else
  (m_isListBad  s0).bind fun x5 =>
  if x5 = 0 then
    if (hm_I s0 37) = 0 then
      some ((-5 : Int32), s0)
    else
    (m_keeps p1 s0).bind fun s8 =>
      m_taught_L60 p1 p2 p3  (fun (v12 : Int32) (s13 : hk_Ms) =>
        (m_learntOf p1 s13).bind fun x20 =>
        (m_putsBack p1 s13).bind fun s21 =>
        if p3 = 0 then
          some (v12, s21)
        else
        some (x20, s21)) hk_F (0 : Int32) (0 : Int32) s8
  else
  some ((-1 : Int32), s0)
abbrev N_m_taught (l : Launch) : hk_N := (l, cX4_taught, "HeadReckonsModel", 6, (some .int), 84, 4300, false)
set_option maxHeartbeats 4000000 in
theorem wk_m_taught_L60b {l : Launch} {Gd : hk_G} {m0 : Nat} {st : hk_St} (KM : hk_KM m0 st) {p1 : Int32} {p2 : Int32} {p3 : Int32} {s0 : hk_Ms} {r : Int32} {fin : hk_Ms} {e0 : Int32 → hk_Ms → Option (Int32 × hk_Ms)} {rc : Int32 → Int32 → hk_Ms → Option (Int32 × hk_Ms)} (hrc : ∀ (v9 : Int32) (v10 : Int32) (s11 : hk_Ms), rc v9 v10 s11 = some (r, fin) → hk_V Gd (N_m_taught l) (hk_end Gd (hk_mU m0 st s0) (some (.int r)) (hk_mU m0 st fin)) 60 [(0, .ref m0), (1, .int p1), (2, .int p2), (3, .int p3), (4, .int v9), (5, .int v10)] [] (hk_mU m0 st s11)) (he0 : ∀ (v12 : Int32) (s13 : hk_Ms), e0 v12 s13 = some (r, fin) → hk_V Gd (N_m_taught l) (hk_end Gd (hk_mU m0 st s0) (some (.int r)) (hk_mU m0 st fin)) 94 [(0, .ref m0), (1, .int p1), (3, .int p3), (4, .int v12)] [] (hk_mU m0 st s13)) {v9 : Int32} {v10 : Int32} {s11 : hk_Ms} (h : m_taught_L60b p1 p2 p3 e0 rc v9 v10 s11 = some (r, fin)) : hk_V Gd (N_m_taught l) (hk_end Gd (hk_mU m0 st s0) (some (.int r)) (hk_mU m0 st fin)) 60 [(0, .ref m0), (1, .int p1), (2, .int p2), (3, .int p3), (4, .int v9), (5, .int v10)] [] (hk_mU m0 st s11) := by
  unfold m_taught_L60b at h
  refine hv_iload 5 dX4_taught_60 rfl ?_
  refine hv_iload_n 2 dX4_taught_62 rfl rfl ?_
  refine hv_icmp_ge (tgt := 94) dX4_taught_63 (by decide) (fun c14 => ?_) (fun c14 => ?_)
  · replace h := hq_ip c14 h
    refine hv_sub [0, 1, 3, 4] rfl ?_
    exact he0 _ _ h
  · replace h := hq_in c14 h
    refine hv_iload 4 dX4_taught_66 rfl ?_
    refine hv_aload_n 0 dX4_taught_68 rfl rfl ?_
    refine hv_iload_n 1 dX4_taught_69 rfl rfl ?_
    refine hv_aload_n 0 dX4_taught_70 rfl rfl ?_
    refine hm_getA (j := 21) KM (fl_X4_73) rfl (Nat.le_of_ble_eq_true rfl) dX4_taught_71 ?_
    refine hv_iload 5 dX4_taught_74 rfl ?_
    refine hv_aload_n 0 dX4_taught_76 rfl rfl ?_
    refine hm_getI (f := 37) KM (fl_X4_333) dX4_taught_77 ?_
    obtain ⟨g15, h⟩ := hq_gd h
    refine hv_irem (of_decide_eq_true g15) dX4_taught_80 ?_
    obtain ⟨x16, e_x16, h⟩ := hq_ob h
    refine hm_iaload KM e_x16 (Nat.le_of_ble_eq_true rfl) rfl dX4_taught_81 ?_
    obtain ⟨q17, e_q17, h⟩ := hq_ob h
    refine hv_callV [.int p1, .int x16] [.int v9] [.int q17.1, .int v9] (wk_m_asksOne KM e_q17) cs_X4_351 KM.recv rfl ⟨Nat.le_of_ble_eq_true rfl, Nat.le_of_ble_eq_true rfl⟩ rfl (Nat.le_of_ble_eq_true rfl) rfl dX4_taught_82 ?_
    refine hv_iadd dX4_taught_85 ?_
    obtain ⟨x18, e_x18, h⟩ := hq_nm h
    rw [← e_x18]
    refine hv_istore (L' := [(4, .int x18), (0, .ref m0), (1, .int p1), (2, .int p2), (3, .int p3), (5, .int v10)]) dX4_taught_86 (Nat.le_of_ble_eq_true rfl) rfl ?_
    obtain ⟨x19, e_x19, h⟩ := hq_nm h
    refine hv_iinc (v := x19) (L' := [(5, .int x19), (4, .int x18), (0, .ref m0), (1, .int p1), (2, .int p2), (3, .int p3)]) 5 dX4_taught_88 rfl (by rw [e_x19]; rfl) (Nat.le_of_ble_eq_true rfl) rfl ?_
    refine hv_goto (tgt := 60) dX4_taught_91 (by decide) ?_
    refine hv_sub [2, 3, 4, 5, 1, 0] rfl ?_
    exact hrc _ _ _ h
theorem wk_m_taught_L60 {l : Launch} {Gd : hk_G} {m0 : Nat} {st : hk_St} (KM : hk_KM m0 st) {p1 : Int32} {p2 : Int32} {p3 : Int32} {s0 : hk_Ms} {r : Int32} {fin : hk_Ms} {e0 : Int32 → hk_Ms → Option (Int32 × hk_Ms)} (he0 : ∀ (v12 : Int32) (s13 : hk_Ms), e0 v12 s13 = some (r, fin) → hk_V Gd (N_m_taught l) (hk_end Gd (hk_mU m0 st s0) (some (.int r)) (hk_mU m0 st fin)) 94 [(0, .ref m0), (1, .int p1), (3, .int p3), (4, .int v12)] [] (hk_mU m0 st s13)) : ∀ (n : Nat) (v9 : Int32) (v10 : Int32) (s11 : hk_Ms), m_taught_L60 p1 p2 p3 e0 n v9 v10 s11 = some (r, fin) → hk_V Gd (N_m_taught l) (hk_end Gd (hk_mU m0 st s0) (some (.int r)) (hk_mU m0 st fin)) 60 [(0, .ref m0), (1, .int p1), (2, .int p2), (3, .int p3), (4, .int v9), (5, .int v10)] [] (hk_mU m0 st s11) := by
  intro n
  induction n with
  | zero => intro v9 v10 s11 h; cases h
  | succ n ih => intro v9 v10 s11 h; exact wk_m_taught_L60b KM ih he0 h
set_option maxHeartbeats 4000000 in
theorem wk_m_taught {l : Launch} {Gd : hk_G} {m0 : Nat} {st : hk_St} (KM : hk_KM m0 st) {p1 : Int32} {p2 : Int32} {p3 : Int32} {s0 : hk_Ms} {r : Int32} {fin : hk_Ms} (h : m_taught p1 p2 p3 s0 = some (r, fin)) : hk_Met Gd l yX4_taught cX4_taught 6 (some .int) 84 4300 [.ref m0, .int p1, .int p2, .int p3] (hk_mU m0 st s0) (some (.int r)) (hk_mU m0 st fin) := by
  refine hk_start "HeadReckonsModel" false (by decide +kernel) rfl (by decide) (Nat.le_of_ble_eq_true rfl) ?_
  show hk_V Gd (N_m_taught l) (hk_end Gd (hk_mU m0 st s0) (some (.int r)) (hk_mU m0 st fin)) 0 [(0, .ref m0), (1, .int p1), (2, .int p2), (3, .int p3)] [] (hk_mU m0 st s0)
  unfold m_taught at h
  refine hv_aload_n 0 dX4_taught_0 rfl rfl ?_
  refine hv_iload_n 1 dX4_taught_1 rfl rfl ?_
  obtain ⟨x1, e_x1, h⟩ := hq_ob h
  refine hv_callV [.int p1] [] [.int x1] (wk_m_isHead KM e_x1) cs_X4_188 KM.recv rfl ⟨Nat.le_of_ble_eq_true rfl, Nat.le_of_ble_eq_true rfl⟩ rfl (Nat.le_of_ble_eq_true rfl) rfl dX4_taught_2 ?_
  refine hv_if_eq (tgt := 37) dX4_taught_5 (by decide) (fun c2 => ?_) (fun c2 => ?_)
  · replace h := hq_ip c2 h
    refine hv_iconst (v := -1) dX4_taught_37 (by decide) ?_
    obtain ⟨h1, h2⟩ := hq_ret h
    subst h1
    subst h2
    exact hv_iret rfl dX4_taught_38
  · replace h := hq_in c2 h
    refine hv_iload_n 2 dX4_taught_8 rfl rfl ?_
    refine hv_i2l dX4_taught_9 ?_
    refine hv_lconst (v := 1) dX4_taught_10 (by decide) ?_
    refine hv_ldc2 q2065 dX4_taught_11 ?_
    refine hv_callS [.long p2.toInt64, .long (1 : Int64), .long (50 : Int64)] [] [.int (m_within p2.toInt64 (1 : Int64) (50 : Int64))] (wk_m_within rfl) cs_X4_113 rfl ⟨Nat.le_of_ble_eq_true rfl, Nat.le_of_ble_eq_true rfl⟩ rfl (Nat.le_of_ble_eq_true rfl) rfl dX4_taught_14 ?_
    refine hv_if_eq (tgt := 37) dX4_taught_17 (by decide) (fun c3 => ?_) (fun c3 => ?_)
    · replace h := hq_ip c3 h
      refine hv_iconst (v := -1) dX4_taught_37 (by decide) ?_
      obtain ⟨h1, h2⟩ := hq_ret h
      subst h1
      subst h2
      exact hv_iret rfl dX4_taught_38
    · replace h := hq_in c3 h
      refine hv_iload_n 3 dX4_taught_20 rfl rfl ?_
      refine hv_i2l dX4_taught_21 ?_
      refine hv_lconst (v := 0) dX4_taught_22 (by decide) ?_
      refine hv_lconst (v := 1) dX4_taught_23 (by decide) ?_
      refine hv_callS [.long p3.toInt64, .long (0 : Int64), .long (1 : Int64)] [] [.int (m_within p3.toInt64 (0 : Int64) (1 : Int64))] (wk_m_within rfl) cs_X4_113 rfl ⟨Nat.le_of_ble_eq_true rfl, Nat.le_of_ble_eq_true rfl⟩ rfl (Nat.le_of_ble_eq_true rfl) rfl dX4_taught_24 ?_
      refine hv_if_eq (tgt := 37) dX4_taught_27 (by decide) (fun c4 => ?_) (fun c4 => ?_)
      · replace h := hq_ip c4 h
        refine hv_iconst (v := -1) dX4_taught_37 (by decide) ?_
        obtain ⟨h1, h2⟩ := hq_ret h
        subst h1
        subst h2
        exact hv_iret rfl dX4_taught_38
      · replace h := hq_in c4 h
        refine hv_aload_n 0 dX4_taught_30 rfl rfl ?_
        obtain ⟨x5, e_x5, h⟩ := hq_ob h
        refine hv_callV [] [] [.int x5] (wk_m_isListBad KM e_x5) cs_X4_343 KM.recv rfl ⟨Nat.le_of_ble_eq_true rfl, Nat.le_of_ble_eq_true rfl⟩ rfl (Nat.le_of_ble_eq_true rfl) rfl dX4_taught_31 ?_
        refine hv_if_eq (tgt := 39) dX4_taught_34 (by decide) (fun c6 => ?_) (fun c6 => ?_)
        · replace h := hq_ip c6 h
          refine hv_aload_n 0 dX4_taught_39 rfl rfl ?_
          refine hm_getI (f := 37) KM (fl_X4_333) dX4_taught_40 ?_
          refine hv_if_ne (tgt := 49) dX4_taught_43 (by decide) (fun c7 => ?_) (fun c7 => ?_)
          · replace h := hq_in c7 h
            refine hv_aload_n 0 dX4_taught_49 rfl rfl ?_
            refine hv_iload_n 1 dX4_taught_50 rfl rfl ?_
            obtain ⟨s8, e_s8, h⟩ := hq_ob h
            refine hv_callV [.int p1] [] [] (wk_m_keeps KM e_s8) cs_X4_347 KM.recv rfl ⟨Nat.le_of_ble_eq_true rfl, Nat.le_of_ble_eq_true rfl⟩ rfl (Nat.le_of_ble_eq_true rfl) rfl dX4_taught_51 ?_
            refine hv_iconst (v := 0) dX4_taught_54 (by decide) ?_
            refine hv_istore (L' := [(4, .int (0 : Int32)), (0, .ref m0), (1, .int p1), (2, .int p2), (3, .int p3)]) dX4_taught_55 (Nat.le_of_ble_eq_true rfl) rfl ?_
            refine hv_iconst (v := 0) dX4_taught_57 (by decide) ?_
            refine hv_istore (L' := [(5, .int (0 : Int32)), (4, .int (0 : Int32)), (0, .ref m0), (1, .int p1), (2, .int p2), (3, .int p3)]) dX4_taught_58 (Nat.le_of_ble_eq_true rfl) rfl ?_
            refine hv_sub [2, 3, 4, 5, 1, 0] rfl ?_
            refine wk_m_taught_L60 KM ?_ hk_F _ _ _ h
            · intro v12 s13 h
              refine hv_aload_n 0 dX4_taught_94 rfl rfl ?_
              refine hv_iload_n 1 dX4_taught_95 rfl rfl ?_
              obtain ⟨x20, e_x20, h⟩ := hq_ob h
              refine hv_callV [.int p1] [] [.int x20] (wk_m_learntOf KM e_x20) cs_X4_191 KM.recv rfl ⟨Nat.le_of_ble_eq_true rfl, Nat.le_of_ble_eq_true rfl⟩ rfl (Nat.le_of_ble_eq_true rfl) rfl dX4_taught_96 ?_
              refine hv_istore (L' := [(5, .int x20), (0, .ref m0), (1, .int p1), (3, .int p3), (4, .int v12)]) dX4_taught_99 (Nat.le_of_ble_eq_true rfl) rfl ?_
              refine hv_aload_n 1 dX4_taught_101 rfl rfl ?_
              refine hv_iload_n 2 dX4_taught_102 rfl rfl ?_
              obtain ⟨s21, e_s21, h⟩ := hq_ob h
              refine hv_callV [.int p1] [] [] (wk_m_putsBack KM e_s21) cs_X4_354 KM.recv rfl ⟨Nat.le_of_ble_eq_true rfl, Nat.le_of_ble_eq_true rfl⟩ rfl (Nat.le_of_ble_eq_true rfl) rfl dX4_taught_103 ?_
              refine hv_iload_n 3 dX4_taught_106 rfl rfl ?_
              refine hv_if_ne (tgt := 115) dX4_taught_107 (by decide) (fun c22 => ?_) (fun c22 => ?_)
              · replace h := hq_in c22 h
                refine hv_iload 0 dX4_taught_115 rfl ?_
                obtain ⟨h1, h2⟩ := hq_ret h
                subst h1
                subst h2
                exact hv_iret rfl dX4_taught_117
              · replace h := hq_ip c22 h
                refine hv_iload 4 dX4_taught_110 rfl ?_
                refine hv_goto (tgt := 117) dX4_taught_112 (by decide) ?_
                obtain ⟨h1, h2⟩ := hq_ret h
                subst h1
                subst h2
                exact hv_iret rfl dX4_taught_117
          · replace h := hq_ip c7 h
            refine hv_bipush (v := -5) dX4_taught_46 (by decide) ?_
            obtain ⟨h1, h2⟩ := hq_ret h
            subst h1
            subst h2
            exact hv_iret rfl dX4_taught_48
        · replace h := hq_in c6 h
          refine hv_iconst (v := -1) dX4_taught_37 (by decide) ?_
          obtain ⟨h1, h2⟩ := hq_ret h
          subst h1
          subst h2
          exact hv_iret rfl dX4_taught_38
