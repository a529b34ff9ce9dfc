set_option maxRecDepth 100000
def m_workOut_L33b (p1 : Int32) (p2 : Int32) (e0 : Int32 → hk_Ms → Option (Int32 × hk_Ms)) (rc : Int32 → Int32 → Int32 → hk_Ms → Option (Int32 × hk_Ms)) (v6 : Int32) (v7 : Int32) (v8 : Int32) (s9 : hk_Ms) : Option (Int32 × hk_Ms) :=
  hk_nm (fun (v12 : Int32) (v13 : Int32) (s14 : hk_Ms) =>
    (m_takes (59 : Int32) s14).bind fun q15 =>
    rc v12 v13 q15.1 q15.2) fun k96 =>
  hk_nm (fun (v16 : Int32) (v17 : Int32) (v18 : Int32) (v19 : Int32) (s20 : hk_Ms) =>
    if 0 ≤ (hm_I s20 13) then
      k96 v16 v17 s20
    else
    if v19 = 0 then
      k96 v16 v17 s20
    else
    if v16 = 0 then
      k96 (1 : Int32) v18 s20
    else
    k96 v16 v17 s20) fun k74 =>
  hk_nm (fun (v24 : Int32) (v25 : Int32) (v26 : Int32) (s27 : hk_Ms) =>
    ((g_P 60 0)  s27).bind fun q28 =>
    k74 v24 v25 q28.1 v26 q28.2) fun k66 =>
  if v8 = 0 then
    e0 v7 s9
  else
  ((g_P 60 0)  s9).bind fun q30 =>
  (m_takes (63 : Int32) q30.2).bind fun q31 =>
  if q31.1 = 0 then
    k74 v6 v7 q30.1 (1 : Int32) q31.2
  else
  if q30.1 = 0 then
    k66 v6 v7 (0 : Int32) q31.2
  else
  k66 v6 v7 (1 : Int32) q31.2
def m_workOut_L33 (p1 : Int32) (p2 : Int32) (e0 : Int32 → hk_Ms → Option (Int32 × hk_Ms)) : Nat → Int32 → Int32 → Int32 → hk_Ms → Option (Int32 × hk_Ms)
  | 0 => fun _ _ _ _ => none
  | n + 1 => m_workOut_L33b p1 p2 e0 (m_workOut_L33 p1 p2 e0 n)
def m_workOut (p1 : Int32) (p2 : Int32) (s0 : hk_Ms) : Option (Int32 × hk_Ms) :=
  hk_nm (hm_sI s0 10 p1) fun s1 =>
  hk_nm (hm_sI s1 11 (0 : Int32)) fun s2 =>
  hk_nm (hm_sI s2 12 p2) fun s3 =>
  hk_nm (hm_sI s3 13 (-1 : Int32)) fun s4 =>
  hk_nm (hm_sI s4 14 (0 : Int32)) fun s5 =>
  m_workOut_L33 p1 p2  (fun (v10 : Int32) (s11 : hk_Ms) =>
    if 0 ≤ (hm_I s11 13) then
      some (v10, s11)
    else
    if (hm_I s11 12) ≤ (hm_I s11 11) then
      some (v10, s11)
    else
    (m_wrong  s11).bind fun q36 =>
    some (q36.1, q36.2)) hk_F (0 : Int32) (0 : Int32) (1 : Int32) s5
abbrev N_m_workOut (l : Launch) : hk_N := (l, cX4_workOut, "HeadReckonsModel", 8, (some .int), 81, 4222, false)
set_option maxHeartbeats 4000000 in
theorem wk_m_workOut_L33b {l : Launch} {Gd : hk_G} {m0 : Nat} {st : hk_St} (KM : hk_KM m0 st) {p1 : Int32} {p2 : Int32} {s0 : hk_Ms} {r : Int32} {fin : hk_Ms} {e0 : Int32 → hk_Ms → Option (Int32 × hk_Ms)} {rc : Int32 → Int32 → Int32 → hk_Ms → Option (Int32 × hk_Ms)} (hrc : ∀ (v6 : Int32) (v7 : Int32) (v8 : Int32) (s9 : hk_Ms), rc v6 v7 v8 s9 = some (r, fin) → hk_V Gd (N_m_workOut l) (hk_end Gd (hk_mU m0 st s0) (some (.int r)) (hk_mU m0 st fin)) 33 [(0, .ref m0), (3, .int v6), (4, .int v7), (5, .int v8)] [] (hk_mU m0 st s9)) (he0 : ∀ (v10 : Int32) (s11 : hk_Ms), e0 v10 s11 = some (r, fin) → hk_V Gd (N_m_workOut l) (hk_end Gd (hk_mU m0 st s0) (some (.int r)) (hk_mU m0 st fin)) 107 [(0, .ref m0), (4, .int v10)] [] (hk_mU m0 st s11)) {v6 : Int32} {v7 : Int32} {v8 : Int32} {s9 : hk_Ms} (h : m_workOut_L33b p1 p2 e0 rc v6 v7 v8 s9 = some (r, fin)) : hk_V Gd (N_m_workOut l) (hk_end Gd (hk_mU m0 st s0) (some (.int r)) (hk_mU m0 st fin)) 33 [(0, .ref m0), (3, .int v6), (4, .int v7), (5, .int v8)] [] (hk_mU m0 st s9) := by
  unfold m_workOut_L33b at h
  obtain ⟨k96, e_k96, h⟩ := hq_nm h
  have wk96 : ∀ (v12 : Int32) (v13 : Int32) (s14 : hk_Ms), k96 v12 v13 s14 = some (r, fin) → hk_V Gd (N_m_workOut l) (hk_end Gd (hk_mU m0 st s0) (some (.int r)) (hk_mU m0 st fin)) 96 [(0, .ref m0), (3, .int v12), (4, .int v13)] [] (hk_mU m0 st s14) := by
    intro v12 v13 s14 h
    rw [e_k96] at h
    refine hv_aload_n 0 dX4_workOut_96 rfl rfl ?_
    refine hv_bipush (v := 59) dX4_workOut_97 (by decide) ?_
    obtain ⟨q15, e_q15, h⟩ := hq_ob h
    refine hv_callV [.int (59 : Int32)] [] [.int q15.1] (wk_m_takes KM e_q15) cs_X4_139 KM.recv rfl ⟨Nat.le_of_ble_eq_true rfl, Nat.le_of_ble_eq_true rfl⟩ rfl (Nat.le_of_ble_eq_true rfl) rfl dX4_workOut_99 ?_
    refine hv_istore (L' := [(5, .int q15.1), (0, .ref m0), (3, .int v12), (4, .int v13)]) dX4_workOut_102 (Nat.le_of_ble_eq_true rfl) rfl ?_
    refine hv_goto (tgt := 33) dX4_workOut_104 (by decide) ?_
    refine hv_sub [1, 2, 3, 0] rfl ?_
    exact hrc _ _ _ _ h
  clear e_k96
  obtain ⟨k74, e_k74, h⟩ := hq_nm h
  have wk74 : ∀ (v16 : Int32) (v17 : Int32) (v18 : Int32) (v19 : Int32) (s20 : hk_Ms), k74 v16 v17 v18 v19 s20 = some (r, fin) → hk_V Gd (N_m_workOut l) (hk_end Gd (hk_mU m0 st s0) (some (.int r)) (hk_mU m0 st fin)) 74 [(0, .ref m0), (3, .int v16), (4, .int v17), (6, .int v18), (7, .int v19)] [] (hk_mU m0 st s20) := by
    intro v16 v17 v18 v19 s20 h
    rw [e_k74] at h
    refine hv_aload_n 0 dX4_workOut_74 rfl rfl ?_
    refine hm_getI (f := 13) KM (fl_X4_129) dX4_workOut_75 ?_
    refine hv_if_ge (tgt := 96) dX4_workOut_78 (by decide) (fun c21 => ?_) (fun c21 => ?_)
    · replace h := hq_ip c21 h
      refine hv_sub [0, 1, 2] rfl ?_
      exact wk96 _ _ _ h
    · replace h := hq_in c21 h
      refine hv_iload 4 dX4_workOut_81 rfl ?_
      refine hv_if_eq (tgt := 96) dX4_workOut_83 (by decide) (fun c22 => ?_) (fun c22 => ?_)
      · replace h := hq_ip c22 h
        refine hv_sub [0, 1, 2] rfl ?_
        exact wk96 _ _ _ h
      · replace h := hq_in c22 h
        refine hv_iload_n 1 dX4_workOut_86 rfl rfl ?_
        refine hv_if_ne (tgt := 96) dX4_workOut_87 (by decide) (fun c23 => ?_) (fun c23 => ?_)
        · replace h := hq_in c23 h
          refine hv_sub [0, 1, 2] rfl ?_
          exact wk96 _ _ _ h
        · replace h := hq_ip c23 h
          refine hv_iconst (v := 1) dX4_workOut_90 (by decide) ?_
          refine hv_istore_n (L' := [(3, .int (1 : Int32)), (0, .ref m0), (4, .int v17), (6, .int v18), (7, .int v19)]) dX4_workOut_91 rfl (Nat.le_of_ble_eq_true rfl) rfl ?_
          refine hv_iload 3 dX4_workOut_92 rfl ?_
          refine hv_istore (L' := [(4, .int v18), (3, .int (1 : Int32)), (0, .ref m0), (6, .int v18), (7, .int v19)]) dX4_workOut_94 (Nat.le_of_ble_eq_true rfl) rfl ?_
          refine hv_sub [2, 1, 0] rfl ?_
          exact wk96 _ _ _ h
  clear e_k74
  obtain ⟨k66, e_k66, h⟩ := hq_nm h
  have wk66 : ∀ (v24 : Int32) (v25 : Int32) (v26 : Int32) (s27 : hk_Ms), k66 v24 v25 v26 s27 = some (r, fin) → hk_V Gd (N_m_workOut l) (hk_end Gd (hk_mU m0 st s0) (some (.int r)) (hk_mU m0 st fin)) 66 [(0, .ref m0), (3, .int v24), (4, .int v25)] [.int v26] (hk_mU m0 st s27) := by
    intro v24 v25 v26 s27 h
    rw [e_k66] at h
    refine hv_istore (L' := [(7, .int v26), (0, .ref m0), (3, .int v24), (4, .int v25)]) dX4_workOut_66 (Nat.le_of_ble_eq_true rfl) rfl ?_
    refine hv_aload_n 1 dX4_workOut_68 rfl rfl ?_
    obtain ⟨q28, e_q28, h⟩ := hq_ob h
    refine hv_callV [] [] [.int q28.1] (wk_g_P_either KM e_q28) cs_X4_161 KM.recv rfl ⟨Nat.le_of_ble_eq_true rfl, Nat.le_of_ble_eq_true rfl⟩ rfl (Nat.le_of_ble_eq_true rfl) rfl dX4_workOut_69 ?_
    refine hv_istore (L' := [(6, .int q28.1), (7, .int v26), (0, .ref m0), (3, .int v24), (4, .int v25)]) dX4_workOut_72 (Nat.le_of_ble_eq_true rfl) rfl ?_
    refine hv_sub [2, 3, 4, 0, 1] rfl ?_
    exact wk74 _ _ _ _ _ h
  clear e_k66
  refine hv_iload 3 dX4_workOut_33 rfl ?_
  refine hv_if_eq (tgt := 107) dX4_workOut_35 (by decide) (fun c29 => ?_) (fun c29 => ?_)
  · replace h := hq_ip c29 h
    refine hv_sub [0, 2] rfl ?_
    exact he0 _ _ h
  · replace h := hq_in c29 h
    refine hv_aload_n 0 dX4_workOut_38 rfl rfl ?_
    obtain ⟨q30, e_q30, h⟩ := hq_ob h
    refine hv_callV [] [] [.int q30.1] (wk_g_P_either KM e_q30) cs_X4_161 KM.recv rfl ⟨Nat.le_of_ble_eq_true rfl, Nat.le_of_ble_eq_true rfl⟩ rfl (Nat.le_of_ble_eq_true rfl) rfl dX4_workOut_39 ?_
    refine hv_istore (L' := [(6, .int q30.1), (0, .ref m0), (3, .int v6), (4, .int v7), (5, .int v8)]) dX4_workOut_42 (Nat.le_of_ble_eq_true rfl) rfl ?_
    refine hv_iconst (v := 1) dX4_workOut_44 (by decide) ?_
    refine hv_istore (L' := [(7, .int (1 : Int32)), (6, .int q30.1), (0, .ref m0), (3, .int v6), (4, .int v7), (5, .int v8)]) dX4_workOut_45 (Nat.le_of_ble_eq_true rfl) rfl ?_
    refine hv_aload_n 2 dX4_workOut_47 rfl rfl ?_
    refine hv_bipush (v := 63) dX4_workOut_48 (by decide) ?_
    obtain ⟨q31, e_q31, h⟩ := hq_ob h
    refine hv_callV [.int (63 : Int32)] [] [.int q31.1] (wk_m_takes KM e_q31) cs_X4_139 KM.recv rfl ⟨Nat.le_of_ble_eq_true rfl, Nat.le_of_ble_eq_true rfl⟩ rfl (Nat.le_of_ble_eq_true rfl) rfl dX4_workOut_50 ?_
    refine hv_if_eq (tgt := 74) dX4_workOut_53 (by decide) (fun c32 => ?_) (fun c32 => ?_)
    · replace h := hq_ip c32 h
      refine hv_sub [2, 3, 4, 1, 0] rfl ?_
      exact wk74 _ _ _ _ _ h
    · replace h := hq_in c32 h
      refine hv_iload 1 dX4_workOut_56 rfl ?_
      refine hv_if_eq (tgt := 65) dX4_workOut_58 (by decide) (fun c33 => ?_) (fun c33 => ?_)
      · replace h := hq_ip c33 h
        refine hv_iconst (v := 0) dX4_workOut_65 (by decide) ?_
        refine hv_sub [2, 3, 4] rfl ?_
        exact wk66 _ _ _ _ h
      · replace h := hq_in c33 h
        refine hv_iconst (v := 1) dX4_workOut_61 (by decide) ?_
        refine hv_goto (tgt := 66) dX4_workOut_62 (by decide) ?_
        refine hv_sub [2, 3, 4] rfl ?_
        exact wk66 _ _ _ _ h
theorem wk_m_workOut_L33 {l : Launch} {Gd : hk_G} {m0 : Nat} {st : hk_St} (KM : hk_KM m0 st) {p1 : Int32} {p2 : Int32} {s0 : hk_Ms} {r : Int32} {fin : hk_Ms} {e0 : Int32 → hk_Ms → Option (Int32 × hk_Ms)} (he0 : ∀ (v10 : Int32) (s11 : hk_Ms), e0 v10 s11 = some (r, fin) → hk_V Gd (N_m_workOut l) (hk_end Gd (hk_mU m0 st s0) (some (.int r)) (hk_mU m0 st fin)) 107 [(0, .ref m0), (4, .int v10)] [] (hk_mU m0 st s11)) : ∀ (n : Nat) (v6 : Int32) (v7 : Int32) (v8 : Int32) (s9 : hk_Ms), m_workOut_L33 p1 p2 e0 n v6 v7 v8 s9 = some (r, fin) → hk_V Gd (N_m_workOut l) (hk_end Gd (hk_mU m0 st s0) (some (.int r)) (hk_mU m0 st fin)) 33 [(0, .ref m0), (3, .int v6), (4, .int v7), (5, .int v8)] [] (hk_mU m0 st s9) := by
  intro n
  induction n with
  | zero => intro v6 v7 v8 s9 h; cases h
  | succ n ih => intro v6 v7 v8 s9 h; exact wk_m_workOut_L33b KM ih he0 h
set_option maxHeartbeats 4000000 in
theorem wk_m_workOut {l : Launch} {Gd : hk_G} {m0 : Nat} {st : hk_St} (KM : hk_KM m0 st) {p1 : Int32} {p2 : Int32} {s0 : hk_Ms} {r : Int32} {fin : hk_Ms} (h : m_workOut p1 p2 s0 = some (r, fin)) : hk_Met Gd l yX4_workOut cX4_workOut 8 (some .int) 81 4222 [.ref m0, .int p1, .int p2] (hk_mU m0 st s0) (some (.int r)) (hk_mU m0 st fin) := by
  refine hk_start "HeadReckonsModel" false (by decide +kernel) rfl (by decide) (Nat.le_of_ble_eq_true rfl) ?_
  show hk_V Gd (N_m_workOut l) (hk_end Gd (hk_mU m0 st s0) (some (.int r)) (hk_mU m0 st fin)) 0 [(0, .ref m0), (1, .int p1), (2, .int p2)] [] (hk_mU m0 st s0)
  unfold m_workOut at h
  refine hv_aload_n 0 dX4_workOut_0 rfl rfl ?_
  refine hv_iload_n 1 dX4_workOut_1 rfl rfl ?_
  obtain ⟨s1, e_s1, h⟩ := hq_nm h
  refine hm_putI (f := 10) KM (fp_X4_126) e_s1 dX4_workOut_2 ?_
  refine hv_aload_n 0 dX4_workOut_5 rfl rfl ?_
  refine hv_iconst (v := 0) dX4_workOut_6 (by decide) ?_
  obtain ⟨s2, e_s2, h⟩ := hq_nm h
  refine hm_putI (f := 11) KM (fp_X4_120) e_s2 dX4_workOut_7 ?_
  refine hv_aload_n 0 dX4_workOut_10 rfl rfl ?_
  refine hv_iload_n 2 dX4_workOut_11 rfl rfl ?_
  obtain ⟨s3, e_s3, h⟩ := hq_nm h
  refine hm_putI (f := 12) KM (fp_X4_123) e_s3 dX4_workOut_12 ?_
  refine hv_aload_n 0 dX4_workOut_15 rfl rfl ?_
  refine hv_iconst (v := -1) dX4_workOut_16 (by decide) ?_
  obtain ⟨s4, e_s4, h⟩ := hq_nm h
  refine hm_putI (f := 13) KM (fp_X4_129) e_s4 dX4_workOut_17 ?_
  refine hv_aload_n 0 dX4_workOut_20 rfl rfl ?_
  refine hv_iconst (v := 0) dX4_workOut_21 (by decide) ?_
  obtain ⟨s5, e_s5, h⟩ := hq_nm h
  refine hm_putI (f := 14) KM (fp_X4_155) e_s5 dX4_workOut_22 ?_
  refine hv_iconst (v := 0) dX4_workOut_25 (by decide) ?_
  refine hv_istore_n (L' := [(3, .int (0 : Int32)), (0, .ref m0), (1, .int p1), (2, .int p2)]) dX4_workOut_26 rfl (Nat.le_of_ble_eq_true rfl) rfl ?_
  refine hv_iconst (v := 0) dX4_workOut_27 (by decide) ?_
  refine hv_istore (L' := [(4, .int (0 : Int32)), (3, .int (0 : Int32)), (0, .ref m0), (1, .int p1), (2, .int p2)]) dX4_workOut_28 (Nat.le_of_ble_eq_true rfl) rfl ?_
  refine hv_iconst (v := 1) dX4_workOut_30 (by decide) ?_
  refine hv_istore (L' := [(5, .int (1 : Int32)), (4, .int (0 : Int32)), (3, .int (0 : Int32)), (0, .ref m0), (1, .int p1), (2, .int p2)]) dX4_workOut_31 (Nat.le_of_ble_eq_true rfl) rfl ?_
  refine hv_sub [3, 2, 1, 0] rfl ?_
  refine wk_m_workOut_L33 KM ?_ hk_F _ _ _ _ h
  · intro v10 s11 h
    refine hv_aload_n 0 dX4_workOut_107 rfl rfl ?_
    refine hm_getI (f := 13) KM (fl_X4_129) dX4_workOut_108 ?_
    refine hv_if_ge (tgt := 130) dX4_workOut_111 (by decide) (fun c34 => ?_) (fun c34 => ?_)
    · replace h := hq_ip c34 h
      refine hv_iload 1 dX4_workOut_130 rfl ?_
      obtain ⟨h1, h2⟩ := hq_ret h
      subst h1
      subst h2
      exact hv_iret rfl dX4_workOut_132
    · replace h := hq_in c34 h
      refine hv_aload_n 0 dX4_workOut_114 rfl rfl ?_
      refine hm_getI (f := 11) KM (fl_X4_120) dX4_workOut_115 ?_
      refine hv_aload_n 0 dX4_workOut_118 rfl rfl ?_
      refine hm_getI (f := 12) KM (fl_X4_123) dX4_workOut_119 ?_
      refine hv_icmp_ge (tgt := 130) dX4_workOut_122 (by decide) (fun c35 => ?_) (fun c35 => ?_)
      · replace h := hq_ip c35 h
        refine hv_iload 1 dX4_workOut_130 rfl ?_
        obtain ⟨h1, h2⟩ := hq_ret h
        subst h1
        subst h2
        exact hv_iret rfl dX4_workOut_132
      · replace h := hq_in c35 h
        refine hv_aload_n 0 dX4_workOut_125 rfl rfl ?_
        obtain ⟨q36, e_q36, h⟩ := hq_ob h
        refine hv_callV [] [] [.int q36.1] (wk_m_wrong KM e_q36) cs_X4_158 KM.recv rfl ⟨Nat.le_of_ble_eq_true rfl, Nat.le_of_ble_eq_true rfl⟩ rfl (Nat.le_of_ble_eq_true rfl) rfl dX4_workOut_126 ?_
        obtain ⟨h1, h2⟩ := hq_ret h
        subst h1
        subst h2
        exact hv_iret rfl dX4_workOut_129
def m_choice_L37b (v5 : Int32) (e0 : hk_Ms → Option (Int32 × hk_Ms)) (rc : Int32 → hk_Ms → Option (Int32 × hk_Ms)) (v6 : Int32) (s7 : hk_Ms) : Option (Int32 × hk_Ms) :=
  if v5 ≤ v6 then
    e0 s7
  else
  (hm_lI s7 4 120 v6).bind fun x10 =>
  (hm_tI s7 5 120 v6 x10).bind fun s11 =>
  hk_nm (v6 + (1 : Int32)) fun x12 =>
  rc x12 s11
def m_choice_L37 (v5 : Int32) (e0 : hk_Ms → Option (Int32 × hk_Ms)) : Nat → Int32 → hk_Ms → Option (Int32 × hk_Ms)
  | 0 => fun _ _ => none
  | n + 1 => m_choice_L37b v5 e0 (m_choice_L37 v5 e0 n)
def m_choice (s0 : hk_Ms) : Option (Int32 × hk_Ms) :=
  (m_workOut (-1 : Int32) (hm_I s0 7) s0).bind fun q1 =>
  hk_nm (hm_I q1.2 7) fun x2 =>
  hk_nm (hm_sI q1.2 7 (0 : Int32)) fun s3 =>
  if (hm_I s3 13) < 0 then
    m_choice_L37 x2 (fun (s8 : hk_Ms) =>
      hk_nm (hm_sI s8 9 x2) fun s13 =>
      some ((1 : Int32), s13)) hk_F (0 : Int32) s3
  else
  some ((-100 : Int32) - (hm_I s3 13), s3)
abbrev N_m_choice (l : Launch) : hk_N := (l, cX4_choice, "HeadReckonsModel", 4, (some .int), 82, 4249, false)
set_option maxHeartbeats 4000000 in
theorem wk_m_choice_L37b {l : Launch} {Gd : hk_G} {m0 : Nat} {st : hk_St} (KM : hk_KM m0 st) {s0 : hk_Ms} {r : Int32} {fin : hk_Ms} {v5 : Int32} {e0 : hk_Ms → Option (Int32 × hk_Ms)} {rc : Int32 → hk_Ms → Option (Int32 × hk_Ms)} (hrc : ∀ (v6 : Int32) (s7 : hk_Ms), rc v6 s7 = some (r, fin) → hk_V Gd (N_m_choice l) (hk_end Gd (hk_mU m0 st s0) (some (.int r)) (hk_mU m0 st fin)) 37 [(0, .ref m0), (2, .int v5), (3, .int v6)] [] (hk_mU m0 st s7)) (he0 : ∀ (s8 : hk_Ms), e0 s8 = some (r, fin) → hk_V Gd (N_m_choice l) (hk_end Gd (hk_mU m0 st s0) (some (.int r)) (hk_mU m0 st fin)) 60 [(0, .ref m0), (2, .int v5)] [] (hk_mU m0 st s8)) {v6 : Int32} {s7 : hk_Ms} (h : m_choice_L37b v5 e0 rc v6 s7 = some (r, fin)) : hk_V Gd (N_m_choice l) (hk_end Gd (hk_mU m0 st s0) (some (.int r)) (hk_mU m0 st fin)) 37 [(0, .ref m0), (2, .int v5), (3, .int v6)] [] (hk_mU m0 st s7) := by
  unfold m_choice_L37b at h
  refine hv_iload_n 2 dX4_choice_37 rfl rfl ?_
  refine hv_iload_n 1 dX4_choice_38 rfl rfl ?_
  refine hv_icmp_ge (tgt := 60) dX4_choice_39 (by decide) (fun c9 => ?_) (fun c9 => ?_)
  · replace h := hq_ip c9 h
    refine hv_sub [0, 1] rfl ?_
    exact he0 _ h
  · replace h := hq_in c9 h
    refine hv_aload_n 0 dX4_choice_42 rfl rfl ?_
    refine hm_getA (j := 5) KM (fl_X4_25) rfl (Nat.le_of_ble_eq_true rfl) dX4_choice_43 ?_
    refine hv_iload_n 2 dX4_choice_46 rfl rfl ?_
    refine hv_aload_n 0 dX4_choice_47 rfl rfl ?_
    refine hm_getA (j := 4) KM (fl_X4_22) rfl (Nat.le_of_ble_eq_true rfl) dX4_choice_48 ?_
    refine hv_iload_n 2 dX4_choice_51 rfl rfl ?_
    obtain ⟨x10, e_x10, h⟩ := hq_ob h
    refine hm_iaload KM e_x10 (Nat.le_of_ble_eq_true rfl) rfl dX4_choice_52 ?_
    obtain ⟨s11, e_s11, h⟩ := hq_ob h
    refine hm_iastore KM e_s11 (Nat.le_of_ble_eq_true rfl) rfl dX4_choice_53 ?_
    obtain ⟨x12, e_x12, h⟩ := hq_nm h
    refine hv_iinc (v := x12) (L' := [(3, .int x12), (0, .ref m0), (2, .int v5)]) 2 dX4_choice_54 rfl (by rw [e_x12]; rfl) (Nat.le_of_ble_eq_true rfl) rfl ?_
    refine hv_goto (tgt := 37) dX4_choice_57 (by decide) ?_
    refine hv_sub [1, 2, 0] rfl ?_
    exact hrc _ _ h
theorem wk_m_choice_L37 {l : Launch} {Gd : hk_G} {m0 : Nat} {st : hk_St} (KM : hk_KM m0 st) {s0 : hk_Ms} {r : Int32} {fin : hk_Ms} {v5 : Int32} {e0 : hk_Ms → Option (Int32 × hk_Ms)} (he0 : ∀ (s8 : hk_Ms), e0 s8 = some (r, fin) → hk_V Gd (N_m_choice l) (hk_end Gd (hk_mU m0 st s0) (some (.int r)) (hk_mU m0 st fin)) 60 [(0, .ref m0), (2, .int v5)] [] (hk_mU m0 st s8)) : ∀ (n : Nat) (v6 : Int32) (s7 : hk_Ms), m_choice_L37 v5 e0 n v6 s7 = some (r, fin) → hk_V Gd (N_m_choice l) (hk_end Gd (hk_mU m0 st s0) (some (.int r)) (hk_mU m0 st fin)) 37 [(0, .ref m0), (2, .int v5), (3, .int v6)] [] (hk_mU m0 st s7) := by
  intro n
  induction n with
  | zero => intro v6 s7 h; cases h
  | succ n ih => intro v6 s7 h; exact wk_m_choice_L37b KM ih he0 h
set_option maxHeartbeats 4000000 in
theorem wk_m_choice {l : Launch} {Gd : hk_G} {m0 : Nat} {st : hk_St} (KM : hk_KM m0 st) {s0 : hk_Ms} {r : Int32} {fin : hk_Ms} (h : m_choice s0 = some (r, fin)) : hk_Met Gd l yX4_choice cX4_choice 4 (some .int) 82 4249 [.ref m0] (hk_mU m0 st s0) (some (.int r)) (hk_mU m0 st fin) := by
  refine hk_start "HeadReckonsModel" false (by decide +kernel) rfl (by decide) (Nat.le_of_ble_eq_true rfl) ?_
  show hk_V Gd (N_m_choice l) (hk_end Gd (hk_mU m0 st s0) (some (.int r)) (hk_mU m0 st fin)) 0 [(0, .ref m0)] [] (hk_mU m0 st s0)
  unfold m_choice at h
  refine hv_aload_n 0 dX4_choice_0 rfl rfl ?_
  refine hv_iconst (v := -1) dX4_choice_1 (by decide) ?_
  refine hv_aload_n 0 dX4_choice_2 rfl rfl ?_
  refine hm_getI (f := 7) KM (fl_X4_117) dX4_choice_3 ?_
  obtain ⟨q1, e_q1, h⟩ := hq_ob h
  refine hv_callV [.int (-1 : Int32), .int (hm_I s0 7)] [] [.int q1.1] (wk_m_workOut KM e_q1) cs_X4_168 KM.recv rfl ⟨Nat.le_of_ble_eq_true rfl, Nat.le_of_ble_eq_true rfl⟩ rfl (Nat.le_of_ble_eq_true rfl) rfl dX4_choice_6 ?_
  refine hv_istore_n (L' := [(1, .int q1.1), (0, .ref m0)]) dX4_choice_9 rfl (Nat.le_of_ble_eq_true rfl) rfl ?_
  refine hv_aload_n 1 dX4_choice_10 rfl rfl ?_
  refine hm_getI (f := 7) KM (fl_X4_117) dX4_choice_11 ?_
  obtain ⟨x2, e_x2, h⟩ := hq_nm h
  rw [← e_x2]
  refine hv_istore_n (L' := [(2, .int x2), (1, .int q1.1), (0, .ref m0)]) dX4_choice_14 rfl (Nat.le_of_ble_eq_true rfl) rfl ?_
  refine hv_aload_n 2 dX4_choice_15 rfl rfl ?_
  refine hv_iconst (v := 0) dX4_choice_16 (by decide) ?_
  obtain ⟨s3, e_s3, h⟩ := hq_nm h
  refine hm_putI (f := 7) KM (fp_X4_117) e_s3 dX4_choice_17 ?_
  refine hv_aload_n 2 dX4_choice_20 rfl rfl ?_
  refine hm_getI (f := 13) KM (fl_X4_129) dX4_choice_21 ?_
  refine hv_if_lt (tgt := 35) dX4_choice_24 (by decide) (fun c4 => ?_) (fun c4 => ?_)
  · replace h := hq_ip c4 h
    refine hv_iconst (v := 0) dX4_choice_35 (by decide) ?_
    refine hv_istore_n (L' := [(3, .int (0 : Int32)), (2, .int x2), (1, .int q1.1), (0, .ref m0)]) dX4_choice_36 rfl (Nat.le_of_ble_eq_true rfl) rfl ?_
    refine hv_sub [3, 1, 0] rfl ?_
    refine wk_m_choice_L37 KM ?_ hk_F _ _ h
    · intro s8 h
      refine hv_aload_n 0 dX4_choice_60 rfl rfl ?_
      refine hv_iload_n 1 dX4_choice_61 rfl rfl ?_
      obtain ⟨s13, e_s13, h⟩ := hq_nm h
      refine hm_putI (f := 9) KM (fp_X4_101) e_s13 dX4_choice_62 ?_
      refine hv_iconst (v := 1) dX4_choice_65 (by decide) ?_
      obtain ⟨h1, h2⟩ := hq_ret h
      subst h1
      subst h2
      exact hv_iret rfl dX4_choice_66
  · replace h := hq_in c4 h
    refine hv_bipush (v := -100) dX4_choice_27 (by decide) ?_
    refine hv_aload_n 2 dX4_choice_29 rfl rfl ?_
    refine hm_getI (f := 13) KM (fl_X4_129) dX4_choice_30 ?_
    refine hv_isub dX4_choice_33 ?_
    obtain ⟨h1, h2⟩ := hq_ret h
    subst h1
    subst h2
    exact hv_iret rfl dX4_choice_34
def m_isOf (p1 : Int32) (p2 : Int32) : Int32 :=
  if (3 : Int32) ≤ p1 then
    if p1 = (3 : Int32) then
      (m_within p2.toInt64 (9 : Int64) (99 : Int64))
    else
    (m_within p2.toInt64 (1 : Int64) (40 : Int64))
  else
  (m_within p2.toInt64 (0 : Int64) (99 : Int64))
theorem bz_m_isOf {p1 : Int32} {p2 : Int32} : m_isOf p1 p2 &&& 1 = m_isOf p1 p2 := by
  unfold m_isOf
  try unfold hk_nm
  repeat' split
  all_goals first | rfl | exact bz_m_within
abbrev N_m_isOf (l : Launch) : hk_N := (l, cX4_isOf, "HeadReckonsModel", 2, (some .boolean), 1, 25, false)
set_option maxHeartbeats 4000000 in
theorem wk_m_isOf {l : Launch} {Gd : hk_G} {st : hk_St} {p1 : Int32} {p2 : Int32} {r : Int32} (h : m_isOf p1 p2 = r) : hk_Met Gd l yX4_isOf cX4_isOf 2 (some .boolean) 1 25 [.int p1, .int p2] st (some (.int r)) st := by
  refine hk_start "HeadReckonsModel" false (by decide +kernel) rfl (by decide) (Nat.le_of_ble_eq_true rfl) ?_
  show hk_V Gd (N_m_isOf l) (hk_end Gd st (some (.int r)) st) 0 [(0, .int p1), (1, .int p2)] [] st
  unfold m_isOf at h
  refine hv_iload_n 0 dX4_isOf_0 rfl rfl ?_
  refine hv_iconst (v := 3) dX4_isOf_1 (by decide) ?_
  refine hv_icmp_ge (tgt := 17) dX4_isOf_2 (by decide) (fun c1 => ?_) (fun c1 => ?_)
  · replace h := hq_ip c1 h
    refine hv_iload_n 0 dX4_isOf_17 rfl rfl ?_
    refine hv_iconst (v := 3) dX4_isOf_18 (by decide) ?_
    refine hv_icmp_ne (tgt := 36) dX4_isOf_19 (by decide) (fun c2 => ?_) (fun c2 => ?_)
    · replace h := hq_in c2 h
      refine hv_iload_n 1 dX4_isOf_36 rfl rfl ?_
      refine hv_i2l dX4_isOf_37 ?_
      refine hv_lconst (v := 1) dX4_isOf_38 (by decide) ?_
      refine hv_ldc2 q1845 dX4_isOf_39 ?_
      refine hv_callS [.long p2.toInt64, .long (1 : Int64), .long (40 : Int64)] [] [.int (m_within p2.toInt64 (1 : Int64) (40 : Int64))] (wk_m_within rfl) cs_X4_113 rfl ⟨Nat.le_of_ble_eq_true rfl, Nat.le_of_ble_eq_true rfl⟩ rfl (Nat.le_of_ble_eq_true rfl) rfl dX4_isOf_42 ?_
      subst h
      exact hv_zret (ty := .boolean) rfl (hk_nz bz_m_within) dX4_isOf_45
    · replace h := hq_ip c2 h
      refine hv_iload_n 1 dX4_isOf_22 rfl rfl ?_
      refine hv_i2l dX4_isOf_23 ?_
      refine hv_ldc2 q1844 dX4_isOf_24 ?_
      refine hv_ldc2 q1843 dX4_isOf_27 ?_
      refine hv_callS [.long p2.toInt64, .long (9 : Int64), .long (99 : Int64)] [] [.int (m_within p2.toInt64 (9 : Int64) (99 : Int64))] (wk_m_within rfl) cs_X4_113 rfl ⟨Nat.le_of_ble_eq_true rfl, Nat.le_of_ble_eq_true rfl⟩ rfl (Nat.le_of_ble_eq_true rfl) rfl dX4_isOf_30 ?_
      refine hv_goto (tgt := 45) dX4_isOf_33 (by decide) ?_
      subst h
      exact hv_zret (ty := .boolean) rfl (hk_nz bz_m_within) dX4_isOf_45
  · replace h := hq_in c1 h
    refine hv_iload_n 1 dX4_isOf_5 rfl rfl ?_
    refine hv_i2l dX4_isOf_6 ?_
    refine hv_lconst (v := 0) dX4_isOf_7 (by decide) ?_
    refine hv_ldc2 q1843 dX4_isOf_8 ?_
    refine hv_callS [.long p2.toInt64, .long (0 : Int64), .long (99 : Int64)] [] [.int (m_within p2.toInt64 (0 : Int64) (99 : Int64))] (wk_m_within rfl) cs_X4_113 rfl ⟨Nat.le_of_ble_eq_true rfl, Nat.le_of_ble_eq_true rfl⟩ rfl (Nat.le_of_ble_eq_true rfl) rfl dX4_isOf_11 ?_
    refine hv_goto (tgt := 45) dX4_isOf_14 (by decide) ?_
    subst h
    exact hv_zret (ty := .boolean) rfl (hk_nz bz_m_within) dX4_isOf_45
def m_readOne_L28b (p1 : Int32) (p2 : Int32) (v7 : Int32) (e0 : Int32 → hk_Ms → Option (Int32 × hk_Ms)) (rc : Int32 → hk_Ms → Option (Int32 × hk_Ms)) (v8 : Int32) (s9 : hk_Ms) : Option (Int32 × hk_Ms) :=
  if (v7 + (2 : Int32)) ≤ (hm_I s9 11) then
    e0 v8 s9
  else
  (m_byteAt  s9).bind fun x13 =>
  if x13 < (48 : Int32) then
    e0 v8 s9
  else
  (m_byteAt  s9).bind fun x15 =>
  if (57 : Int32) < x15 then
    e0 v8 s9
  else
  (m_byteAt  s9).bind fun x17 =>
  hk_nm ((((10 : Int32) * v8) + x17) - (48 : Int32)) fun x18 =>
  hk_nm (hm_sI s9 11 ((hm_I s9 11) + (1 : Int32))) fun s19 =>
  rc x18 s19
def m_readOne_L28 (p1 : Int32) (p2 : Int32) (v7 : Int32) (e0 : Int32 → hk_Ms → Option (Int32 × hk_Ms)) : Nat → Int32 → hk_Ms → Option (Int32 × hk_Ms)
  | 0 => fun _ _ => none
  | n + 1 => m_readOne_L28b p1 p2 v7 e0 (m_readOne_L28 p1 p2 v7 e0 n)
def m_readOne (p1 : Int32) (p2 : Int32) (s0 : hk_Ms) : Option (Int32 × hk_Ms) :=
  hk_nm (fun (s1 : hk_Ms) =>
    (m_wrong  s1).bind fun q2 =>
    some (q2.1, q2.2)) fun k15 =>
  if 0 ≤ (hm_I s0 13) then
    k15 s0
  else
  (m_takes p1 s0).bind fun q4 =>
  if q4.1 = 0 then
    k15 q4.2
  else
  hk_nm (hm_I q4.2 11) fun x6 =>
    m_readOne_L28 p1 p2 x6 (fun (v10 : Int32) (s11 : hk_Ms) =>
      if (hm_I s11 11) = x6 then
        (m_wrong  s11).bind fun q24 =>
      some (q24.1, q24.2)
      else
      if (m_isOf p2 v10) = 0 then
          hk_nm (hm_sI s11 11 x6) fun s22 =>
        (m_wrong  s22).bind fun q23 =>
        some (q23.1, q23.2)
        else
        some (v10, s11)) hk_F (0 : Int32) q4.2
abbrev N_m_readOne (l : Launch) : hk_N := (l, cX4_readOne, "HeadReckonsModel", 5, (some .int), 2, 46, false)
set_option maxHeartbeats 4000000 in
theorem wk_m_readOne_L28b {l : Launch} {Gd : hk_G} {m0 : Nat} {st : hk_St} (KM : hk_KM m0 st) {p1 : Int32} {p2 : Int32} {s0 : hk_Ms} {r : Int32} {fin : hk_Ms} {v7 : Int32} {e0 : Int32 → hk_Ms → Option (Int32 × hk_Ms)} {rc : Int32 → hk_Ms → Option (Int32 × hk_Ms)} (hrc : ∀ (v8 : Int32) (s9 : hk_Ms), rc v8 s9 = some (r, fin) → hk_V Gd (N_m_readOne l) (hk_end Gd (hk_mU m0 st s0) (some (.int r)) (hk_mU m0 st fin)) 28 [(0, .ref m0), (2, .int p2), (3, .int v7), (4, .int v8)] [] (hk_mU m0 st s9)) (he0 : ∀ (v10 : Int32) (s11 : hk_Ms), e0 v10 s11 = some (r, fin) → hk_V Gd (N_m_readOne l) (hk_end Gd (hk_mU m0 st s0) (some (.int r)) (hk_mU m0 st fin)) 84 [(0, .ref m0), (2, .int p2), (3, .int v7), (4, .int v10)] [] (hk_mU m0 st s11)) {v8 : Int32} {s9 : hk_Ms} (h : m_readOne_L28b p1 p2 v7 e0 rc v8 s9 = some (r, fin)) : hk_V Gd (N_m_readOne l) (hk_end Gd (hk_mU m0 st s0) (some (.int r)) (hk_mU m0 st fin)) 28 [(0, .ref m0), (2, .int p2), (3, .int v7), (4, .int v8)] [] (hk_mU m0 st s9) := by
  unfold m_readOne_L28b at h
  refine hv_aload_n 0 dX4_readOne_28 rfl rfl ?_
  refine hm_getI (f := 11) KM (fl_X4_120) dX4_readOne_29 ?_
  refine hv_iload_n 2 dX4_readOne_32 rfl rfl ?_
  refine hv_iconst (v := 2) dX4_readOne_33 (by decide) ?_
  refine hv_iadd dX4_readOne_34 ?_
  refine hv_icmp_ge (tgt := 84) dX4_readOne_35 (by decide) (fun c12 => ?_) (fun c12 => ?_)
  · replace h := hq_ip c12 h
    exact he0 _ _ h
  · replace h := hq_in c12 h
    refine hv_aload_n 0 dX4_readOne_38 rfl rfl ?_
    obtain ⟨x13, e_x13, h⟩ := hq_ob h
    refine hv_callV [] [] [.int x13] (wk_m_byteAt KM e_x13) cs_X4_132 KM.recv rfl ⟨Nat.le_of_ble_eq_true rfl, Nat.le_of_ble_eq_true rfl⟩ rfl (Nat.le_of_ble_eq_true rfl) rfl dX4_readOne_39 ?_
    refine hv_bipush (v := 48) dX4_readOne_42 (by decide) ?_
    refine hv_icmp_lt (tgt := 84) dX4_readOne_44 (by decide) (fun c14 => ?_) (fun c14 => ?_)
    · replace h := hq_ip c14 h
      exact he0 _ _ h
    · replace h := hq_in c14 h
      refine hv_aload_n 0 dX4_readOne_47 rfl rfl ?_
      obtain ⟨x15, e_x15, h⟩ := hq_ob h
      refine hv_callV [] [] [.int x15] (wk_m_byteAt KM e_x15) cs_X4_132 KM.recv rfl ⟨Nat.le_of_ble_eq_true rfl, Nat.le_of_ble_eq_true rfl⟩ rfl (Nat.le_of_ble_eq_true rfl) rfl dX4_readOne_48 ?_
      refine hv_bipush (v := 57) dX4_readOne_51 (by decide) ?_
      refine hv_icmp_gt (tgt := 84) dX4_readOne_53 (by decide) (fun c16 => ?_) (fun c16 => ?_)
      · replace h := hq_ip c16 h
        exact he0 _ _ h
      · replace h := hq_in c16 h
        refine hv_bipush (v := 10) dX4_readOne_56 (by decide) ?_
        refine hv_iload 3 dX4_readOne_58 rfl ?_
        refine hv_imul dX4_readOne_60 ?_
        refine hv_aload_n 0 dX4_readOne_61 rfl rfl ?_
        obtain ⟨x17, e_x17, h⟩ := hq_ob h
        refine hv_callV [] [.int ((10 : Int32) * v8)] [.int x17, .int ((10 : Int32) * v8)] (wk_m_byteAt KM e_x17) cs_X4_132 KM.recv rfl ⟨Nat.le_of_ble_eq_true rfl, Nat.le_of_ble_eq_true rfl⟩ rfl (Nat.le_of_ble_eq_true rfl) rfl dX4_readOne_62 ?_
        refine hv_iadd dX4_readOne_65 ?_
        refine hv_bipush (v := 48) dX4_readOne_66 (by decide) ?_
        refine hv_isub dX4_readOne_68 ?_
        obtain ⟨x18, e_x18, h⟩ := hq_nm h
        rw [← e_x18]
        refine hv_istore (L' := [(4, .int x18), (0, .ref m0), (2, .int p2), (3, .int v7)]) dX4_readOne_69 (Nat.le_of_ble_eq_true rfl) rfl ?_
        refine hv_aload_n 1 dX4_readOne_71 rfl rfl ?_
        refine hv_dup dX4_readOne_72 rfl ?_
        refine hm_getI (f := 11) KM (fl_X4_120) dX4_readOne_73 ?_
        refine hv_iconst (v := 1) dX4_readOne_76 (by decide) ?_
        refine hv_iadd dX4_readOne_77 ?_
        obtain ⟨s19, e_s19, h⟩ := hq_nm h
        refine hm_putI (f := 11) KM (fp_X4_120) e_s19 dX4_readOne_78 ?_
        refine hv_goto (tgt := 28) dX4_readOne_81 (by decide) ?_
        refine hv_sub [1, 2, 3, 0] rfl ?_
        exact hrc _ _ h
theorem wk_m_readOne_L28 {l : Launch} {Gd : hk_G} {m0 : Nat} {st : hk_St} (KM : hk_KM m0 st) {p1 : Int32} {p2 : Int32} {s0 : hk_Ms} {r : Int32} {fin : hk_Ms} {v7 : Int32} {e0 : Int32 → hk_Ms → Option (Int32 × hk_Ms)} (he0 : ∀ (v10 : Int32) (s11 : hk_Ms), e0 v10 s11 = some (r, fin) → hk_V Gd (N_m_readOne l) (hk_end Gd (hk_mU m0 st s0) (some (.int r)) (hk_mU m0 st fin)) 84 [(0, .ref m0), (2, .int p2), (3, .int v7), (4, .int v10)] [] (hk_mU m0 st s11)) : ∀ (n : Nat) (v8 : Int32) (s9 : hk_Ms), m_readOne_L28 p1 p2 v7 e0 n v8 s9 = some (r, fin) → hk_V Gd (N_m_readOne l) (hk_end Gd (hk_mU m0 st s0) (some (.int r)) (hk_mU m0 st fin)) 28 [(0, .ref m0), (2, .int p2), (3, .int v7), (4, .int v8)] [] (hk_mU m0 st s9) := by
  intro n
  induction n with
  | zero => intro v8 s9 h; cases h
  | succ n ih => intro v8 s9 h; exact wk_m_readOne_L28b KM ih he0 h
set_option maxHeartbeats 4000000 in
theorem wk_m_readOne {l : Launch} {Gd : hk_G} {m0 : Nat} {st : hk_St} (KM : hk_KM m0 st) {p1 : Int32} {p2 : Int32} {s0 : hk_Ms} {r : Int32} {fin : hk_Ms} (h : m_readOne p1 p2 s0 = some (r, fin)) : hk_Met Gd l yX4_readOne cX4_readOne 5 (some .int) 2 46 [.ref m0, .int p1, .int p2] (hk_mU m0 st s0) (some (.int r)) (hk_mU m0 st fin) := by
  refine hk_start "HeadReckonsModel" false (by decide +kernel) rfl (by decide) (Nat.le_of_ble_eq_true rfl) ?_
  show hk_V Gd (N_m_readOne l) (hk_end Gd (hk_mU m0 st s0) (some (.int r)) (hk_mU m0 st fin)) 0 [(0, .ref m0), (1, .int p1), (2, .int p2)] [] (hk_mU m0 st s0)
  unfold m_readOne at h
  obtain ⟨k15, e_k15, h⟩ := hq_nm h
  have wk15 : ∀ (s1 : hk_Ms), k15 s1 = some (r, fin) → hk_V Gd (N_m_readOne l) (hk_end Gd (hk_mU m0 st s0) (some (.int r)) (hk_mU m0 st fin)) 15 [(0, .ref m0)] [] (hk_mU m0 st s1) := by
    intro s1 h
    rw [e_k15] at h
    refine hv_aload_n 0 dX4_readOne_15 rfl rfl ?_
    obtain ⟨q2, e_q2, h⟩ := hq_ob h
    refine hv_callV [] [] [.int q2.1] (wk_m_wrong KM e_q2) cs_X4_158 KM.recv rfl ⟨Nat.le_of_ble_eq_true rfl, Nat.le_of_ble_eq_true rfl⟩ rfl (Nat.le_of_ble_eq_true rfl) rfl dX4_readOne_16 ?_
    obtain ⟨h1, h2⟩ := hq_ret h
    subst h1
    subst h2
    exact hv_iret rfl dX4_readOne_19
  clear e_k15
  refine hv_aload_n 0 dX4_readOne_0 rfl rfl ?_
  refine hm_getI (f := 13) KM (fl_X4_129) dX4_readOne_1 ?_
  refine hv_if_ge (tgt := 15) dX4_readOne_4 (by decide) (fun c3 => ?_) (fun c3 => ?_)
  · replace h := hq_ip c3 h
    refine hv_sub [0] rfl ?_
    exact wk15 _ h
  · replace h := hq_in c3 h
    refine hv_aload_n 0 dX4_readOne_7 rfl rfl ?_
    refine hv_iload_n 1 dX4_readOne_8 rfl rfl ?_
    obtain ⟨q4, e_q4, h⟩ := hq_ob h
    refine hv_callV [.int p1] [] [.int q4.1] (wk_m_takes KM e_q4) cs_X4_139 KM.recv rfl ⟨Nat.le_of_ble_eq_true rfl, Nat.le_of_ble_eq_true rfl⟩ rfl (Nat.le_of_ble_eq_true rfl) rfl dX4_readOne_9 ?_
    refine hv_if_ne (tgt := 20) dX4_readOne_12 (by decide) (fun c5 => ?_) (fun c5 => ?_)
    · replace h := hq_in c5 h
      refine hv_aload_n 0 dX4_readOne_20 rfl rfl ?_
      refine hm_getI (f := 11) KM (fl_X4_120) dX4_readOne_21 ?_
      obtain ⟨x6, e_x6, h⟩ := hq_nm h
      rw [← e_x6]
      refine hv_istore_n (L' := [(3, .int x6), (0, .ref m0), (1, .int p1), (2, .int p2)]) dX4_readOne_24 rfl (Nat.le_of_ble_eq_true rfl) rfl ?_
      refine hv_iconst (v := 0) dX4_readOne_25 (by decide) ?_
      refine hv_istore (L' := [(4, .int (0 : Int32)), (3, .int x6), (0, .ref m0), (1, .int p1), (2, .int p2)]) dX4_readOne_26 (Nat.le_of_ble_eq_true rfl) rfl ?_
      refine hv_sub [2, 4, 1, 0] rfl ?_
      refine wk_m_readOne_L28 KM ?_ hk_F _ _ h
      · intro v10 s11 h
        refine hv_aload_n 0 dX4_readOne_84 rfl rfl ?_
        refine hm_getI (f := 11) KM (fl_X4_120) dX4_readOne_85 ?_
        refine hv_iload_n 2 dX4_readOne_88 rfl rfl ?_
        refine hv_icmp_ne (tgt := 97) dX4_readOne_89 (by decide) (fun c20 => ?_) (fun c20 => ?_)
        · replace h := hq_in c20 h
          refine hv_iload_n 1 dX4_readOne_97 rfl rfl ?_
          refine hv_iload 3 dX4_readOne_98 rfl ?_
          refine hv_callS [.int p2, .int v10] [] [.int (m_isOf p2 v10)] (wk_m_isOf rfl) cs_X4_181 rfl ⟨Nat.le_of_ble_eq_true rfl, Nat.le_of_ble_eq_true rfl⟩ rfl (Nat.le_of_ble_eq_true rfl) rfl dX4_readOne_100 ?_
          refine hv_if_ne (tgt := 116) dX4_readOne_103 (by decide) (fun c21 => ?_) (fun c21 => ?_)
          · replace h := hq_in c21 h
            refine hv_iload 3 dX4_readOne_116 rfl ?_
            obtain ⟨h1, h2⟩ := hq_ret h
            subst h1
            subst h2
            exact hv_iret rfl dX4_readOne_118
          · replace h := hq_ip c21 h
            refine hv_aload_n 0 dX4_readOne_106 rfl rfl ?_
            refine hv_iload_n 2 dX4_readOne_107 rfl rfl ?_
            obtain ⟨s22, e_s22, h⟩ := hq_nm h
            refine hm_putI (f := 11) KM (fp_X4_120) e_s22 dX4_readOne_108 ?_
            refine hv_aload_n 0 dX4_readOne_111 rfl rfl ?_
            obtain ⟨q23, e_q23, h⟩ := hq_ob h
            refine hv_callV [] [] [.int q23.1] (wk_m_wrong KM e_q23) cs_X4_158 KM.recv rfl ⟨Nat.le_of_ble_eq_true rfl, Nat.le_of_ble_eq_true rfl⟩ rfl (Nat.le_of_ble_eq_true rfl) rfl dX4_readOne_112 ?_
            obtain ⟨h1, h2⟩ := hq_ret h
            subst h1
            subst h2
            exact hv_iret rfl dX4_readOne_115
        · replace h := hq_ip c20 h
          refine hv_aload_n 0 dX4_readOne_92 rfl rfl ?_
          obtain ⟨q24, e_q24, h⟩ := hq_ob h
          refine hv_callV [] [] [.int q24.1] (wk_m_wrong KM e_q24) cs_X4_158 KM.recv rfl ⟨Nat.le_of_ble_eq_true rfl, Nat.le_of_ble_eq_true rfl⟩ rfl (Nat.le_of_ble_eq_true rfl) rfl dX4_readOne_93 ?_
          obtain ⟨h1, h2⟩ := hq_ret h
          subst h1
          subst h2
          exact hv_iret rfl dX4_readOne_96
    · replace h := hq_ip c5 h
      refine hv_sub [0] rfl ?_
      exact wk15 _ h
def m_head_L145b (e0 : hk_Ms → Option (Int32 × hk_Ms)) (rc : Int32 → hk_Ms → Option (Int32 × hk_Ms)) (v4 : Int32) (s5 : hk_Ms) : Option (Int32 × hk_Ms) :=
  if (5 : Int32) ≤ v4 then
    e0 s5
  else
  (hm_lI s5 7 5 v4).bind fun x8 =>
  (hm_tI s5 0 30 (((5 : Int32) * (hm_I s5 16)) + v4) x8).bind fun s9 =>
  hk_nm (v4 + (1 : Int32)) fun x10 =>
  rc x10 s9
def m_head_L145 (e0 : hk_Ms → Option (Int32 × hk_Ms)) : Nat → Int32 → hk_Ms → Option (Int32 × hk_Ms)
  | 0 => fun _ _ => none
  | n + 1 => m_head_L145b e0 (m_head_L145 e0 n)
def m_head (s0 : hk_Ms) : Option (Int32 × hk_Ms) :=
  hk_nm (fun (s1 : hk_Ms) =>
    hk_nm (hm_sI s1 7 (0 : Int32)) fun s2 =>
    if (hm_I s2 13) < 0 then
      m_head_L145  (fun (s6 : hk_Ms) =>
        hk_nm (hm_sI s6 16 ((hm_I s6 16) + (1 : Int32))) fun s11 =>
        some ((hm_I s11 16) - (1 : Int32), s11)) hk_F (0 : Int32) s2
    else
    some ((-100 : Int32) - (hm_I s2 13), s2)) fun k123 =>
  if (hm_I s0 16) = (6 : Int32) then
    some ((-3 : Int32), s0)
  else
  hk_nm (hm_sI s0 10 (-1 : Int32)) fun s13 =>
    hk_nm (hm_sI s13 11 (0 : Int32)) fun s14 =>
    hk_nm (hm_sI s14 12 (hm_I s14 7)) fun s15 =>
    hk_nm (hm_sI s15 13 (-1 : Int32)) fun s16 =>
    (m_readOne (108 : Int32) (0 : Int32) s16).bind fun q17 =>
    (hm_tI q17.2 7 5 (0 : Int32) q17.1).bind fun s18 =>
    (m_readOne (97 : Int32) (1 : Int32) s18).bind fun q19 =>
    (hm_tI q19.2 7 5 (1 : Int32) q19.1).bind fun s20 =>
    (m_readOne (104 : Int32) (2 : Int32) s20).bind fun q21 =>
    (hm_tI q21.2 7 5 (2 : Int32) q21.1).bind fun s22 =>
    (m_readOne (116 : Int32) (3 : Int32) s22).bind fun q23 =>
    (hm_tI q23.2 7 5 (3 : Int32) q23.1).bind fun s24 =>
    (m_readOne (99 : Int32) (4 : Int32) s24).bind fun q25 =>
    (hm_tI q25.2 7 5 (4 : Int32) q25.1).bind fun s26 =>
    if 0 ≤ (hm_I s26 13) then
      k123 s26
    else
    if (hm_I s26 12) ≤ (hm_I s26 11) then
      k123 s26
    else
    (m_wrong  s26).bind fun q29 =>
    k123 q29.2
abbrev N_m_head (l : Launch) : hk_N := (l, cX4_head, "HeadReckonsModel", 2, (some .int), 3, 70, false)
set_option maxHeartbeats 4000000 in
theorem wk_m_head_L145b {l : Launch} {Gd : hk_G} {m0 : Nat} {st : hk_St} (KM : hk_KM m0 st) {s0 : hk_Ms} {r : Int32} {fin : hk_Ms} {e0 : hk_Ms → Option (Int32 × hk_Ms)} {rc : Int32 → hk_Ms → Option (Int32 × hk_Ms)} (hrc : ∀ (v4 : Int32) (s5 : hk_Ms), rc v4 s5 = some (r, fin) → hk_V Gd (N_m_head l) (hk_end Gd (hk_mU m0 st s0) (some (.int r)) (hk_mU m0 st fin)) 145 [(0, .ref m0), (1, .int v4)] [] (hk_mU m0 st s5)) (he0 : ∀ (s6 : hk_Ms), e0 s6 = some (r, fin) → hk_V Gd (N_m_head l) (hk_end Gd (hk_mU m0 st s0) (some (.int r)) (hk_mU m0 st fin)) 175 [(0, .ref m0)] [] (hk_mU m0 st s6)) {v4 : Int32} {s5 : hk_Ms} (h : m_head_L145b e0 rc v4 s5 = some (r, fin)) : hk_V Gd (N_m_head l) (hk_end Gd (hk_mU m0 st s0) (some (.int r)) (hk_mU m0 st fin)) 145 [(0, .ref m0), (1, .int v4)] [] (hk_mU m0 st s5) := by
  unfold m_head_L145b at h
  refine hv_iload_n 1 dX4_head_145 rfl rfl ?_
  refine hv_iconst (v := 5) dX4_head_146 (by decide) ?_
  refine hv_icmp_ge (tgt := 175) dX4_head_147 (by decide) (fun c7 => ?_) (fun c7 => ?_)
  · replace h := hq_ip c7 h
    refine hv_sub [0] rfl ?_
    exact he0 _ h
  · replace h := hq_in c7 h
    refine hv_aload_n 0 dX4_head_150 rfl rfl ?_
    refine hm_getA (j := 0) KM (fl_X4_9) rfl (Nat.le_of_ble_eq_true rfl) dX4_head_151 ?_
    refine hv_iconst (v := 5) dX4_head_154 (by decide) ?_
    refine hv_aload_n 0 dX4_head_155 rfl rfl ?_
    refine hm_getI (f := 16) KM (fl_X4_172) dX4_head_156 ?_
    refine hv_imul dX4_head_159 ?_
    refine hv_iload_n 1 dX4_head_160 rfl rfl ?_
    refine hv_iadd dX4_head_161 ?_
    refine hv_aload_n 0 dX4_head_162 rfl rfl ?_
    refine hm_getA (j := 7) KM (fl_X4_31) rfl (Nat.le_of_ble_eq_true rfl) dX4_head_163 ?_
    refine hv_iload_n 1 dX4_head_166 rfl rfl ?_
    obtain ⟨x8, e_x8, h⟩ := hq_ob h
    refine hm_iaload KM e_x8 (Nat.le_of_ble_eq_true rfl) rfl dX4_head_167 ?_
    obtain ⟨s9, e_s9, h⟩ := hq_ob h
    refine hm_iastore KM e_s9 (Nat.le_of_ble_eq_true rfl) rfl dX4_head_168 ?_
    obtain ⟨x10, e_x10, h⟩ := hq_nm h
    refine hv_iinc (v := x10) (L' := [(1, .int x10), (0, .ref m0)]) 1 dX4_head_169 rfl (by rw [e_x10]; rfl) (Nat.le_of_ble_eq_true rfl) rfl ?_
    refine hv_goto (tgt := 145) dX4_head_172 (by decide) ?_
    refine hv_sub [1, 0] rfl ?_
    exact hrc _ _ h
theorem wk_m_head_L145 {l : Launch} {Gd : hk_G} {m0 : Nat} {st : hk_St} (KM : hk_KM m0 st) {s0 : hk_Ms} {r : Int32} {fin : hk_Ms} {e0 : hk_Ms → Option (Int32 × hk_Ms)} (he0 : ∀ (s6 : hk_Ms), e0 s6 = some (r, fin) → hk_V Gd (N_m_head l) (hk_end Gd (hk_mU m0 st s0) (some (.int r)) (hk_mU m0 st fin)) 175 [(0, .ref m0)] [] (hk_mU m0 st s6)) : ∀ (n : Nat) (v4 : Int32) (s5 : hk_Ms), m_head_L145 e0 n v4 s5 = some (r, fin) → hk_V Gd (N_m_head l) (hk_end Gd (hk_mU m0 st s0) (some (.int r)) (hk_mU m0 st fin)) 145 [(0, .ref m0), (1, .int v4)] [] (hk_mU m0 st s5) := by
  intro n
  induction n with
  | zero => intro v4 s5 h; cases h
  | succ n ih => intro v4 s5 h; exact wk_m_head_L145b KM ih he0 h
set_option maxHeartbeats 4000000 in
theorem wk_m_head {l : Launch} {Gd : hk_G} {m0 : Nat} {st : hk_St} (KM : hk_KM m0 st) {s0 : hk_Ms} {r : Int32} {fin : hk_Ms} (h : m_head s0 = some (r, fin)) : hk_Met Gd l yX4_head cX4_head 2 (some .int) 3 70 [.ref m0] (hk_mU m0 st s0) (some (.int r)) (hk_mU m0 st fin) := by
  refine hk_start "HeadReckonsModel" false (by decide +kernel) rfl (by decide) (Nat.le_of_ble_eq_true rfl) ?_
  show hk_V Gd (N_m_head l) (hk_end Gd (hk_mU m0 st s0) (some (.int r)) (hk_mU m0 st fin)) 0 [(0, .ref m0)] [] (hk_mU m0 st s0)
  unfold m_head at h
  obtain ⟨k123, e_k123, h⟩ := hq_nm h
  have wk123 : ∀ (s1 : hk_Ms), k123 s1 = some (r, fin) → hk_V Gd (N_m_head l) (hk_end Gd (hk_mU m0 st s0) (some (.int r)) (hk_mU m0 st fin)) 123 [(0, .ref m0)] [] (hk_mU m0 st s1) := by
    intro s1 h
    rw [e_k123] at h
    refine hv_aload_n 0 dX4_head_123 rfl rfl ?_
    refine hv_iconst (v := 0) dX4_head_124 (by decide) ?_
    obtain ⟨s2, e_s2, h⟩ := hq_nm h
    refine hm_putI (f := 7) KM (fp_X4_117) e_s2 dX4_head_125 ?_
    refine hv_aload_n 0 dX4_head_128 rfl rfl ?_
    refine hm_getI (f := 13) KM (fl_X4_129) dX4_head_129 ?_
    refine hv_if_lt (tgt := 143) dX4_head_132 (by decide) (fun c3 => ?_) (fun c3 => ?_)
    · replace h := hq_ip c3 h
      refine hv_iconst (v := 0) dX4_head_143 (by decide) ?_
      refine hv_istore_n (L' := [(1, .int (0 : Int32)), (0, .ref m0)]) dX4_head_144 rfl (Nat.le_of_ble_eq_true rfl) rfl ?_
      refine hv_sub [1, 0] rfl ?_
      refine wk_m_head_L145 KM ?_ hk_F _ _ h
      · intro s6 h
        refine hv_aload_n 0 dX4_head_175 rfl rfl ?_
        refine hv_dup dX4_head_176 rfl ?_
        refine hm_getI (f := 16) KM (fl_X4_172) dX4_head_177 ?_
        refine hv_iconst (v := 1) dX4_head_180 (by decide) ?_
        refine hv_iadd dX4_head_181 ?_
        obtain ⟨s11, e_s11, h⟩ := hq_nm h
        refine hm_putI (f := 16) KM (fp_X4_172) e_s11 dX4_head_182 ?_
        refine hv_aload_n 0 dX4_head_185 rfl rfl ?_
        refine hm_getI (f := 16) KM (fl_X4_172) dX4_head_186 ?_
        refine hv_iconst (v := 1) dX4_head_189 (by decide) ?_
        refine hv_isub dX4_head_190 ?_
        obtain ⟨h1, h2⟩ := hq_ret h
        subst h1
        subst h2
        exact hv_iret rfl dX4_head_191
    · replace h := hq_in c3 h
      refine hv_bipush (v := -100) dX4_head_135 (by decide) ?_
      refine hv_aload_n 0 dX4_head_137 rfl rfl ?_
      refine hm_getI (f := 13) KM (fl_X4_129) dX4_head_138 ?_
      refine hv_isub dX4_head_141 ?_
      obtain ⟨h1, h2⟩ := hq_ret h
      subst h1
      subst h2
      exact hv_iret rfl dX4_head_142
  clear e_k123
  refine hv_aload_n 0 dX4_head_0 rfl rfl ?_
  refine hm_getI (f := 16) KM (fl_X4_172) dX4_head_1 ?_
  refine hv_bipush (v := 6) dX4_head_4 (by decide) ?_
  refine hv_icmp_ne (tgt := 12) dX4_head_6 (by decide) (fun c12 => ?_) (fun c12 => ?_)
  · replace h := hq_in c12 h
    refine hv_aload_n 0 dX4_head_12 rfl rfl ?_
    refine hv_iconst (v := -1) dX4_head_13 (by decide) ?_
    obtain ⟨s13, e_s13, h⟩ := hq_nm h
    refine hm_putI (f := 10) KM (fp_X4_126) e_s13 dX4_head_14 ?_
    refine hv_aload_n 0 dX4_head_17 rfl rfl ?_
    refine hv_iconst (v := 0) dX4_head_18 (by decide) ?_
    obtain ⟨s14, e_s14, h⟩ := hq_nm h
    refine hm_putI (f := 11) KM (fp_X4_120) e_s14 dX4_head_19 ?_
    refine hv_aload_n 0 dX4_head_22 rfl rfl ?_
    refine hv_aload_n 0 dX4_head_23 rfl rfl ?_
    refine hm_getI (f := 7) KM (fl_X4_117) dX4_head_24 ?_
    obtain ⟨s15, e_s15, h⟩ := hq_nm h
    refine hm_putI (f := 12) KM (fp_X4_123) e_s15 dX4_head_27 ?_
    refine hv_aload_n 0 dX4_head_30 rfl rfl ?_
    refine hv_iconst (v := -1) dX4_head_31 (by decide) ?_
    obtain ⟨s16, e_s16, h⟩ := hq_nm h
    refine hm_putI (f := 13) KM (fp_X4_129) e_s16 dX4_head_32 ?_
    refine hv_aload_n 0 dX4_head_35 rfl rfl ?_
    refine hm_getA (j := 7) KM (fl_X4_31) rfl (Nat.le_of_ble_eq_true rfl) dX4_head_36 ?_
    refine hv_iconst (v := 0) dX4_head_39 (by decide) ?_
    refine hv_aload_n 0 dX4_head_40 rfl rfl ?_
    refine hv_bipush (v := 108) dX4_head_41 (by decide) ?_
    refine hv_iconst (v := 0) dX4_head_43 (by decide) ?_
    obtain ⟨q17, e_q17, h⟩ := hq_ob h
    refine hv_callV [.int (108 : Int32), .int (0 : Int32)] [.int (0 : Int32), .ref (m0 + 8)] [.int q17.1, .int (0 : Int32), .ref (m0 + 8)] (wk_m_readOne KM e_q17) cs_X4_185 KM.recv rfl ⟨Nat.le_of_ble_eq_true rfl, Nat.le_of_ble_eq_true rfl⟩ rfl (Nat.le_of_ble_eq_true rfl) rfl dX4_head_44 ?_
    obtain ⟨s18, e_s18, h⟩ := hq_ob h
    refine hm_iastore KM e_s18 (Nat.le_of_ble_eq_true rfl) rfl dX4_head_47 ?_
    refine hv_aload_n 0 dX4_head_48 rfl rfl ?_
    refine hm_getA (j := 7) KM (fl_X4_31) rfl (Nat.le_of_ble_eq_true rfl) dX4_head_49 ?_
    refine hv_iconst (v := 1) dX4_head_52 (by decide) ?_
    refine hv_aload_n 0 dX4_head_53 rfl rfl ?_
    refine hv_bipush (v := 97) dX4_head_54 (by decide) ?_
    refine hv_iconst (v := 1) dX4_head_56 (by decide) ?_
    obtain ⟨q19, e_q19, h⟩ := hq_ob h
    refine hv_callV [.int (97 : Int32), .int (1 : Int32)] [.int (1 : Int32), .ref (m0 + 8)] [.int q19.1, .int (1 : Int32), .ref (m0 + 8)] (wk_m_readOne KM e_q19) cs_X4_185 KM.recv rfl ⟨Nat.le_of_ble_eq_true rfl, Nat.le_of_ble_eq_true rfl⟩ rfl (Nat.le_of_ble_eq_true rfl) rfl dX4_head_57 ?_
    obtain ⟨s20, e_s20, h⟩ := hq_ob h
    refine hm_iastore KM e_s20 (Nat.le_of_ble_eq_true rfl) rfl dX4_head_60 ?_
    refine hv_aload_n 0 dX4_head_61 rfl rfl ?_
    refine hm_getA (j := 7) KM (fl_X4_31) rfl (Nat.le_of_ble_eq_true rfl) dX4_head_62 ?_
    refine hv_iconst (v := 2) dX4_head_65 (by decide) ?_
    refine hv_aload_n 0 dX4_head_66 rfl rfl ?_
    refine hv_bipush (v := 104) dX4_head_67 (by decide) ?_
    refine hv_iconst (v := 2) dX4_head_69 (by decide) ?_
    obtain ⟨q21, e_q21, h⟩ := hq_ob h
    refine hv_callV [.int (104 : Int32), .int (2 : Int32)] [.int (2 : Int32), .ref (m0 + 8)] [.int q21.1, .int (2 : Int32), .ref (m0 + 8)] (wk_m_readOne KM e_q21) cs_X4_185 KM.recv rfl ⟨Nat.le_of_ble_eq_true rfl, Nat.le_of_ble_eq_true rfl⟩ rfl (Nat.le_of_ble_eq_true rfl) rfl dX4_head_70 ?_
    obtain ⟨s22, e_s22, h⟩ := hq_ob h
    refine hm_iastore KM e_s22 (Nat.le_of_ble_eq_true rfl) rfl dX4_head_73 ?_
    refine hv_aload_n 0 dX4_head_74 rfl rfl ?_
    refine hm_getA (j := 7) KM (fl_X4_31) rfl (Nat.le_of_ble_eq_true rfl) dX4_head_75 ?_
    refine hv_iconst (v := 3) dX4_head_78 (by decide) ?_
    refine hv_aload_n 0 dX4_head_79 rfl rfl ?_
    refine hv_bipush (v := 116) dX4_head_80 (by decide) ?_
    refine hv_iconst (v := 3) dX4_head_82 (by decide) ?_
    obtain ⟨q23, e_q23, h⟩ := hq_ob h
    refine hv_callV [.int (116 : Int32), .int (3 : Int32)] [.int (3 : Int32), .ref (m0 + 8)] [.int q23.1, .int (3 : Int32), .ref (m0 + 8)] (wk_m_readOne KM e_q23) cs_X4_185 KM.recv rfl ⟨Nat.le_of_ble_eq_true rfl, Nat.le_of_ble_eq_true rfl⟩ rfl (Nat.le_of_ble_eq_true rfl) rfl dX4_head_83 ?_
    obtain ⟨s24, e_s24, h⟩ := hq_ob h
    refine hm_iastore KM e_s24 (Nat.le_of_ble_eq_true rfl) rfl dX4_head_86 ?_
    refine hv_aload_n 0 dX4_head_87 rfl rfl ?_
    refine hm_getA (j := 7) KM (fl_X4_31) rfl (Nat.le_of_ble_eq_true rfl) dX4_head_88 ?_
    refine hv_iconst (v := 4) dX4_head_91 (by decide) ?_
    refine hv_aload_n 0 dX4_head_92 rfl rfl ?_
    refine hv_bipush (v := 99) dX4_head_93 (by decide) ?_
    refine hv_iconst (v := 4) dX4_head_95 (by decide) ?_
    obtain ⟨q25, e_q25, h⟩ := hq_ob h
    refine hv_callV [.int (99 : Int32), .int (4 : Int32)] [.int (4 : Int32), .ref (m0 + 8)] [.int q25.1, .int (4 : Int32), .ref (m0 + 8)] (wk_m_readOne KM e_q25) cs_X4_185 KM.recv rfl ⟨Nat.le_of_ble_eq_true rfl, Nat.le_of_ble_eq_true rfl⟩ rfl (Nat.le_of_ble_eq_true rfl) rfl dX4_head_96 ?_
    obtain ⟨s26, e_s26, h⟩ := hq_ob h
    refine hm_iastore KM e_s26 (Nat.le_of_ble_eq_true rfl) rfl dX4_head_99 ?_
    refine hv_aload_n 0 dX4_head_100 rfl rfl ?_
    refine hm_getI (f := 13) KM (fl_X4_129) dX4_head_101 ?_
    refine hv_if_ge (tgt := 123) dX4_head_104 (by decide) (fun c27 => ?_) (fun c27 => ?_)
    · replace h := hq_ip c27 h
      exact wk123 _ h
    · replace h := hq_in c27 h
      refine hv_aload_n 0 dX4_head_107 rfl rfl ?_
      refine hm_getI (f := 11) KM (fl_X4_120) dX4_head_108 ?_
      refine hv_aload_n 0 dX4_head_111 rfl rfl ?_
      refine hm_getI (f := 12) KM (fl_X4_123) dX4_head_112 ?_
      refine hv_icmp_ge (tgt := 123) dX4_head_115 (by decide) (fun c28 => ?_) (fun c28 => ?_)
      · replace h := hq_ip c28 h
        exact wk123 _ h
      · replace h := hq_in c28 h
        refine hv_aload_n 0 dX4_head_118 rfl rfl ?_
        obtain ⟨q29, e_q29, h⟩ := hq_ob h
        refine hv_callV [] [] [.int q29.1] (wk_m_wrong KM e_q29) cs_X4_158 KM.recv rfl ⟨Nat.le_of_ble_eq_true rfl, Nat.le_of_ble_eq_true rfl⟩ rfl (Nat.le_of_ble_eq_true rfl) rfl dX4_head_119 ?_
        refine hv_istore_n (L' := [(1, .int q29.1), (0, .ref m0)]) dX4_head_122 rfl (Nat.le_of_ble_eq_true rfl) rfl ?_
        refine hv_sub [1] rfl ?_
        exact wk123 _ h
  · replace h := hq_ip c12 h
    refine hv_bipush (v := -3) dX4_head_9 (by decide) ?_
    obtain ⟨h1, h2⟩ := hq_ret h
    subst h1
    subst h2
    exact hv_iret rfl dX4_head_11
def m_isHead (p1 : Int32) (s0 : hk_Ms) : Option (Int32) :=
  some (m_within p1.toInt64 (0 : Int64) (((hm_I s0 16) - (1 : Int32)).toInt64))
abbrev N_m_isHead (l : Launch) : hk_N := (l, cX4_isHead, "HeadReckonsModel", 2, (some .boolean), 1, 25, false)
set_option maxHeartbeats 4000000 in
theorem wk_m_isHead {l : Launch} {Gd : hk_G} {m0 : Nat} {st : hk_St} (KM : hk_KM m0 st) {p1 : Int32} {s0 : hk_Ms} {r : Int32} (h : m_isHead p1 s0 = some r) : hk_Met Gd l yX4_isHead cX4_isHead 2 (some .boolean) 1 25 [.ref m0, .int p1] (hk_mU m0 st s0) (some (.int r)) (hk_mU m0 st s0) := by
  refine hk_start "HeadReckonsModel" false (by decide +kernel) rfl (by decide) (Nat.le_of_ble_eq_true rfl) ?_
  show hk_V Gd (N_m_isHead l) (hk_end Gd (hk_mU m0 st s0) (some (.int r)) (hk_mU m0 st s0)) 0 [(0, .ref m0), (1, .int p1)] [] (hk_mU m0 st s0)
  unfold m_isHead at h
  refine hv_iload_n 1 dX4_isHead_0 rfl rfl ?_
  refine hv_i2l dX4_isHead_1 ?_
  refine hv_lconst (v := 0) dX4_isHead_2 (by decide) ?_
  refine hv_aload_n 0 dX4_isHead_3 rfl rfl ?_
  refine hm_getI (f := 16) KM (fl_X4_172) dX4_isHead_4 ?_
  refine hv_iconst (v := 1) dX4_isHead_7 (by decide) ?_
  refine hv_isub dX4_isHead_8 ?_
  refine hv_i2l dX4_isHead_9 ?_
  refine hv_callS [.long p1.toInt64, .long (0 : Int64), .long (((hm_I s0 16) - (1 : Int32)).toInt64)] [] [.int (m_within p1.toInt64 (0 : Int64) (((hm_I s0 16) - (1 : Int32)).toInt64))] (wk_m_within rfl) cs_X4_113 rfl ⟨Nat.le_of_ble_eq_true rfl, Nat.le_of_ble_eq_true rfl⟩ rfl (Nat.le_of_ble_eq_true rfl) rfl dX4_isHead_10 ?_
  have h := Option.some.inj h
  subst h
  exact hv_zret (ty := .boolean) rfl (hk_nz bz_m_within) dX4_isHead_13
def m_learntOf_L4b (p1 : Int32) (s0 : hk_Ms) (e0 : Int32 → Option (Int32)) (rc : Int32 → Int32 → Option (Int32)) (v1 : Int32) (v2 : Int32) : Option (Int32) :=
  (hm_lI s0 8 6 p1).bind fun x4 =>
  if x4 ≤ v2 then
    e0 v1
  else
  (hm_lI s0 10 360 (((60 : Int32) * p1) + v2)).bind fun x6 =>
  if x6 < (3 : Int32) then
    hk_nm (v1 + (0 : Int32)) fun x8 =>
    hk_nm (v2 + (1 : Int32)) fun x9 =>
    rc x8 x9
  else
  hk_nm (v1 + (1 : Int32)) fun x10 =>
  hk_nm (v2 + (1 : Int32)) fun x11 =>
  rc x10 x11
def m_learntOf_L4 (p1 : Int32) (s0 : hk_Ms) (e0 : Int32 → Option (Int32)) : Nat → Int32 → Int32 → Option (Int32)
  | 0 => fun _ _ => none
  | n + 1 => m_learntOf_L4b p1 s0 e0 (m_learntOf_L4 p1 s0 e0 n)
def m_learntOf (p1 : Int32) (s0 : hk_Ms) : Option (Int32) :=
  m_learntOf_L4 p1 s0  (fun (v3 : Int32) =>
    some v3) hk_F (0 : Int32) (0 : Int32) 
abbrev N_m_learntOf (l : Launch) : hk_N := (l, cX4_learntOf, "HeadReckonsModel", 4, (some .int), 0, 0, false)
set_option maxHeartbeats 4000000 in
theorem wk_m_learntOf_L4b {l : Launch} {Gd : hk_G} {m0 : Nat} {st : hk_St} (KM : hk_KM m0 st) {p1 : Int32} {s0 : hk_Ms} {r : Int32} {e0 : Int32 → Option (Int32)} {rc : Int32 → Int32 → Option (Int32)} (hrc : ∀ (v1 : Int32) (v2 : Int32), rc v1 v2 = some r → hk_V Gd (N_m_learntOf l) (hk_end Gd (hk_mU m0 st s0) (some (.int r)) (hk_mU m0 st s0)) 4 [(0, .ref m0), (1, .int p1), (2, .int v1), (3, .int v2)] [] (hk_mU m0 st s0)) (he0 : ∀ (v3 : Int32), e0 v3 = some r → hk_V Gd (N_m_learntOf l) (hk_end Gd (hk_mU m0 st s0) (some (.int r)) (hk_mU m0 st s0)) 43 [(2, .int v3)] [] (hk_mU m0 st s0)) {v1 : Int32} {v2 : Int32} (h : m_learntOf_L4b p1 s0 e0 rc v1 v2 = some r) : hk_V Gd (N_m_learntOf l) (hk_end Gd (hk_mU m0 st s0) (some (.int r)) (hk_mU m0 st s0)) 4 [(0, .ref m0), (1, .int p1), (2, .int v1), (3, .int v2)] [] (hk_mU m0 st s0) := by
  unfold m_learntOf_L4b at h
  refine hv_iload_n 3 dX4_learntOf_4 rfl rfl ?_
  refine hv_aload_n 0 dX4_learntOf_5 rfl rfl ?_
  refine hm_getA (j := 8) KM (fl_X4_34) rfl (Nat.le_of_ble_eq_true rfl) dX4_learntOf_6 ?_
  refine hv_iload_n 1 dX4_learntOf_9 rfl rfl ?_
  obtain ⟨x4, e_x4, h⟩ := hq_ob h
  refine hm_iaload KM e_x4 (Nat.le_of_ble_eq_true rfl) rfl dX4_learntOf_10 ?_
  refine hv_icmp_ge (tgt := 43) dX4_learntOf_11 (by decide) (fun c5 => ?_) (fun c5 => ?_)
  · replace h := hq_ip c5 h
    refine hv_sub [2] rfl ?_
    exact he0 _ h
  · replace h := hq_in c5 h
    refine hv_iload_n 2 dX4_learntOf_14 rfl rfl ?_
    refine hv_aload_n 0 dX4_learntOf_15 rfl rfl ?_
    refine hm_getA (j := 10) KM (fl_X4_40) rfl (Nat.le_of_ble_eq_true rfl) dX4_learntOf_16 ?_
    refine hv_bipush (v := 60) dX4_learntOf_19 (by decide) ?_
    refine hv_iload_n 1 dX4_learntOf_21 rfl rfl ?_
    refine hv_imul dX4_learntOf_22 ?_
    refine hv_iload_n 3 dX4_learntOf_23 rfl rfl ?_
    refine hv_iadd dX4_learntOf_24 ?_
    obtain ⟨x6, e_x6, h⟩ := hq_ob h
    refine hm_iaload KM e_x6 (Nat.le_of_ble_eq_true rfl) rfl dX4_learntOf_25 ?_
    refine hv_iconst (v := 3) dX4_learntOf_26 (by decide) ?_
    refine hv_icmp_lt (tgt := 34) dX4_learntOf_27 (by decide) (fun c7 => ?_) (fun c7 => ?_)
    · replace h := hq_ip c7 h
      refine hv_iconst (v := 0) dX4_learntOf_34 (by decide) ?_
      refine hv_iadd dX4_learntOf_35 ?_
      obtain ⟨x8, e_x8, h⟩ := hq_nm h
      rw [← e_x8]
      refine hv_istore_n (L' := [(2, .int x8), (0, .ref m0), (1, .int p1), (3, .int v2)]) dX4_learntOf_36 rfl (Nat.le_of_ble_eq_true rfl) rfl ?_
      obtain ⟨x9, e_x9, h⟩ := hq_nm h
      refine hv_iinc (v := x9) (L' := [(3, .int x9), (2, .int x8), (0, .ref m0), (1, .int p1)]) 3 dX4_learntOf_37 rfl (by rw [e_x9]; rfl) (Nat.le_of_ble_eq_true rfl) rfl ?_
      refine hv_goto (tgt := 4) dX4_learntOf_40 (by decide) ?_
      refine hv_sub [2, 3, 1, 0] rfl ?_
      exact hrc _ _ h
    · replace h := hq_in c7 h
      refine hv_iconst (v := 1) dX4_learntOf_30 (by decide) ?_
      refine hv_goto (tgt := 35) dX4_learntOf_31 (by decide) ?_
      refine hv_iadd dX4_learntOf_35 ?_
      obtain ⟨x10, e_x10, h⟩ := hq_nm h
      rw [← e_x10]
      refine hv_istore_n (L' := [(2, .int x10), (0, .ref m0), (1, .int p1), (3, .int v2)]) dX4_learntOf_36 rfl (Nat.le_of_ble_eq_true rfl) rfl ?_
      obtain ⟨x11, e_x11, h⟩ := hq_nm h
      refine hv_iinc (v := x11) (L' := [(3, .int x11), (2, .int x10), (0, .ref m0), (1, .int p1)]) 3 dX4_learntOf_37 rfl (by rw [e_x11]; rfl) (Nat.le_of_ble_eq_true rfl) rfl ?_
      refine hv_goto (tgt := 4) dX4_learntOf_40 (by decide) ?_
      refine hv_sub [2, 3, 1, 0] rfl ?_
      exact hrc _ _ h
theorem wk_m_learntOf_L4 {l : Launch} {Gd : hk_G} {m0 : Nat} {st : hk_St} (KM : hk_KM m0 st) {p1 : Int32} {s0 : hk_Ms} {r : Int32} {e0 : Int32 → Option (Int32)} (he0 : ∀ (v3 : Int32), e0 v3 = some r → hk_V Gd (N_m_learntOf l) (hk_end Gd (hk_mU m0 st s0) (some (.int r)) (hk_mU m0 st s0)) 43 [(2, .int v3)] [] (hk_mU m0 st s0)) : ∀ (n : Nat) (v1 : Int32) (v2 : Int32), m_learntOf_L4 p1 s0 e0 n v1 v2 = some r → hk_V Gd (N_m_learntOf l) (hk_end Gd (hk_mU m0 st s0) (some (.int r)) (hk_mU m0 st s0)) 4 [(0, .ref m0), (1, .int p1), (2, .int v1), (3, .int v2)] [] (hk_mU m0 st s0) := by
  intro n
  induction n with
  | zero => intro v1 v2 h; cases h
  | succ n ih => intro v1 v2 h; exact wk_m_learntOf_L4b KM ih he0 h
set_option maxHeartbeats 4000000 in
theorem wk_m_learntOf {l : Launch} {Gd : hk_G} {m0 : Nat} {st : hk_St} (KM : hk_KM m0 st) {p1 : Int32} {s0 : hk_Ms} {r : Int32} (h : m_learntOf p1 s0 = some r) : hk_Met Gd l yX4_learntOf cX4_learntOf 4 (some .int) 0 0 [.ref m0, .int p1] (hk_mU m0 st s0) (some (.int r)) (hk_mU m0 st s0) := by
  refine hk_start "HeadReckonsModel" false (by decide +kernel) rfl (by decide) (Nat.le_of_ble_eq_true rfl) ?_
  show hk_V Gd (N_m_learntOf l) (hk_end Gd (hk_mU m0 st s0) (some (.int r)) (hk_mU m0 st s0)) 0 [(0, .ref m0), (1, .int p1)] [] (hk_mU m0 st s0)
  unfold m_learntOf at h
  refine hv_iconst (v := 0) dX4_learntOf_0 (by decide) ?_
  refine hv_istore_n (L' := [(2, .int (0 : Int32)), (0, .ref m0), (1, .int p1)]) dX4_learntOf_1 rfl (Nat.le_of_ble_eq_true rfl) rfl ?_
  refine hv_iconst (v := 0) dX4_learntOf_2 (by decide) ?_
  refine hv_istore_n (L' := [(3, .int (0 : Int32)), (2, .int (0 : Int32)), (0, .ref m0), (1, .int p1)]) dX4_learntOf_3 rfl (Nat.le_of_ble_eq_true rfl) rfl ?_
  refine hv_sub [2, 3, 1, 0] rfl ?_
  refine wk_m_learntOf_L4 KM ?_ hk_F _ _ h
  · intro v3 h
    refine hv_iload_n 0 dX4_learntOf_43 rfl rfl ?_
    have h := Option.some.inj h
    subst h
    exact hv_iret rfl dX4_learntOf_44
def m_of (p1 : Int32) (p2 : Int32) (s0 : hk_Ms) : Option (Int32) :=
  (m_isHead p1 s0).bind fun x1 =>
  if x1 = 0 then
    some (-1 : Int32)
  else
  if (m_within p2.toInt64 (0 : Int64) (4 : Int64)) = 0 then
      if p2 = (5 : Int32) then
        (m_learntOf p1 s0).bind fun x5 =>
      some x5
      else
      some (-1 : Int32)
    else
    (hm_lI s0 0 30 (((5 : Int32) * p1) + p2)).bind fun x6 =>
    some x6
abbrev N_m_of (l : Launch) : hk_N := (l, cX4_of, "HeadReckonsModel", 3, (some .int), 2, 46, false)
set_option maxHeartbeats 4000000 in
theorem wk_m_of {l : Launch} {Gd : hk_G} {m0 : Nat} {st : hk_St} (KM : hk_KM m0 st) {p1 : Int32} {p2 : Int32} {s0 : hk_Ms} {r : Int32} (h : m_of p1 p2 s0 = some r) : hk_Met Gd l yX4_of cX4_of 3 (some .int) 2 46 [.ref m0, .int p1, .int p2] (hk_mU m0 st s0) (some (.int r)) (hk_mU m0 st s0) := by
  refine hk_start "HeadReckonsModel" false (by decide +kernel) rfl (by decide) (Nat.le_of_ble_eq_true rfl) ?_
  show hk_V Gd (N_m_of l) (hk_end Gd (hk_mU m0 st s0) (some (.int r)) (hk_mU m0 st s0)) 0 [(0, .ref m0), (1, .int p1), (2, .int p2)] [] (hk_mU m0 st s0)
  unfold m_of at h
  refine hv_aload_n 0 dX4_of_0 rfl rfl ?_
  refine hv_iload_n 1 dX4_of_1 rfl rfl ?_
  obtain ⟨x1, e_x1, h⟩ := hq_ob h
  refine hv_callV [.int p1] [] [.int x1] (wk_m_isHead KM e_x1) cs_X4_188 KM.recv rfl ⟨Nat.le_of_ble_eq_true rfl, Nat.le_of_ble_eq_true rfl⟩ rfl (Nat.le_of_ble_eq_true rfl) rfl dX4_of_2 ?_
  refine hv_if_ne (tgt := 10) dX4_of_5 (by decide) (fun c2 => ?_) (fun c2 => ?_)
  · replace h := hq_in c2 h
    refine hv_iload_n 2 dX4_of_10 rfl rfl ?_
    refine hv_i2l dX4_of_11 ?_
    refine hv_lconst (v := 0) dX4_of_12 (by decide) ?_
    refine hv_ldc2 q1781 dX4_of_13 ?_
    refine hv_callS [.long p2.toInt64, .long (0 : Int64), .long (4 : Int64)] [] [.int (m_within p2.toInt64 (0 : Int64) (4 : Int64))] (wk_m_within rfl) cs_X4_113 rfl ⟨Nat.le_of_ble_eq_true rfl, Nat.le_of_ble_eq_true rfl⟩ rfl (Nat.le_of_ble_eq_true rfl) rfl dX4_of_16 ?_
    refine hv_if_eq (tgt := 35) dX4_of_19 (by decide) (fun c3 => ?_) (fun c3 => ?_)
    · replace h := hq_ip c3 h
      refine hv_iload_n 2 dX4_of_35 rfl rfl ?_
      refine hv_iconst (v := 5) dX4_of_36 (by decide) ?_
      refine hv_icmp_ne (tgt := 48) dX4_of_37 (by decide) (fun c4 => ?_) (fun c4 => ?_)
      · replace h := hq_in c4 h
        refine hv_iconst (v := -1) dX4_of_48 (by decide) ?_
        have h := Option.some.inj h
        subst h
        exact hv_iret rfl dX4_of_49
      · replace h := hq_ip c4 h
        refine hv_aload_n 0 dX4_of_40 rfl rfl ?_
        refine hv_iload_n 1 dX4_of_41 rfl rfl ?_
        obtain ⟨x5, e_x5, h⟩ := hq_ob h
        refine hv_callV [.int p1] [] [.int x5] (wk_m_learntOf KM e_x5) cs_X4_191 KM.recv rfl ⟨Nat.le_of_ble_eq_true rfl, Nat.le_of_ble_eq_true rfl⟩ rfl (Nat.le_of_ble_eq_true rfl) rfl dX4_of_42 ?_
        refine hv_goto (tgt := 49) dX4_of_45 (by decide) ?_
        have h := Option.some.inj h
        subst h
        exact hv_iret rfl dX4_of_49
    · replace h := hq_in c3 h
      refine hv_aload_n 0 dX4_of_22 rfl rfl ?_
      refine hm_getA (j := 0) KM (fl_X4_9) rfl (Nat.le_of_ble_eq_true rfl) dX4_of_23 ?_
      refine hv_iconst (v := 5) dX4_of_26 (by decide) ?_
      refine hv_iload_n 1 dX4_of_27 rfl rfl ?_
      refine hv_imul dX4_of_28 ?_
      refine hv_iload_n 2 dX4_of_29 rfl rfl ?_
      refine hv_iadd dX4_of_30 ?_
      obtain ⟨x6, e_x6, h⟩ := hq_ob h
      refine hm_iaload KM e_x6 (Nat.le_of_ble_eq_true rfl) rfl dX4_of_31 ?_
      refine hv_goto (tgt := 49) dX4_of_32 (by decide) ?_
      have h := Option.some.inj h
      subst h
      exact hv_iret rfl dX4_of_49
  · replace h := hq_ip c2 h
    refine hv_iconst (v := -1) dX4_of_8 (by decide) ?_
    have h := Option.some.inj h
    subst h
    exact hv_iret rfl dX4_of_9
def m_becomes_L26b (p1 : Int32) (p2 : Int32) (v12 : Int32) (e0 : hk_Ms → Option (Int32 × hk_Ms)) (rc : Int32 → hk_Ms → Option (Int32 × hk_Ms)) (v13 : Int32) (s14 : hk_Ms) : Option (Int32 × hk_Ms) :=
  if (40 : Int32) ≤ v13 then
    e0 s14
  else
  (hm_lI s14 1 40 v13).bind fun x17 =>
  (hm_tI s14 1 40 (v13 - (1 : Int32)) x17).bind fun s18 =>
  (hm_lI s18 2 40 v13).bind fun x19 =>
  (hm_tI s18 2 40 (v13 - (1 : Int32)) x19).bind fun s20 =>
  (hm_lI s20 3 40 v13).bind fun x21 =>
  (hm_tI s20 3 40 (v13 - (1 : Int32)) x21).bind fun s22 =>
  hk_nm (v13 + (1 : Int32)) fun x23 =>
  rc x23 s22
def m_becomes_L26 (p1 : Int32) (p2 : Int32) (v12 : Int32) (e0 : hk_Ms → Option (Int32 × hk_Ms)) : Nat → Int32 → hk_Ms → Option (Int32 × hk_Ms)
  | 0 => fun _ _ => none
  | n + 1 => m_becomes_L26b p1 p2 v12 e0 (m_becomes_L26 p1 p2 v12 e0 n)
def m_becomes (p1 : Int32) (p2 : Int32) (s0 : hk_Ms) : Option (Int32 × hk_Ms) :=
  hk_nm (fun (v1 : Int32) (s2 : hk_Ms) =>
    (hm_tI s2 1 40 (hm_I s2 5) p1).bind fun s3 =>
    (hm_tI s3 2 40 (hm_I s3 5) v1).bind fun s4 =>
    (hm_tI s4 3 40 (hm_I s4 5) p2).bind fun s5 =>
    hk_nm (hm_sI s5 5 ((hm_I s5 5) + (1 : Int32))) fun s6 =>
    hk_nm (hm_sI s6 4 (hm_I s6 5)) fun s7 =>
    (hm_tI s7 0 30 p1 p2).bind fun s8 =>
    some (v1, s8)) fun k97 =>
  (hm_lI s0 0 30 p1).bind fun x9 =>
  if x9 = p2 then
    some (x9, s0)
  else
  if (hm_I s0 5) = (40 : Int32) then
      m_becomes_L26 p1 p2 x9 (fun (s15 : hk_Ms) =>
      hk_nm (hm_sI s15 5 ((hm_I s15 5) - (1 : Int32))) fun s24 =>
      k97 x9 s24) hk_F (1 : Int32) s0
    else
    k97 x9 s0
abbrev N_m_becomes (l : Launch) : hk_N := (l, cX4_becomes, "HeadReckonsModel", 5, (some .int), 0, 0, false)
set_option maxHeartbeats 4000000 in
theorem wk_m_becomes_L26b {l : Launch} {Gd : hk_G} {m0 : Nat} {st : hk_St} (KM : hk_KM m0 st) {p1 : Int32} {p2 : Int32} {s0 : hk_Ms} {r : Int32} {fin : hk_Ms} {v12 : Int32} {e0 : hk_Ms → Option (Int32 × hk_Ms)} {rc : Int32 → hk_Ms → Option (Int32 × hk_Ms)} (hrc : ∀ (v13 : Int32) (s14 : hk_Ms), rc v13 s14 = some (r, fin) → hk_V Gd (N_m_becomes l) (hk_end Gd (hk_mU m0 st s0) (some (.int r)) (hk_mU m0 st fin)) 26 [(0, .ref m0), (1, .int p1), (2, .int p2), (3, .int v12), (4, .int v13)] [] (hk_mU m0 st s14)) (he0 : ∀ (s15 : hk_Ms), e0 s15 = some (r, fin) → hk_V Gd (N_m_becomes l) (hk_end Gd (hk_mU m0 st s0) (some (.int r)) (hk_mU m0 st fin)) 87 [(0, .ref m0), (1, .int p1), (2, .int p2), (3, .int v12)] [] (hk_mU m0 st s15)) {v13 : Int32} {s14 : hk_Ms} (h : m_becomes_L26b p1 p2 v12 e0 rc v13 s14 = some (r, fin)) : hk_V Gd (N_m_becomes l) (hk_end Gd (hk_mU m0 st s0) (some (.int r)) (hk_mU m0 st fin)) 26 [(0, .ref m0), (1, .int p1), (2, .int p2), (3, .int v12), (4, .int v13)] [] (hk_mU m0 st s14) := by
  unfold m_becomes_L26b at h
  refine hv_iload 4 dX4_becomes_26 rfl ?_
  refine hv_bipush (v := 40) dX4_becomes_28 (by decide) ?_
  refine hv_icmp_ge (tgt := 87) dX4_becomes_30 (by decide) (fun c16 => ?_) (fun c16 => ?_)
  · replace h := hq_ip c16 h
    refine hv_sub [0, 1, 2, 3] rfl ?_
    exact he0 _ h
  · replace h := hq_in c16 h
    refine hv_aload_n 0 dX4_becomes_33 rfl rfl ?_
    refine hm_getA (j := 1) KM (fl_X4_13) rfl (Nat.le_of_ble_eq_true rfl) dX4_becomes_34 ?_
    refine hv_iload 4 dX4_becomes_37 rfl ?_
    refine hv_iconst (v := 1) dX4_becomes_39 (by decide) ?_
    refine hv_isub dX4_becomes_40 ?_
    refine hv_aload_n 0 dX4_becomes_41 rfl rfl ?_
    refine hm_getA (j := 1) KM (fl_X4_13) rfl (Nat.le_of_ble_eq_true rfl) dX4_becomes_42 ?_
    refine hv_iload 4 dX4_becomes_45 rfl ?_
    obtain ⟨x17, e_x17, h⟩ := hq_ob h
    refine hm_iaload KM e_x17 (Nat.le_of_ble_eq_true rfl) rfl dX4_becomes_47 ?_
    obtain ⟨s18, e_s18, h⟩ := hq_ob h
    refine hm_iastore KM e_s18 (Nat.le_of_ble_eq_true rfl) rfl dX4_becomes_48 ?_
    refine hv_aload_n 0 dX4_becomes_49 rfl rfl ?_
    refine hm_getA (j := 2) KM (fl_X4_16) rfl (Nat.le_of_ble_eq_true rfl) dX4_becomes_50 ?_
    refine hv_iload 4 dX4_becomes_53 rfl ?_
    refine hv_iconst (v := 1) dX4_becomes_55 (by decide) ?_
    refine hv_isub dX4_becomes_56 ?_
    refine hv_aload_n 0 dX4_becomes_57 rfl rfl ?_
    refine hm_getA (j := 2) KM (fl_X4_16) rfl (Nat.le_of_ble_eq_true rfl) dX4_becomes_58 ?_
    refine hv_iload 4 dX4_becomes_61 rfl ?_
    obtain ⟨x19, e_x19, h⟩ := hq_ob h
    refine hm_iaload KM e_x19 (Nat.le_of_ble_eq_true rfl) rfl dX4_becomes_63 ?_
    obtain ⟨s20, e_s20, h⟩ := hq_ob h
    refine hm_iastore KM e_s20 (Nat.le_of_ble_eq_true rfl) rfl dX4_becomes_64 ?_
    refine hv_aload_n 0 dX4_becomes_65 rfl rfl ?_
    refine hm_getA (j := 3) KM (fl_X4_19) rfl (Nat.le_of_ble_eq_true rfl) dX4_becomes_66 ?_
    refine hv_iload 4 dX4_becomes_69 rfl ?_
    refine hv_iconst (v := 1) dX4_becomes_71 (by decide) ?_
    refine hv_isub dX4_becomes_72 ?_
    refine hv_aload_n 0 dX4_becomes_73 rfl rfl ?_
    refine hm_getA (j := 3) KM (fl_X4_19) rfl (Nat.le_of_ble_eq_true rfl) dX4_becomes_74 ?_
    refine hv_iload 4 dX4_becomes_77 rfl ?_
    obtain ⟨x21, e_x21, h⟩ := hq_ob h
    refine hm_iaload KM e_x21 (Nat.le_of_ble_eq_true rfl) rfl dX4_becomes_79 ?_
    obtain ⟨s22, e_s22, h⟩ := hq_ob h
    refine hm_iastore KM e_s22 (Nat.le_of_ble_eq_true rfl) rfl dX4_becomes_80 ?_
    obtain ⟨x23, e_x23, h⟩ := hq_nm h
    refine hv_iinc (v := x23) (L' := [(4, .int x23), (0, .ref m0), (1, .int p1), (2, .int p2), (3, .int v12)]) 4 dX4_becomes_81 rfl (by rw [e_x23]; rfl) (Nat.le_of_ble_eq_true rfl) rfl ?_
    refine hv_goto (tgt := 26) dX4_becomes_84 (by decide) ?_
    refine hv_sub [1, 2, 3, 4, 0] rfl ?_
    exact hrc _ _ h
theorem wk_m_becomes_L26 {l : Launch} {Gd : hk_G} {m0 : Nat} {st : hk_St} (KM : hk_KM m0 st) {p1 : Int32} {p2 : Int32} {s0 : hk_Ms} {r : Int32} {fin : hk_Ms} {v12 : Int32} {e0 : hk_Ms → Option (Int32 × hk_Ms)} (he0 : ∀ (s15 : hk_Ms), e0 s15 = some (r, fin) → hk_V Gd (N_m_becomes l) (hk_end Gd (hk_mU m0 st s0) (some (.int r)) (hk_mU m0 st fin)) 87 [(0, .ref m0), (1, .int p1), (2, .int p2), (3, .int v12)] [] (hk_mU m0 st s15)) : ∀ (n : Nat) (v13 : Int32) (s14 : hk_Ms), m_becomes_L26 p1 p2 v12 e0 n v13 s14 = some (r, fin) → hk_V Gd (N_m_becomes l) (hk_end Gd (hk_mU m0 st s0) (some (.int r)) (hk_mU m0 st fin)) 26 [(0, .ref m0), (1, .int p1), (2, .int p2), (3, .int v12), (4, .int v13)] [] (hk_mU m0 st s14) := by
  intro n
  induction n with
  | zero => intro v13 s14 h; cases h
  | succ n ih => intro v13 s14 h; exact wk_m_becomes_L26b KM ih he0 h
set_option maxHeartbeats 4000000 in
theorem wk_m_becomes {l : Launch} {Gd : hk_G} {m0 : Nat} {st : hk_St} (KM : hk_KM m0 st) {p1 : Int32} {p2 : Int32} {s0 : hk_Ms} {r : Int32} {fin : hk_Ms} (h : m_becomes p1 p2 s0 = some (r, fin)) : hk_Met Gd l yX4_becomes cX4_becomes 5 (some .int) 0 0 [.ref m0, .int p1, .int p2] (hk_mU m0 st s0) (some (.int r)) (hk_mU m0 st fin) := by
  refine hk_start "HeadReckonsModel" false (by decide +kernel) rfl (by decide) (Nat.le_of_ble_eq_true rfl) ?_
  show hk_V Gd (N_m_becomes l) (hk_end Gd (hk_mU m0 st s0) (some (.int r)) (hk_mU m0 st fin)) 0 [(0, .ref m0), (1, .int p1), (2, .int p2)] [] (hk_mU m0 st s0)
  unfold m_becomes at h
  obtain ⟨k97, e_k97, h⟩ := hq_nm h
  have wk97 : ∀ (v1 : Int32) (s2 : hk_Ms), k97 v1 s2 = some (r, fin) → hk_V Gd (N_m_becomes l) (hk_end Gd (hk_mU m0 st s0) (some (.int r)) (hk_mU m0 st fin)) 97 [(0, .ref m0), (1, .int p1), (2, .int p2), (3, .int v1)] [] (hk_mU m0 st s2) := by
    intro v1 s2 h
    rw [e_k97] at h
    refine hv_aload_n 0 dX4_becomes_97 rfl rfl ?_
    refine hm_getA (j := 1) KM (fl_X4_13) rfl (Nat.le_of_ble_eq_true rfl) dX4_becomes_98 ?_
    refine hv_aload_n 0 dX4_becomes_101 rfl rfl ?_
    refine hm_getI (f := 5) KM (fl_X4_105) dX4_becomes_102 ?_
    refine hv_iload_n 1 dX4_becomes_105 rfl rfl ?_
    obtain ⟨s3, e_s3, h⟩ := hq_ob h
    refine hm_iastore KM e_s3 (Nat.le_of_ble_eq_true rfl) rfl dX4_becomes_106 ?_
    refine hv_aload_n 0 dX4_becomes_107 rfl rfl ?_
    refine hm_getA (j := 2) KM (fl_X4_16) rfl (Nat.le_of_ble_eq_true rfl) dX4_becomes_108 ?_
    refine hv_aload_n 0 dX4_becomes_111 rfl rfl ?_
    refine hm_getI (f := 5) KM (fl_X4_105) dX4_becomes_112 ?_
    refine hv_iload_n 3 dX4_becomes_115 rfl rfl ?_
    obtain ⟨s4, e_s4, h⟩ := hq_ob h
    refine hm_iastore KM e_s4 (Nat.le_of_ble_eq_true rfl) rfl dX4_becomes_116 ?_
    refine hv_aload_n 0 dX4_becomes_117 rfl rfl ?_
    refine hm_getA (j := 3) KM (fl_X4_19) rfl (Nat.le_of_ble_eq_true rfl) dX4_becomes_118 ?_
    refine hv_aload_n 0 dX4_becomes_121 rfl rfl ?_
    refine hm_getI (f := 5) KM (fl_X4_105) dX4_becomes_122 ?_
    refine hv_iload_n 2 dX4_becomes_125 rfl rfl ?_
    obtain ⟨s5, e_s5, h⟩ := hq_ob h
    refine hm_iastore KM e_s5 (Nat.le_of_ble_eq_true rfl) rfl dX4_becomes_126 ?_
    refine hv_aload_n 0 dX4_becomes_127 rfl rfl ?_
    refine hv_dup dX4_becomes_128 rfl ?_
    refine hm_getI (f := 5) KM (fl_X4_105) dX4_becomes_129 ?_
    refine hv_iconst (v := 1) dX4_becomes_132 (by decide) ?_
    refine hv_iadd dX4_becomes_133 ?_
    obtain ⟨s6, e_s6, h⟩ := hq_nm h
    refine hm_putI (f := 5) KM (fp_X4_105) e_s6 dX4_becomes_134 ?_
    refine hv_aload_n 0 dX4_becomes_137 rfl rfl ?_
    refine hv_aload_n 0 dX4_becomes_138 rfl rfl ?_
    refine hm_getI (f := 5) KM (fl_X4_105) dX4_becomes_139 ?_
    obtain ⟨s7, e_s7, h⟩ := hq_nm h
    refine hm_putI (f := 4) KM (fp_X4_108) e_s7 dX4_becomes_142 ?_
    refine hv_aload_n 0 dX4_becomes_145 rfl rfl ?_
    refine hm_getA (j := 0) KM (fl_X4_9) rfl (Nat.le_of_ble_eq_true rfl) dX4_becomes_146 ?_
    refine hv_iload_n 1 dX4_becomes_149 rfl rfl ?_
    refine hv_iload_n 2 dX4_becomes_150 rfl rfl ?_
    obtain ⟨s8, e_s8, h⟩ := hq_ob h
    refine hm_iastore KM e_s8 (Nat.le_of_ble_eq_true rfl) rfl dX4_becomes_151 ?_
    refine hv_iload_n 3 dX4_becomes_152 rfl rfl ?_
    obtain ⟨h1, h2⟩ := hq_ret h
    subst h1
    subst h2
    exact hv_iret rfl dX4_becomes_153
  clear e_k97
  refine hv_aload_n 0 dX4_becomes_0 rfl rfl ?_
  refine hm_getA (j := 0) KM (fl_X4_9) rfl (Nat.le_of_ble_eq_true rfl) dX4_becomes_1 ?_
  refine hv_iload_n 1 dX4_becomes_4 rfl rfl ?_
  obtain ⟨x9, e_x9, h⟩ := hq_ob h
  refine hm_iaload KM e_x9 (Nat.le_of_ble_eq_true rfl) rfl dX4_becomes_5 ?_
  refine hv_istore_n (L' := [(3, .int x9), (0, .ref m0), (1, .int p1), (2, .int p2)]) dX4_becomes_6 rfl (Nat.le_of_ble_eq_true rfl) rfl ?_
  refine hv_iload_n 0 dX4_becomes_7 rfl rfl ?_
  refine hv_iload_n 3 dX4_becomes_8 rfl rfl ?_
  refine hv_icmp_ne (tgt := 14) dX4_becomes_9 (by decide) (fun c10 => ?_) (fun c10 => ?_)
  · replace h := hq_in c10 h
    refine hv_aload_n 1 dX4_becomes_14 rfl rfl ?_
    refine hm_getI (f := 5) KM (fl_X4_105) dX4_becomes_15 ?_
    refine hv_bipush (v := 40) dX4_becomes_18 (by decide) ?_
    refine hv_icmp_ne (tgt := 97) dX4_becomes_20 (by decide) (fun c11 => ?_) (fun c11 => ?_)
    · replace h := hq_in c11 h
      refine hv_sub [1, 2, 3, 0] rfl ?_
      exact wk97 _ _ h
    · replace h := hq_ip c11 h
      refine hv_iconst (v := 1) dX4_becomes_23 (by decide) ?_
      refine hv_istore (L' := [(4, .int (1 : Int32)), (3, .int x9), (0, .ref m0), (1, .int p1), (2, .int p2)]) dX4_becomes_24 (Nat.le_of_ble_eq_true rfl) rfl ?_
      refine hv_sub [2, 3, 4, 1, 0] rfl ?_
      refine wk_m_becomes_L26 KM ?_ hk_F _ _ h
      · intro s15 h
        refine hv_aload_n 0 dX4_becomes_87 rfl rfl ?_
        refine hv_dup dX4_becomes_88 rfl ?_
        refine hm_getI (f := 5) KM (fl_X4_105) dX4_becomes_89 ?_
        refine hv_iconst (v := 1) dX4_becomes_92 (by decide) ?_
        refine hv_isub dX4_becomes_93 ?_
        obtain ⟨s24, e_s24, h⟩ := hq_nm h
        refine hm_putI (f := 5) KM (fp_X4_105) e_s24 dX4_becomes_94 ?_
        exact wk97 _ _ h
  · replace h := hq_ip c10 h
    refine hv_iload_n 0 dX4_becomes_12 rfl rfl ?_
    obtain ⟨h1, h2⟩ := hq_ret h
    subst h1
    subst h2
    exact hv_iret rfl dX4_becomes_13
def m_turn (p1 : Int32) (p2 : Int32) (p3 : Int32) (s0 : hk_Ms) : Option (Int32 × hk_Ms) :=
  (m_isHead p1 s0).bind fun x1 =>
  if x1 = 0 then
    some ((-1 : Int32), s0)
  else
  if (m_within p2.toInt64 (0 : Int64) (4 : Int64)) = 0 then
    some ((-1 : Int32), s0)
  else
  if (m_isOf p2 p3) = 0 then
    some ((-1 : Int32), s0)
  else
  (m_becomes (((5 : Int32) * p1) + p2) p3 s0).bind fun q5 =>
  some (q5.1, q5.2)
abbrev N_m_turn (l : Launch) : hk_N := (l, cX4_turn, "HeadReckonsModel", 4, (some .int), 2, 46, false)
set_option maxHeartbeats 4000000 in
theorem wk_m_turn {l : Launch} {Gd : hk_G} {m0 : Nat} {st : hk_St} (KM : hk_KM m0 st) {p1 : Int32} {p2 : Int32} {p3 : Int32} {s0 : hk_Ms} {r : Int32} {fin : hk_Ms} (h : m_turn p1 p2 p3 s0 = some (r, fin)) : hk_Met Gd l yX4_turn cX4_turn 4 (some .int) 2 46 [.ref m0, .int p1, .int p2, .int p3] (hk_mU m0 st s0) (some (.int r)) (hk_mU m0 st fin) := by
  refine hk_start "HeadReckonsModel" false (by decide +kernel) rfl (by decide) (Nat.le_of_ble_eq_true rfl) ?_
  show hk_V Gd (N_m_turn l) (hk_end Gd (hk_mU m0 st s0) (some (.int r)) (hk_mU m0 st fin)) 0 [(0, .ref m0), (1, .int p1), (2, .int p2), (3, .int p3)] [] (hk_mU m0 st s0)
  unfold m_turn at h
  refine hv_aload_n 0 dX4_turn_0 rfl rfl ?_
  refine hv_iload_n 1 dX4_turn_1 rfl rfl ?_
  obtain ⟨x1, e_x1, h⟩ := hq_ob h
  refine hv_callV [.int p1] [] [.int x1] (wk_m_isHead KM e_x1) cs_X4_188 KM.recv rfl ⟨Nat.le_of_ble_eq_true rfl, Nat.le_of_ble_eq_true rfl⟩ rfl (Nat.le_of_ble_eq_true rfl) rfl dX4_turn_2 ?_
  refine hv_if_eq (tgt := 41) dX4_turn_5 (by decide) (fun c2 => ?_) (fun c2 => ?_)
  · replace h := hq_ip c2 h
    refine hv_iconst (v := -1) dX4_turn_41 (by decide) ?_
    obtain ⟨h1, h2⟩ := hq_ret h
    subst h1
    subst h2
    exact hv_iret rfl dX4_turn_42
  · replace h := hq_in c2 h
    refine hv_iload_n 2 dX4_turn_8 rfl rfl ?_
    refine hv_i2l dX4_turn_9 ?_
    refine hv_lconst (v := 0) dX4_turn_10 (by decide) ?_
    refine hv_ldc2 q1781 dX4_turn_11 ?_
    refine hv_callS [.long p2.toInt64, .long (0 : Int64), .long (4 : Int64)] [] [.int (m_within p2.toInt64 (0 : Int64) (4 : Int64))] (wk_m_within rfl) cs_X4_113 rfl ⟨Nat.le_of_ble_eq_true rfl, Nat.le_of_ble_eq_true rfl⟩ rfl (Nat.le_of_ble_eq_true rfl) rfl dX4_turn_14 ?_
    refine hv_if_eq (tgt := 41) dX4_turn_17 (by decide) (fun c3 => ?_) (fun c3 => ?_)
    · replace h := hq_ip c3 h
      refine hv_iconst (v := -1) dX4_turn_41 (by decide) ?_
      obtain ⟨h1, h2⟩ := hq_ret h
      subst h1
      subst h2
      exact hv_iret rfl dX4_turn_42
    · replace h := hq_in c3 h
      refine hv_iload_n 2 dX4_turn_20 rfl rfl ?_
      refine hv_iload_n 3 dX4_turn_21 rfl rfl ?_
      refine hv_callS [.int p2, .int p3] [] [.int (m_isOf p2 p3)] (wk_m_isOf rfl) cs_X4_181 rfl ⟨Nat.le_of_ble_eq_true rfl, Nat.le_of_ble_eq_true rfl⟩ rfl (Nat.le_of_ble_eq_true rfl) rfl dX4_turn_22 ?_
      refine hv_if_eq (tgt := 41) dX4_turn_25 (by decide) (fun c4 => ?_) (fun c4 => ?_)
      · replace h := hq_ip c4 h
        refine hv_iconst (v := -1) dX4_turn_41 (by decide) ?_
        obtain ⟨h1, h2⟩ := hq_ret h
        subst h1
        subst h2
        exact hv_iret rfl dX4_turn_42
      · replace h := hq_in c4 h
        refine hv_aload_n 0 dX4_turn_28 rfl rfl ?_
        refine hv_iconst (v := 5) dX4_turn_29 (by decide) ?_
        refine hv_iload_n 1 dX4_turn_30 rfl rfl ?_
        refine hv_imul dX4_turn_31 ?_
        refine hv_iload_n 2 dX4_turn_32 rfl rfl ?_
        refine hv_iadd dX4_turn_33 ?_
        refine hv_iload_n 3 dX4_turn_34 rfl rfl ?_
        obtain ⟨q5, e_q5, h⟩ := hq_ob h
        refine hv_callV [.int (((5 : Int32) * p1) + p2), .int p3] [] [.int q5.1] (wk_m_becomes KM e_q5) cs_X4_194 KM.recv rfl ⟨Nat.le_of_ble_eq_true rfl, Nat.le_of_ble_eq_true rfl⟩ rfl (Nat.le_of_ble_eq_true rfl) rfl dX4_turn_35 ?_
        refine hv_goto (tgt := 42) dX4_turn_38 (by decide) ?_
        obtain ⟨h1, h2⟩ := hq_ret h
        subst h1
        subst h2
        exact hv_iret rfl dX4_turn_42
def m_isAsk (p1 : Int32) : Int32 :=
  if p1 < 0 then
    (0 : Int32)
  else
  if (m_within ((p1 / (10000 : Int32)).toInt64) (1 : Int64) (9999 : Int64)) = 0 then
    (0 : Int32)
  else
  if (m_within ((p1 - p1 / (10000 : Int32) * (10000 : Int32)).toInt64) (1 : Int64) (9999 : Int64)) = 0 then
    (0 : Int32)
  else
  (1 : Int32)
theorem bz_m_isAsk {p1 : Int32} : m_isAsk p1 &&& 1 = m_isAsk p1 := by
  unfold m_isAsk
  try unfold hk_nm
  repeat' split
  all_goals first | rfl | exact bz_m_within
abbrev N_m_isAsk (l : Launch) : hk_N := (l, cX4_isAsk, "HeadReckonsModel", 1, (some .boolean), 1, 25, false)
set_option maxHeartbeats 4000000 in
theorem wk_m_isAsk {l : Launch} {Gd : hk_G} {st : hk_St} {p1 : Int32} {r : Int32} (h : m_isAsk p1 = r) : hk_Met Gd l yX4_isAsk cX4_isAsk 1 (some .boolean) 1 25 [.int p1] st (some (.int r)) st := by
  refine hk_start "HeadReckonsModel" false (by decide +kernel) rfl (by decide) (Nat.le_of_ble_eq_true rfl) ?_
  show hk_V Gd (N_m_isAsk l) (hk_end Gd st (some (.int r)) st) 0 [(0, .int p1)] [] st
  unfold m_isAsk at h
  refine hv_iload_n 0 dX4_isAsk_0 rfl rfl ?_
  refine hv_if_lt (tgt := 40) dX4_isAsk_1 (by decide) (fun c1 => ?_) (fun c1 => ?_)
  · replace h := hq_ip c1 h
    refine hv_iconst (v := 0) dX4_isAsk_40 (by decide) ?_
    subst h
    exact hv_zret (ty := .boolean) rfl rfl dX4_isAsk_41
  · replace h := hq_in c1 h
    refine hv_iload_n 0 dX4_isAsk_4 rfl rfl ?_
    refine hv_sipush (v := 10000) dX4_isAsk_5 (by decide) ?_
    refine hv_idiv (by decide) dX4_isAsk_8 ?_
    refine hv_i2l dX4_isAsk_9 ?_
    refine hv_lconst (v := 1) dX4_isAsk_10 (by decide) ?_
    refine hv_ldc2 q1873 dX4_isAsk_11 ?_
    refine hv_callS [.long ((p1 / (10000 : Int32)).toInt64), .long (1 : Int64), .long (9999 : Int64)] [] [.int (m_within ((p1 / (10000 : Int32)).toInt64) (1 : Int64) (9999 : Int64))] (wk_m_within rfl) cs_X4_113 rfl ⟨Nat.le_of_ble_eq_true rfl, Nat.le_of_ble_eq_true rfl⟩ rfl (Nat.le_of_ble_eq_true rfl) rfl dX4_isAsk_14 ?_
    refine hv_if_eq (tgt := 40) dX4_isAsk_17 (by decide) (fun c2 => ?_) (fun c2 => ?_)
    · replace h := hq_ip c2 h
      refine hv_iconst (v := 0) dX4_isAsk_40 (by decide) ?_
      subst h
      exact hv_zret (ty := .boolean) rfl rfl dX4_isAsk_41
    · replace h := hq_in c2 h
      refine hv_iload_n 0 dX4_isAsk_20 rfl rfl ?_
      refine hv_sipush (v := 10000) dX4_isAsk_21 (by decide) ?_
      refine hv_irem (by decide) dX4_isAsk_24 ?_
      refine hv_i2l dX4_isAsk_25 ?_
      refine hv_lconst (v := 1) dX4_isAsk_26 (by decide) ?_
      refine hv_ldc2 q1873 dX4_isAsk_27 ?_
      refine hv_callS [.long ((p1 - p1 / (10000 : Int32) * (10000 : Int32)).toInt64), .long (1 : Int64), .long (9999 : Int64)] [] [.int (m_within ((p1 - p1 / (10000 : Int32) * (10000 : Int32)).toInt64) (1 : Int64) (9999 : Int64))] (wk_m_within rfl) cs_X4_113 rfl ⟨Nat.le_of_ble_eq_true rfl, Nat.le_of_ble_eq_true rfl⟩ rfl (Nat.le_of_ble_eq_true rfl) rfl dX4_isAsk_30 ?_
      refine hv_if_eq (tgt := 40) dX4_isAsk_33 (by decide) (fun c3 => ?_) (fun c3 => ?_)
      · replace h := hq_ip c3 h
        refine hv_iconst (v := 0) dX4_isAsk_40 (by decide) ?_
        subst h
        exact hv_zret (ty := .boolean) rfl rfl dX4_isAsk_41
      · replace h := hq_in c3 h
        refine hv_iconst (v := 1) dX4_isAsk_36 (by decide) ?_
        refine hv_goto (tgt := 41) dX4_isAsk_37 (by decide) ?_
        subst h
        exact hv_zret (ty := .boolean) rfl rfl dX4_isAsk_41
def m_isSmall (p1 : Int32) : Int32 :=
  if (99 : Int32) < (p1 / (10000 : Int32)) then
    (0 : Int32)
  else
  if (99 : Int32) < (p1 - p1 / (10000 : Int32) * (10000 : Int32)) then
    (0 : Int32)
  else
  (1 : Int32)
theorem bz_m_isSmall {p1 : Int32} : m_isSmall p1 &&& 1 = m_isSmall p1 := by
  unfold m_isSmall
  try unfold hk_nm
  repeat' split
  all_goals first | rfl
abbrev N_m_isSmall (l : Launch) : hk_N := (l, cX4_isSmall, "HeadReckonsModel", 1, (some .boolean), 0, 0, false)
set_option maxHeartbeats 4000000 in
theorem wk_m_isSmall {l : Launch} {Gd : hk_G} {st : hk_St} {p1 : Int32} {r : Int32} (h : m_isSmall p1 = r) : hk_Met Gd l yX4_isSmall cX4_isSmall 1 (some .boolean) 0 0 [.int p1] st (some (.int r)) st := by
  refine hk_start "HeadReckonsModel" false (by decide +kernel) rfl (by decide) (Nat.le_of_ble_eq_true rfl) ?_
  show hk_V Gd (N_m_isSmall l) (hk_end Gd st (some (.int r)) st) 0 [(0, .int p1)] [] st
  unfold m_isSmall at h
  refine hv_iload_n 0 dX4_isSmall_0 rfl rfl ?_
  refine hv_sipush (v := 10000) dX4_isSmall_1 (by decide) ?_
  refine hv_idiv (by decide) dX4_isSmall_4 ?_
  refine hv_bipush (v := 99) dX4_isSmall_5 (by decide) ?_
  refine hv_icmp_gt (tgt := 24) dX4_isSmall_7 (by decide) (fun c1 => ?_) (fun c1 => ?_)
  · replace h := hq_ip c1 h
    refine hv_iconst (v := 0) dX4_isSmall_24 (by decide) ?_
    subst h
    exact hv_zret (ty := .boolean) rfl rfl dX4_isSmall_25
  · replace h := hq_in c1 h
    refine hv_iload_n 0 dX4_isSmall_10 rfl rfl ?_
    refine hv_sipush (v := 10000) dX4_isSmall_11 (by decide) ?_
    refine hv_irem (by decide) dX4_isSmall_14 ?_
    refine hv_bipush (v := 99) dX4_isSmall_15 (by decide) ?_
    refine hv_icmp_gt (tgt := 24) dX4_isSmall_17 (by decide) (fun c2 => ?_) (fun c2 => ?_)
    · replace h := hq_ip c2 h
      refine hv_iconst (v := 0) dX4_isSmall_24 (by decide) ?_
      subst h
      exact hv_zret (ty := .boolean) rfl rfl dX4_isSmall_25
    · replace h := hq_in c2 h
      refine hv_iconst (v := 1) dX4_isSmall_20 (by decide) ?_
      refine hv_goto (tgt := 25) dX4_isSmall_21 (by decide) ?_
      subst h
      exact hv_zret (ty := .boolean) rfl rfl dX4_isSmall_25
def m_asPair (p1 : Int32) : Int32 :=
  hk_nm (p1 / (10000 : Int32)) fun x1 =>
  hk_nm (p1 - p1 / (10000 : Int32) * (10000 : Int32)) fun x2 =>
  if x2 ≤ x1 then
    ((100 : Int32) * x2) + x1
  else
  ((100 : Int32) * x1) + x2
abbrev N_m_asPair (l : Launch) : hk_N := (l, cX4_asPair, "HeadReckonsModel", 3, (some .int), 0, 0, false)
set_option maxHeartbeats 4000000 in
theorem wk_m_asPair {l : Launch} {Gd : hk_G} {st : hk_St} {p1 : Int32} {r : Int32} (h : m_asPair p1 = r) : hk_Met Gd l yX4_asPair cX4_asPair 3 (some .int) 0 0 [.int p1] st (some (.int r)) st := by
  refine hk_start "HeadReckonsModel" false (by decide +kernel) rfl (by decide) (Nat.le_of_ble_eq_true rfl) ?_
  show hk_V Gd (N_m_asPair l) (hk_end Gd st (some (.int r)) st) 0 [(0, .int p1)] [] st
  unfold m_asPair at h
  refine hv_iload_n 0 dX4_asPair_0 rfl rfl ?_
  refine hv_sipush (v := 10000) dX4_asPair_1 (by decide) ?_
  refine hv_idiv (by decide) dX4_asPair_4 ?_
  obtain ⟨x1, e_x1, h⟩ := hq_nm h
  rw [← e_x1]
  refine hv_istore_n (L' := [(1, .int x1), (0, .int p1)]) dX4_asPair_5 rfl (Nat.le_of_ble_eq_true rfl) rfl ?_
  refine hv_iload_n 1 dX4_asPair_6 rfl rfl ?_
  refine hv_sipush (v := 10000) dX4_asPair_7 (by decide) ?_
  refine hv_irem (by decide) dX4_asPair_10 ?_
  obtain ⟨x2, e_x2, h⟩ := hq_nm h
  rw [← e_x2]
  refine hv_istore_n (L' := [(2, .int x2), (1, .int x1), (0, .int p1)]) dX4_asPair_11 rfl (Nat.le_of_ble_eq_true rfl) rfl ?_
  refine hv_iload_n 1 dX4_asPair_12 rfl rfl ?_
  refine hv_iload_n 0 dX4_asPair_13 rfl rfl ?_
  refine hv_icmp_ge (tgt := 26) dX4_asPair_14 (by decide) (fun c3 => ?_) (fun c3 => ?_)
  · replace h := hq_ip c3 h
    refine hv_bipush (v := 100) dX4_asPair_26 (by decide) ?_
    refine hv_iload_n 0 dX4_asPair_28 rfl rfl ?_
    refine hv_imul dX4_asPair_29 ?_
    refine hv_iload_n 1 dX4_asPair_30 rfl rfl ?_
    refine hv_iadd dX4_asPair_31 ?_
    subst h
    exact hv_iret rfl dX4_asPair_32
  · replace h := hq_in c3 h
    refine hv_bipush (v := 100) dX4_asPair_17 (by decide) ?_
    refine hv_iload_n 1 dX4_asPair_19 rfl rfl ?_
    refine hv_imul dX4_asPair_20 ?_
    refine hv_iload_n 0 dX4_asPair_21 rfl rfl ?_
    refine hv_iadd dX4_asPair_22 ?_
    refine hv_goto (tgt := 32) dX4_asPair_23 (by decide) ?_
    subst h
    exact hv_iret rfl dX4_asPair_32
def m_pairAt_L2b (p1 : Int32) (p2 : Int32) (s0 : hk_Ms) (e0 : Unit → Option (Int32)) (rc : Int32 → Option (Int32)) (v1 : Int32) : Option (Int32) :=
  (hm_lI s0 8 6 p1).bind fun x2 =>
  if x2 ≤ v1 then
    e0 ()
  else
  (hm_lI s0 9 360 (((60 : Int32) * p1) + v1)).bind fun x4 =>
  if x4 = (m_asPair p2) then
    some v1
  else
  hk_nm (v1 + (1 : Int32)) fun x6 =>
    rc x6
def m_pairAt_L2 (p1 : Int32) (p2 : Int32) (s0 : hk_Ms) (e0 : Unit → Option (Int32)) : Nat → Int32 → Option (Int32)
  | 0 => fun _ => none
  | n + 1 => m_pairAt_L2b p1 p2 s0 e0 (m_pairAt_L2 p1 p2 s0 e0 n)
def m_pairAt (p1 : Int32) (p2 : Int32) (s0 : hk_Ms) : Option (Int32) :=
  m_pairAt_L2 p1 p2 s0  (fun (_ : Unit) =>
    some (-1 : Int32)) hk_F (0 : Int32) 
abbrev N_m_pairAt (l : Launch) : hk_N := (l, cX4_pairAt, "HeadReckonsModel", 4, (some .int), 1, 22, false)
set_option maxHeartbeats 4000000 in
theorem wk_m_pairAt_L2b {l : Launch} {Gd : hk_G} {m0 : Nat} {st : hk_St} (KM : hk_KM m0 st) {p1 : Int32} {p2 : Int32} {s0 : hk_Ms} {r : Int32} {e0 : Unit → Option (Int32)} {rc : Int32 → Option (Int32)} (hrc : ∀ (v1 : Int32), rc v1 = some r → hk_V Gd (N_m_pairAt l) (hk_end Gd (hk_mU m0 st s0) (some (.int r)) (hk_mU m0 st s0)) 2 [(0, .ref m0), (1, .int p1), (2, .int p2), (3, .int v1)] [] (hk_mU m0 st s0)) (he0 : ∀ (_ : Unit), e0 () = some r → hk_V Gd (N_m_pairAt l) (hk_end Gd (hk_mU m0 st s0) (some (.int r)) (hk_mU m0 st s0)) 38 [] [] (hk_mU m0 st s0)) {v1 : Int32} (h : m_pairAt_L2b p1 p2 s0 e0 rc v1 = some r) : hk_V Gd (N_m_pairAt l) (hk_end Gd (hk_mU m0 st s0) (some (.int r)) (hk_mU m0 st s0)) 2 [(0, .ref m0), (1, .int p1), (2, .int p2), (3, .int v1)] [] (hk_mU m0 st s0) := by
  unfold m_pairAt_L2b at h
  refine hv_iload_n 3 dX4_pairAt_2 rfl rfl ?_
  refine hv_aload_n 0 dX4_pairAt_3 rfl rfl ?_
  refine hm_getA (j := 8) KM (fl_X4_34) rfl (Nat.le_of_ble_eq_true rfl) dX4_pairAt_4 ?_
  refine hv_iload_n 1 dX4_pairAt_7 rfl rfl ?_
  obtain ⟨x2, e_x2, h⟩ := hq_ob h
  refine hm_iaload KM e_x2 (Nat.le_of_ble_eq_true rfl) rfl dX4_pairAt_8 ?_
  refine hv_icmp_ge (tgt := 38) dX4_pairAt_9 (by decide) (fun c3 => ?_) (fun c3 => ?_)
  · replace h := hq_ip c3 h
    refine hv_sub [] rfl ?_
    exact he0 () h
  · replace h := hq_in c3 h
    refine hv_aload_n 0 dX4_pairAt_12 rfl rfl ?_
    refine hm_getA (j := 9) KM (fl_X4_37) rfl (Nat.le_of_ble_eq_true rfl) dX4_pairAt_13 ?_
    refine hv_bipush (v := 60) dX4_pairAt_16 (by decide) ?_
    refine hv_iload_n 1 dX4_pairAt_18 rfl rfl ?_
    refine hv_imul dX4_pairAt_19 ?_
    refine hv_iload_n 3 dX4_pairAt_20 rfl rfl ?_
    refine hv_iadd dX4_pairAt_21 ?_
    obtain ⟨x4, e_x4, h⟩ := hq_ob h
    refine hm_iaload KM e_x4 (Nat.le_of_ble_eq_true rfl) rfl dX4_pairAt_22 ?_
    refine hv_iload_n 2 dX4_pairAt_23 rfl rfl ?_
    refine hv_callS [.int p2] [.int x4] [.int (m_asPair p2), .int x4] (wk_m_asPair rfl) cs_X4_199 rfl ⟨Nat.le_of_ble_eq_true rfl, Nat.le_of_ble_eq_true rfl⟩ rfl (Nat.le_of_ble_eq_true rfl) rfl dX4_pairAt_24 ?_
    refine hv_icmp_ne (tgt := 32) dX4_pairAt_27 (by decide) (fun c5 => ?_) (fun c5 => ?_)
    · replace h := hq_in c5 h
      obtain ⟨x6, e_x6, h⟩ := hq_nm h
      refine hv_iinc (v := x6) (L' := [(3, .int x6), (0, .ref m0), (1, .int p1), (2, .int p2)]) 3 dX4_pairAt_32 rfl (by rw [e_x6]; rfl) (Nat.le_of_ble_eq_true rfl) rfl ?_
      refine hv_goto (tgt := 2) dX4_pairAt_35 (by decide) ?_
      refine hv_sub [1, 2, 3, 0] rfl ?_
      exact hrc _ h
    · replace h := hq_ip c5 h
      refine hv_iload_n 3 dX4_pairAt_30 rfl rfl ?_
      have h := Option.some.inj h
      subst h
      exact hv_iret rfl dX4_pairAt_31
theorem wk_m_pairAt_L2 {l : Launch} {Gd : hk_G} {m0 : Nat} {st : hk_St} (KM : hk_KM m0 st) {p1 : Int32} {p2 : Int32} {s0 : hk_Ms} {r : Int32} {e0 : Unit → Option (Int32)} (he0 : ∀ (_ : Unit), e0 () = some r → hk_V Gd (N_m_pairAt l) (hk_end Gd (hk_mU m0 st s0) (some (.int r)) (hk_mU m0 st s0)) 38 [] [] (hk_mU m0 st s0)) : ∀ (n : Nat) (v1 : Int32), m_pairAt_L2 p1 p2 s0 e0 n v1 = some r → hk_V Gd (N_m_pairAt l) (hk_end Gd (hk_mU m0 st s0) (some (.int r)) (hk_mU m0 st s0)) 2 [(0, .ref m0), (1, .int p1), (2, .int p2), (3, .int v1)] [] (hk_mU m0 st s0) := by
  intro n
  induction n with
  | zero => intro v1 h; cases h
  | succ n ih => intro v1 h; exact wk_m_pairAt_L2b KM ih he0 h
set_option maxHeartbeats 4000000 in
theorem wk_m_pairAt {l : Launch} {Gd : hk_G} {m0 : Nat} {st : hk_St} (KM : hk_KM m0 st) {p1 : Int32} {p2 : Int32} {s0 : hk_Ms} {r : Int32} (h : m_pairAt p1 p2 s0 = some r) : hk_Met Gd l yX4_pairAt cX4_pairAt 4 (some .int) 1 22 [.ref m0, .int p1, .int p2] (hk_mU m0 st s0) (some (.int r)) (hk_mU m0 st s0) := by
  refine hk_start "HeadReckonsModel" false (by decide +kernel) rfl (by decide) (Nat.le_of_ble_eq_true rfl) ?_
  show hk_V Gd (N_m_pairAt l) (hk_end Gd (hk_mU m0 st s0) (some (.int r)) (hk_mU m0 st s0)) 0 [(0, .ref m0), (1, .int p1), (2, .int p2)] [] (hk_mU m0 st s0)
  unfold m_pairAt at h
  refine hv_iconst (v := 0) dX4_pairAt_0 (by decide) ?_
  refine hv_istore_n (L' := [(3, .int (0 : Int32)), (0, .ref m0), (1, .int p1), (2, .int p2)]) dX4_pairAt_1 rfl (Nat.le_of_ble_eq_true rfl) rfl ?_
  refine hv_sub [1, 2, 3, 0] rfl ?_
  refine wk_m_pairAt_L2 KM ?_ hk_F _ h
  · intro _ h
    refine hv_iconst (v := -1) dX4_pairAt_38 (by decide) ?_
    have h := Option.some.inj h
    subst h
    exact hv_iret rfl dX4_pairAt_39
def m_askOf (p1 : Int32) (p2 : Int32) (s0 : hk_Ms) : Option (Int32 × hk_Ms) :=
  hk_nm (fun (v1 : Int32) (s2 : hk_Ms) =>
    (hm_lI s2 10 360 (((60 : Int32) * p1) + v1)).bind fun x3 =>
    (hm_tI s2 10 360 (((60 : Int32) * p1) + v1) (x3 + (1 : Int32))).bind fun s4 =>
    (hm_lI s4 10 360 (((60 : Int32) * p1) + v1)).bind fun x5 =>
    some (x5, s4)) fun k81 =>
  hk_nm (fun (v6 : Int32) (s7 : hk_Ms) =>
    if 0 ≤ v6 then
      k81 v6 s7
    else
    (hm_lI s7 8 6 p1).bind fun x9 =>
    (hm_tI s7 9 360 (((60 : Int32) * p1) + x9) (m_asPair p2)).bind fun s10 =>
    (hm_tI s10 10 360 (((60 : Int32) * p1) + x9) (0 : Int32)).bind fun s11 =>
    (hm_lI s11 8 6 p1).bind fun x12 =>
    (hm_tI s11 8 6 p1 (x12 + (1 : Int32))).bind fun s13 =>
    k81 x9 s13) fun k33 =>
  if (m_isSmall p2) = 0 then
    some ((0 : Int32), s0)
  else
  (m_pairAt p1 p2 s0).bind fun x15 =>
    if 0 ≤ x15 then
      k33 x15 s0
    else
    (hm_lI s0 8 6 p1).bind fun x17 =>
    if x17 = (60 : Int32) then
      some ((0 : Int32), s0)
    else
    k33 x15 s0
abbrev N_m_askOf (l : Launch) : hk_N := (l, cX4_askOf, "HeadReckonsModel", 4, (some .int), 2, 45, false)
set_option maxHeartbeats 4000000 in
theorem wk_m_askOf {l : Launch} {Gd : hk_G} {m0 : Nat} {st : hk_St} (KM : hk_KM m0 st) {p1 : Int32} {p2 : Int32} {s0 : hk_Ms} {r : Int32} {fin : hk_Ms} (h : m_askOf p1 p2 s0 = some (r, fin)) : hk_Met Gd l yX4_askOf cX4_askOf 4 (some .int) 2 45 [.ref m0, .int p1, .int p2] (hk_mU m0 st s0) (some (.int r)) (hk_mU m0 st fin) := by
  refine hk_start "HeadReckonsModel" false (by decide +kernel) rfl (by decide) (Nat.le_of_ble_eq_true rfl) ?_
  show hk_V Gd (N_m_askOf l) (hk_end Gd (hk_mU m0 st s0) (some (.int r)) (hk_mU m0 st fin)) 0 [(0, .ref m0), (1, .int p1), (2, .int p2)] [] (hk_mU m0 st s0)
  unfold m_askOf at h
  obtain ⟨k81, e_k81, h⟩ := hq_nm h
  have wk81 : ∀ (v1 : Int32) (s2 : hk_Ms), k81 v1 s2 = some (r, fin) → hk_V Gd (N_m_askOf l) (hk_end Gd (hk_mU m0 st s0) (some (.int r)) (hk_mU m0 st fin)) 81 [(0, .ref m0), (1, .int p1), (3, .int v1)] [] (hk_mU m0 st s2) := by
    intro v1 s2 h
    rw [e_k81] at h
    refine hv_aload_n 0 dX4_askOf_81 rfl rfl ?_
    refine hm_getA (j := 10) KM (fl_X4_40) rfl (Nat.le_of_ble_eq_true rfl) dX4_askOf_82 ?_
    refine hv_bipush (v := 60) dX4_askOf_85 (by decide) ?_
    refine hv_iload_n 1 dX4_askOf_87 rfl rfl ?_
    refine hv_imul dX4_askOf_88 ?_
    refine hv_iload_n 2 dX4_askOf_89 rfl rfl ?_
    refine hv_iadd dX4_askOf_90 ?_
    refine hv_dup2 dX4_askOf_91 rfl rfl ?_
    obtain ⟨x3, e_x3, h⟩ := hq_ob h
    refine hm_iaload KM e_x3 (Nat.le_of_ble_eq_true rfl) rfl dX4_askOf_92 ?_
    refine hv_iconst (v := 1) dX4_askOf_93 (by decide) ?_
    refine hv_iadd dX4_askOf_94 ?_
    obtain ⟨s4, e_s4, h⟩ := hq_ob h
    refine hm_iastore KM e_s4 (Nat.le_of_ble_eq_true rfl) rfl dX4_askOf_95 ?_
    refine hv_aload_n 0 dX4_askOf_96 rfl rfl ?_
    refine hm_getA (j := 10) KM (fl_X4_40) rfl (Nat.le_of_ble_eq_true rfl) dX4_askOf_97 ?_
    refine hv_bipush (v := 60) dX4_askOf_100 (by decide) ?_
    refine hv_iload_n 1 dX4_askOf_102 rfl rfl ?_
    refine hv_imul dX4_askOf_103 ?_
    refine hv_iload_n 2 dX4_askOf_104 rfl rfl ?_
    refine hv_iadd dX4_askOf_105 ?_
    obtain ⟨x5, e_x5, h⟩ := hq_ob h
    refine hm_iaload KM e_x5 (Nat.le_of_ble_eq_true rfl) rfl dX4_askOf_106 ?_
    obtain ⟨h1, h2⟩ := hq_ret h
    subst h1
    subst h2
    exact hv_iret rfl dX4_askOf_107
  clear e_k81
  obtain ⟨k33, e_k33, h⟩ := hq_nm h
  have wk33 : ∀ (v6 : Int32) (s7 : hk_Ms), k33 v6 s7 = some (r, fin) → hk_V Gd (N_m_askOf l) (hk_end Gd (hk_mU m0 st s0) (some (.int r)) (hk_mU m0 st fin)) 33 [(0, .ref m0), (1, .int p1), (2, .int p2), (3, .int v6)] [] (hk_mU m0 st s7) := by
    intro v6 s7 h
    rw [e_k33] at h
    refine hv_iload_n 3 dX4_askOf_33 rfl rfl ?_
    refine hv_if_ge (tgt := 81) dX4_askOf_34 (by decide) (fun c8 => ?_) (fun c8 => ?_)
    · replace h := hq_ip c8 h
      refine hv_sub [0, 1, 3] rfl ?_
      exact wk81 _ _ h
    · replace h := hq_in c8 h
      refine hv_aload_n 0 dX4_askOf_37 rfl rfl ?_
      refine hm_getA (j := 8) KM (fl_X4_34) rfl (Nat.le_of_ble_eq_true rfl) dX4_askOf_38 ?_
      refine hv_iload_n 1 dX4_askOf_41 rfl rfl ?_
      obtain ⟨x9, e_x9, h⟩ := hq_ob h
      refine hm_iaload KM e_x9 (Nat.le_of_ble_eq_true rfl) rfl dX4_askOf_42 ?_
      refine hv_istore_n (L' := [(3, .int x9), (0, .ref m0), (1, .int p1), (2, .int p2)]) dX4_askOf_43 rfl (Nat.le_of_ble_eq_true rfl) rfl ?_
      refine hv_aload_n 1 dX4_askOf_44 rfl rfl ?_
      refine hm_getA (j := 9) KM (fl_X4_37) rfl (Nat.le_of_ble_eq_true rfl) dX4_askOf_45 ?_
      refine hv_bipush (v := 60) dX4_askOf_48 (by decide) ?_
      refine hv_iload_n 2 dX4_askOf_50 rfl rfl ?_
      refine hv_imul dX4_askOf_51 ?_
      refine hv_iload_n 0 dX4_askOf_52 rfl rfl ?_
      refine hv_iadd dX4_askOf_53 ?_
      refine hv_iload_n 3 dX4_askOf_54 rfl rfl ?_
      refine hv_callS [.int p2] [.int (((60 : Int32) * p1) + x9), .ref (m0 + 10)] [.int (m_asPair p2), .int (((60 : Int32) * p1) + x9), .ref (m0 + 10)] (wk_m_asPair rfl) cs_X4_199 rfl ⟨Nat.le_of_ble_eq_true rfl, Nat.le_of_ble_eq_true rfl⟩ rfl (Nat.le_of_ble_eq_true rfl) rfl dX4_askOf_55 ?_
      obtain ⟨s10, e_s10, h⟩ := hq_ob h
      refine hm_iastore KM e_s10 (Nat.le_of_ble_eq_true rfl) rfl dX4_askOf_58 ?_
      refine hv_aload_n 1 dX4_askOf_59 rfl rfl ?_
      refine hm_getA (j := 10) KM (fl_X4_40) rfl (Nat.le_of_ble_eq_true rfl) dX4_askOf_60 ?_
      refine hv_bipush (v := 60) dX4_askOf_63 (by decide) ?_
      refine hv_iload_n 2 dX4_askOf_65 rfl rfl ?_
      refine hv_imul dX4_askOf_66 ?_
      refine hv_iload_n 0 dX4_askOf_67 rfl rfl ?_
      refine hv_iadd dX4_askOf_68 ?_
      refine hv_iconst (v := 0) dX4_askOf_69 (by decide) ?_
      obtain ⟨s11, e_s11, h⟩ := hq_ob h
      refine hm_iastore KM e_s11 (Nat.le_of_ble_eq_true rfl) rfl dX4_askOf_70 ?_
      refine hv_aload_n 1 dX4_askOf_71 rfl rfl ?_
      refine hm_getA (j := 8) KM (fl_X4_34) rfl (Nat.le_of_ble_eq_true rfl) dX4_askOf_72 ?_
      refine hv_iload_n 2 dX4_askOf_75 rfl rfl ?_
      refine hv_dup2 dX4_askOf_76 rfl rfl ?_
      obtain ⟨x12, e_x12, h⟩ := hq_ob h
      refine hm_iaload KM e_x12 (Nat.le_of_ble_eq_true rfl) rfl dX4_askOf_77 ?_
      refine hv_iconst (v := 1) dX4_askOf_78 (by decide) ?_
      refine hv_iadd dX4_askOf_79 ?_
      obtain ⟨s13, e_s13, h⟩ := hq_ob h
      refine hm_iastore KM e_s13 (Nat.le_of_ble_eq_true rfl) rfl dX4_askOf_80 ?_
      refine hv_sub [1, 2, 0] rfl ?_
      exact wk81 _ _ h
  clear e_k33
  refine hv_iload_n 2 dX4_askOf_0 rfl rfl ?_
  refine hv_callS [.int p2] [] [.int (m_isSmall p2)] (wk_m_isSmall rfl) cs_X4_202 rfl ⟨Nat.le_of_ble_eq_true rfl, Nat.le_of_ble_eq_true rfl⟩ rfl (Nat.le_of_ble_eq_true rfl) rfl dX4_askOf_1 ?_
  refine hv_if_ne (tgt := 9) dX4_askOf_4 (by decide) (fun c14 => ?_) (fun c14 => ?_)
  · replace h := hq_in c14 h
    refine hv_aload_n 0 dX4_askOf_9 rfl rfl ?_
    refine hv_iload_n 1 dX4_askOf_10 rfl rfl ?_
    refine hv_iload_n 2 dX4_askOf_11 rfl rfl ?_
    obtain ⟨x15, e_x15, h⟩ := hq_ob h
    refine hv_callV [.int p1, .int p2] [] [.int x15] (wk_m_pairAt KM e_x15) cs_X4_205 KM.recv rfl ⟨Nat.le_of_ble_eq_true rfl, Nat.le_of_ble_eq_true rfl⟩ rfl (Nat.le_of_ble_eq_true rfl) rfl dX4_askOf_12 ?_
    refine hv_istore_n (L' := [(3, .int x15), (0, .ref m0), (1, .int p1), (2, .int p2)]) dX4_askOf_15 rfl (Nat.le_of_ble_eq_true rfl) rfl ?_
    refine hv_iload_n 0 dX4_askOf_16 rfl rfl ?_
    refine hv_if_ge (tgt := 33) dX4_askOf_17 (by decide) (fun c16 => ?_) (fun c16 => ?_)
    · replace h := hq_ip c16 h
      refine hv_sub [1, 2, 3, 0] rfl ?_
      exact wk33 _ _ h
    · replace h := hq_in c16 h
      refine hv_aload_n 1 dX4_askOf_20 rfl rfl ?_
      refine hm_getA (j := 8) KM (fl_X4_34) rfl (Nat.le_of_ble_eq_true rfl) dX4_askOf_21 ?_
      refine hv_iload_n 2 dX4_askOf_24 rfl rfl ?_
      obtain ⟨x17, e_x17, h⟩ := hq_ob h
      refine hm_iaload KM e_x17 (Nat.le_of_ble_eq_true rfl) rfl dX4_askOf_25 ?_
      refine hv_bipush (v := 60) dX4_askOf_26 (by decide) ?_
      refine hv_icmp_ne (tgt := 33) dX4_askOf_28 (by decide) (fun c18 => ?_) (fun c18 => ?_)
      · replace h := hq_in c18 h
        refine hv_sub [1, 2, 3, 0] rfl ?_
        exact wk33 _ _ h
      · replace h := hq_ip c18 h
        refine hv_iconst (v := 0) dX4_askOf_31 (by decide) ?_
        obtain ⟨h1, h2⟩ := hq_ret h
        subst h1
        subst h2
        exact hv_iret rfl dX4_askOf_32
  · replace h := hq_ip c14 h
    refine hv_iconst (v := 0) dX4_askOf_7 (by decide) ?_
    obtain ⟨h1, h2⟩ := hq_ret h
    subst h1
    subst h2
    exact hv_iret rfl dX4_askOf_8
