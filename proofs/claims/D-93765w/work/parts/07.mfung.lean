set_option maxRecDepth 100000
def m_ordersFrom_L86b (rc_ordersFrom : Int32 → Int32 → Int32 → Int32 → Int32 → hk_Ms → Option hk_Ms) (p1 : Int32) (p2 : Int32) (p3 : Int32) (p4 : Int32) (p5 : Int32) (e0 : hk_Ms → Option hk_Ms) (rc : Int32 → hk_Ms → Option hk_Ms) (v2 : Int32) (s3 : hk_Ms) : Option hk_Ms :=
  if p2 ≤ v2 then
    e0 s3
  else
  if ((p4 >>> (v2 &&& 31)) &&& (1 : Int32)) = 0 then
    (hm_tI s3 23 5 p3 v2).bind fun s8 =>
  (rc_ordersFrom p1 p2 (p3 + (1 : Int32)) (p4 ||| ((1 : Int32) <<< (v2 &&& 31))) ((((10 : Int32) * p5) + v2) + (1 : Int32)) s8).bind fun s9 =>
  hk_nm (v2 + (1 : Int32)) fun x10 =>
  rc x10 s9
  else
  hk_nm (v2 + (1 : Int32)) fun x7 =>
    rc x7 s3
def m_ordersFrom_L86 (rc_ordersFrom : Int32 → Int32 → Int32 → Int32 → Int32 → hk_Ms → Option hk_Ms) (p1 : Int32) (p2 : Int32) (p3 : Int32) (p4 : Int32) (p5 : Int32) (e0 : hk_Ms → Option hk_Ms) : Nat → Int32 → hk_Ms → Option hk_Ms
  | 0 => fun _ _ => none
  | n + 1 => m_ordersFrom_L86b rc_ordersFrom p1 p2 p3 p4 p5 e0 (m_ordersFrom_L86 rc_ordersFrom p1 p2 p3 p4 p5 e0 n)
def m_ordersFrom_L11b (rc_ordersFrom : Int32 → Int32 → Int32 → Int32 → Int32 → hk_Ms → Option hk_Ms) (p1 : Int32) (p2 : Int32) (p3 : Int32) (p4 : Int32) (p5 : Int32) (e0 : Int32 → hk_Ms → Option hk_Ms) (rc : Int32 → Int32 → hk_Ms → Option hk_Ms) (v11 : Int32) (v12 : Int32) (s13 : hk_Ms) : Option hk_Ms :=
  if ((3 : Int32) * p2) ≤ v12 then
    e0 v11 s13
  else
  (hm_lI s13 23 5 (v12 / (3 : Int32))).bind fun x17 =>
  (hm_lI s13 21 8 x17).bind fun x18 =>
  (m_asksOne p1 x18 s13).bind fun q19 =>
  hk_nm (v11 + q19.1) fun x20 =>
  hk_nm (v12 + (1 : Int32)) fun x21 =>
  rc x20 x21 q19.2
def m_ordersFrom_L11 (rc_ordersFrom : Int32 → Int32 → Int32 → Int32 → Int32 → hk_Ms → Option hk_Ms) (p1 : Int32) (p2 : Int32) (p3 : Int32) (p4 : Int32) (p5 : Int32) (e0 : Int32 → hk_Ms → Option hk_Ms) : Nat → Int32 → Int32 → hk_Ms → Option hk_Ms
  | 0 => fun _ _ _ => none
  | n + 1 => m_ordersFrom_L11b rc_ordersFrom p1 p2 p3 p4 p5 e0 (m_ordersFrom_L11 rc_ordersFrom p1 p2 p3 p4 p5 e0 n)
def m_ordersFrom (rc_ordersFrom : Int32 → Int32 → Int32 → Int32 → Int32 → hk_Ms → Option hk_Ms) (p1 : Int32) (p2 : Int32) (p3 : Int32) (p4 : Int32) (p5 : Int32) (s0 : hk_Ms) : Option hk_Ms :=
  if p3 = p2 then
    m_ordersFrom_L11 rc_ordersFrom p1 p2 p3 p4 p5  (fun (v14 : Int32) (s15 : hk_Ms) =>
    (m_putsBack p1 s15).bind fun s22 =>
    if (hm_I s22 42) < 0 then
      hk_nm (hm_sI s22 42 v14) fun s24 =>
      hk_nm (hm_sI s24 43 p5) fun s25 =>
      some s25
    else
    if (hm_I s22 42) ≤ v14 then
      some s22
    else
    hk_nm (hm_sI s22 42 v14) fun s27 =>
    hk_nm (hm_sI s27 43 p5) fun s28 =>
    some s28) hk_F (0 : Int32) (0 : Int32) s0
  else
  m_ordersFrom_L86 rc_ordersFrom p1 p2 p3 p4 p5  (fun (s4 : hk_Ms) =>
      some s4) hk_F (0 : Int32) s0
abbrev N_m_ordersFrom (l : Launch) (fr lo : Nat) : hk_N := (l, cX4_ordersFrom, "HeadReckonsModel", 8, none, fr, lo, false)
set_option maxHeartbeats 4000000 in
theorem wk_m_ordersFrom_L86b {l : Launch} {Gd : hk_G} {m0 : Nat} {st : hk_St} (KM : hk_KM m0 st) {fr lo fr' lo' : Nat} (hroom : fr' + 1 ≤ fr ∧ lo' + 60 ≤ lo ∧ 300 ≤ fr ∧ 12000 ≤ lo) {rc_ordersFrom : Int32 → Int32 → Int32 → Int32 → Int32 → hk_Ms → Option hk_Ms} (h_ordersFrom : ∀ (b0 : Int32) (b1 : Int32) (b2 : Int32) (b3 : Int32) (b4 : Int32) (z : hk_Ms) (z2 : hk_Ms), rc_ordersFrom b0 b1 b2 b3 b4 z = some z2 → hk_Met Gd l yX4_ordersFrom cX4_ordersFrom 8 none fr' lo' [.ref m0, .int b0, .int b1, .int b2, .int b3, .int b4] (hk_mU m0 st z) none (hk_mU m0 st z2)) {p1 : Int32} {p2 : Int32} {p3 : Int32} {p4 : Int32} {p5 : Int32} {s0 : hk_Ms} {fin : hk_Ms} {e0 : hk_Ms → Option hk_Ms} {rc : Int32 → hk_Ms → Option hk_Ms} (hrc : ∀ (v2 : Int32) (s3 : hk_Ms), rc v2 s3 = some fin → hk_V Gd (N_m_ordersFrom l fr lo) (hk_end Gd (hk_mU m0 st s0) none (hk_mU m0 st fin)) 86 [(0, .ref m0), (1, .int p1), (2, .int p2), (3, .int p3), (4, .int p4), (5, .int p5), (6, .int v2)] [] (hk_mU m0 st s3)) (he0 : ∀ (s4 : hk_Ms), e0 s4 = some fin → hk_V Gd (N_m_ordersFrom l fr lo) (hk_end Gd (hk_mU m0 st s0) none (hk_mU m0 st fin)) 142 [] [] (hk_mU m0 st s4)) {v2 : Int32} {s3 : hk_Ms} (h : m_ordersFrom_L86b rc_ordersFrom p1 p2 p3 p4 p5 e0 rc v2 s3 = some fin) : hk_V Gd (N_m_ordersFrom l fr lo) (hk_end Gd (hk_mU m0 st s0) none (hk_mU m0 st fin)) 86 [(0, .ref m0), (1, .int p1), (2, .int p2), (3, .int p3), (4, .int p4), (5, .int p5), (6, .int v2)] [] (hk_mU m0 st s3) := by
  unfold m_ordersFrom_L86b at h
  refine hv_iload 6 dX4_ordersFrom_86 rfl ?_
  refine hv_iload_n 2 dX4_ordersFrom_88 rfl rfl ?_
  refine hv_icmp_ge (tgt := 142) dX4_ordersFrom_89 (by decide) (fun c5 => ?_) (fun c5 => ?_)
  · replace h := hq_ip c5 h
    refine hv_sub [] rfl ?_
    exact he0 _ h
  · replace h := hq_in c5 h
    refine hv_iload 4 dX4_ordersFrom_92 rfl ?_
    refine hv_iload 6 dX4_ordersFrom_94 rfl ?_
    refine hv_ishr dX4_ordersFrom_96 ?_
    refine hv_iconst (v := 1) dX4_ordersFrom_97 (by decide) ?_
    refine hv_iand dX4_ordersFrom_98 ?_
    refine hv_if_ne (tgt := 136) dX4_ordersFrom_99 (by decide) (fun c6 => ?_) (fun c6 => ?_)
    · replace h := hq_in c6 h
      obtain ⟨x7, e_x7, h⟩ := hq_nm h
      refine hv_iinc (v := x7) (L' := [(6, .int x7), (0, .ref m0), (1, .int p1), (2, .int p2), (3, .int p3), (4, .int p4), (5, .int p5)]) 6 dX4_ordersFrom_136 rfl (by rw [e_x7]; rfl) (Nat.le_of_ble_eq_true rfl) rfl ?_
      refine hv_goto (tgt := 86) dX4_ordersFrom_139 (by decide) ?_
      refine hv_sub [1, 2, 3, 4, 5, 6, 0] rfl ?_
      exact hrc _ _ h
    · replace h := hq_ip c6 h
      refine hv_aload_n 0 dX4_ordersFrom_102 rfl rfl ?_
      refine hm_getA (j := 23) KM (fl_X4_79) rfl (Nat.le_of_ble_eq_true rfl) dX4_ordersFrom_103 ?_
      refine hv_iload_n 3 dX4_ordersFrom_106 rfl rfl ?_
      refine hv_iload 6 dX4_ordersFrom_107 rfl ?_
      obtain ⟨s8, e_s8, h⟩ := hq_ob h
      refine hm_iastore KM e_s8 (Nat.le_of_ble_eq_true rfl) rfl dX4_ordersFrom_109 ?_
      refine hv_aload_n 0 dX4_ordersFrom_110 rfl rfl ?_
      refine hv_iload_n 1 dX4_ordersFrom_111 rfl rfl ?_
      refine hv_iload_n 2 dX4_ordersFrom_112 rfl rfl ?_
      refine hv_iload_n 3 dX4_ordersFrom_113 rfl rfl ?_
      refine hv_iconst (v := 1) dX4_ordersFrom_114 (by decide) ?_
      refine hv_iadd dX4_ordersFrom_115 ?_
      refine hv_iload 4 dX4_ordersFrom_116 rfl ?_
      refine hv_iconst (v := 1) dX4_ordersFrom_118 (by decide) ?_
      refine hv_iload 6 dX4_ordersFrom_119 rfl ?_
      refine hv_ishl dX4_ordersFrom_121 ?_
      refine hv_ior dX4_ordersFrom_122 ?_
      refine hv_bipush (v := 10) dX4_ordersFrom_123 (by decide) ?_
      refine hv_iload 5 dX4_ordersFrom_125 rfl ?_
      refine hv_imul dX4_ordersFrom_127 ?_
      refine hv_iload 6 dX4_ordersFrom_128 rfl ?_
      refine hv_iadd dX4_ordersFrom_130 ?_
      refine hv_iconst (v := 1) dX4_ordersFrom_131 (by decide) ?_
      refine hv_iadd dX4_ordersFrom_132 ?_
      obtain ⟨s9, e_s9, h⟩ := hq_ob h
      refine hv_callV [.int p1, .int p2, .int (p3 + (1 : Int32)), .int (p4 ||| ((1 : Int32) <<< (v2 &&& 31))), .int ((((10 : Int32) * p5) + v2) + (1 : Int32))] [] [] (h_ordersFrom _ _ _ _ _ _ _ e_s9) cs_X4_363 KM.recv rfl ⟨by show _ ≤ fr; omega, by show _ ≤ lo; omega⟩ rfl (Nat.le_of_ble_eq_true rfl) rfl dX4_ordersFrom_133 ?_
      obtain ⟨x10, e_x10, h⟩ := hq_nm h
      refine hv_iinc (v := x10) (L' := [(6, .int x10), (0, .ref m0), (1, .int p1), (2, .int p2), (3, .int p3), (4, .int p4), (5, .int p5)]) 6 dX4_ordersFrom_136 rfl (by rw [e_x10]; rfl) (Nat.le_of_ble_eq_true rfl) rfl ?_
      refine hv_goto (tgt := 86) dX4_ordersFrom_139 (by decide) ?_
      refine hv_sub [1, 2, 3, 4, 5, 6, 0] rfl ?_
      exact hrc _ _ h
theorem wk_m_ordersFrom_L86 {l : Launch} {Gd : hk_G} {m0 : Nat} {st : hk_St} (KM : hk_KM m0 st) {fr lo fr' lo' : Nat} (hroom : fr' + 1 ≤ fr ∧ lo' + 60 ≤ lo ∧ 300 ≤ fr ∧ 12000 ≤ lo) {rc_ordersFrom : Int32 → Int32 → Int32 → Int32 → Int32 → hk_Ms → Option hk_Ms} (h_ordersFrom : ∀ (b0 : Int32) (b1 : Int32) (b2 : Int32) (b3 : Int32) (b4 : Int32) (z : hk_Ms) (z2 : hk_Ms), rc_ordersFrom b0 b1 b2 b3 b4 z = some z2 → hk_Met Gd l yX4_ordersFrom cX4_ordersFrom 8 none fr' lo' [.ref m0, .int b0, .int b1, .int b2, .int b3, .int b4] (hk_mU m0 st z) none (hk_mU m0 st z2)) {p1 : Int32} {p2 : Int32} {p3 : Int32} {p4 : Int32} {p5 : Int32} {s0 : hk_Ms} {fin : hk_Ms} {e0 : hk_Ms → Option hk_Ms} (he0 : ∀ (s4 : hk_Ms), e0 s4 = some fin → hk_V Gd (N_m_ordersFrom l fr lo) (hk_end Gd (hk_mU m0 st s0) none (hk_mU m0 st fin)) 142 [] [] (hk_mU m0 st s4)) : ∀ (n : Nat) (v2 : Int32) (s3 : hk_Ms), m_ordersFrom_L86 rc_ordersFrom p1 p2 p3 p4 p5 e0 n v2 s3 = some fin → hk_V Gd (N_m_ordersFrom l fr lo) (hk_end Gd (hk_mU m0 st s0) none (hk_mU m0 st fin)) 86 [(0, .ref m0), (1, .int p1), (2, .int p2), (3, .int p3), (4, .int p4), (5, .int p5), (6, .int v2)] [] (hk_mU m0 st s3) := by
  intro n
  induction n with
  | zero => intro v2 s3 h; cases h
  | succ n ih => intro v2 s3 h; exact wk_m_ordersFrom_L86b KM hroom h_ordersFrom ih he0 h
set_option maxHeartbeats 4000000 in
theorem wk_m_ordersFrom_L11b {l : Launch} {Gd : hk_G} {m0 : Nat} {st : hk_St} (KM : hk_KM m0 st) {fr lo fr' lo' : Nat} (hroom : fr' + 1 ≤ fr ∧ lo' + 60 ≤ lo ∧ 300 ≤ fr ∧ 12000 ≤ lo) {rc_ordersFrom : Int32 → Int32 → Int32 → Int32 → Int32 → hk_Ms → Option hk_Ms} (h_ordersFrom : ∀ (b0 : Int32) (b1 : Int32) (b2 : Int32) (b3 : Int32) (b4 : Int32) (z : hk_Ms) (z2 : hk_Ms), rc_ordersFrom b0 b1 b2 b3 b4 z = some z2 → hk_Met Gd l yX4_ordersFrom cX4_ordersFrom 8 none fr' lo' [.ref m0, .int b0, .int b1, .int b2, .int b3, .int b4] (hk_mU m0 st z) none (hk_mU m0 st z2)) {p1 : Int32} {p2 : Int32} {p3 : Int32} {p4 : Int32} {p5 : Int32} {s0 : hk_Ms} {fin : hk_Ms} {e0 : Int32 → hk_Ms → Option hk_Ms} {rc : Int32 → Int32 → hk_Ms → Option hk_Ms} (hrc : ∀ (v11 : Int32) (v12 : Int32) (s13 : hk_Ms), rc v11 v12 s13 = some fin → hk_V Gd (N_m_ordersFrom l fr lo) (hk_end Gd (hk_mU m0 st s0) none (hk_mU m0 st fin)) 11 [(0, .ref m0), (1, .int p1), (2, .int p2), (5, .int p5), (6, .int v11), (7, .int v12)] [] (hk_mU m0 st s13)) (he0 : ∀ (v14 : Int32) (s15 : hk_Ms), e0 v14 s15 = some fin → hk_V Gd (N_m_ordersFrom l fr lo) (hk_end Gd (hk_mU m0 st s0) none (hk_mU m0 st fin)) 49 [(0, .ref m0), (1, .int p1), (5, .int p5), (6, .int v14)] [] (hk_mU m0 st s15)) {v11 : Int32} {v12 : Int32} {s13 : hk_Ms} (h : m_ordersFrom_L11b rc_ordersFrom p1 p2 p3 p4 p5 e0 rc v11 v12 s13 = some fin) : hk_V Gd (N_m_ordersFrom l fr lo) (hk_end Gd (hk_mU m0 st s0) none (hk_mU m0 st fin)) 11 [(0, .ref m0), (1, .int p1), (2, .int p2), (5, .int p5), (6, .int v11), (7, .int v12)] [] (hk_mU m0 st s13) := by
  unfold m_ordersFrom_L11b at h
  refine hv_iload 5 dX4_ordersFrom_11 rfl ?_
  refine hv_iconst (v := 3) dX4_ordersFrom_13 (by decide) ?_
  refine hv_iload_n 2 dX4_ordersFrom_14 rfl rfl ?_
  refine hv_imul dX4_ordersFrom_15 ?_
  refine hv_icmp_ge (tgt := 49) dX4_ordersFrom_16 (by decide) (fun c16 => ?_) (fun c16 => ?_)
  · replace h := hq_ip c16 h
    refine hv_sub [0, 1, 3, 4] rfl ?_
    exact he0 _ _ h
  · replace h := hq_in c16 h
    refine hv_iload 4 dX4_ordersFrom_19 rfl ?_
    refine hv_aload_n 0 dX4_ordersFrom_21 rfl rfl ?_
    refine hv_iload_n 1 dX4_ordersFrom_22 rfl rfl ?_
    refine hv_aload_n 0 dX4_ordersFrom_23 rfl rfl ?_
    refine hm_getA (j := 21) KM (fl_X4_73) rfl (Nat.le_of_ble_eq_true rfl) dX4_ordersFrom_24 ?_
    refine hv_aload_n 0 dX4_ordersFrom_27 rfl rfl ?_
    refine hm_getA (j := 23) KM (fl_X4_79) rfl (Nat.le_of_ble_eq_true rfl) dX4_ordersFrom_28 ?_
    refine hv_iload 5 dX4_ordersFrom_31 rfl ?_
    refine hv_iconst (v := 3) dX4_ordersFrom_33 (by decide) ?_
    refine hv_idiv (by decide) dX4_ordersFrom_34 ?_
    obtain ⟨x17, e_x17, h⟩ := hq_ob h
    refine hm_iaload KM e_x17 (Nat.le_of_ble_eq_true rfl) rfl dX4_ordersFrom_35 ?_
    obtain ⟨x18, e_x18, h⟩ := hq_ob h
    refine hm_iaload KM e_x18 (Nat.le_of_ble_eq_true rfl) rfl dX4_ordersFrom_36 ?_
    obtain ⟨q19, e_q19, h⟩ := hq_ob h
    refine hv_callV [.int p1, .int x18] [.int v11] [.int q19.1, .int v11] (wk_m_asksOne KM e_q19) cs_X4_351 KM.recv rfl ⟨by show _ ≤ fr; omega, by show _ ≤ lo; omega⟩ rfl (Nat.le_of_ble_eq_true rfl) rfl dX4_ordersFrom_37 ?_
    refine hv_iadd dX4_ordersFrom_40 ?_
    obtain ⟨x20, e_x20, h⟩ := hq_nm h
    rw [← e_x20]
    refine hv_istore (L' := [(6, .int x20), (0, .ref m0), (1, .int p1), (2, .int p2), (5, .int p5), (7, .int v12)]) dX4_ordersFrom_41 (Nat.le_of_ble_eq_true rfl) rfl ?_
    obtain ⟨x21, e_x21, h⟩ := hq_nm h
    refine hv_iinc (v := x21) (L' := [(7, .int x21), (6, .int x20), (0, .ref m0), (1, .int p1), (2, .int p2), (5, .int p5)]) 5 dX4_ordersFrom_43 rfl (by rw [e_x21]; rfl) (Nat.le_of_ble_eq_true rfl) rfl ?_
    refine hv_goto (tgt := 11) dX4_ordersFrom_46 (by decide) ?_
    refine hv_sub [2, 3, 4, 5, 1, 0] rfl ?_
    exact hrc _ _ _ h
theorem wk_m_ordersFrom_L11 {l : Launch} {Gd : hk_G} {m0 : Nat} {st : hk_St} (KM : hk_KM m0 st) {fr lo fr' lo' : Nat} (hroom : fr' + 1 ≤ fr ∧ lo' + 60 ≤ lo ∧ 300 ≤ fr ∧ 12000 ≤ lo) {rc_ordersFrom : Int32 → Int32 → Int32 → Int32 → Int32 → hk_Ms → Option hk_Ms} (h_ordersFrom : ∀ (b0 : Int32) (b1 : Int32) (b2 : Int32) (b3 : Int32) (b4 : Int32) (z : hk_Ms) (z2 : hk_Ms), rc_ordersFrom b0 b1 b2 b3 b4 z = some z2 → hk_Met Gd l yX4_ordersFrom cX4_ordersFrom 8 none fr' lo' [.ref m0, .int b0, .int b1, .int b2, .int b3, .int b4] (hk_mU m0 st z) none (hk_mU m0 st z2)) {p1 : Int32} {p2 : Int32} {p3 : Int32} {p4 : Int32} {p5 : Int32} {s0 : hk_Ms} {fin : hk_Ms} {e0 : Int32 → hk_Ms → Option hk_Ms} (he0 : ∀ (v14 : Int32) (s15 : hk_Ms), e0 v14 s15 = some fin → hk_V Gd (N_m_ordersFrom l fr lo) (hk_end Gd (hk_mU m0 st s0) none (hk_mU m0 st fin)) 49 [(0, .ref m0), (1, .int p1), (5, .int p5), (6, .int v14)] [] (hk_mU m0 st s15)) : ∀ (n : Nat) (v11 : Int32) (v12 : Int32) (s13 : hk_Ms), m_ordersFrom_L11 rc_ordersFrom p1 p2 p3 p4 p5 e0 n v11 v12 s13 = some fin → hk_V Gd (N_m_ordersFrom l fr lo) (hk_end Gd (hk_mU m0 st s0) none (hk_mU m0 st fin)) 11 [(0, .ref m0), (1, .int p1), (2, .int p2), (5, .int p5), (6, .int v11), (7, .int v12)] [] (hk_mU m0 st s13) := by
  intro n
  induction n with
  | zero => intro v11 v12 s13 h; cases h
  | succ n ih => intro v11 v12 s13 h; exact wk_m_ordersFrom_L11b KM hroom h_ordersFrom ih he0 h
set_option maxHeartbeats 4000000 in
theorem wk_m_ordersFrom {l : Launch} {Gd : hk_G} {m0 : Nat} {st : hk_St} (KM : hk_KM m0 st) {fr lo fr' lo' : Nat} (hroom : fr' + 1 ≤ fr ∧ lo' + 60 ≤ lo ∧ 300 ≤ fr ∧ 12000 ≤ lo) {rc_ordersFrom : Int32 → Int32 → Int32 → Int32 → Int32 → hk_Ms → Option hk_Ms} (h_ordersFrom : ∀ (b0 : Int32) (b1 : Int32) (b2 : Int32) (b3 : Int32) (b4 : Int32) (z : hk_Ms) (z2 : hk_Ms), rc_ordersFrom b0 b1 b2 b3 b4 z = some z2 → hk_Met Gd l yX4_ordersFrom cX4_ordersFrom 8 none fr' lo' [.ref m0, .int b0, .int b1, .int b2, .int b3, .int b4] (hk_mU m0 st z) none (hk_mU m0 st z2)) {p1 : Int32} {p2 : Int32} {p3 : Int32} {p4 : Int32} {p5 : Int32} {s0 : hk_Ms} {fin : hk_Ms} (h : m_ordersFrom rc_ordersFrom p1 p2 p3 p4 p5 s0 = some fin) : hk_Met Gd l yX4_ordersFrom cX4_ordersFrom 8 none fr lo [.ref m0, .int p1, .int p2, .int p3, .int p4, .int p5] (hk_mU m0 st s0) none (hk_mU m0 st fin) := by
  refine hk_start "HeadReckonsModel" false (by decide +kernel) rfl (by decide) (Nat.le_of_ble_eq_true rfl) ?_
  show hk_V Gd (N_m_ordersFrom l fr lo) (hk_end Gd (hk_mU m0 st s0) none (hk_mU m0 st fin)) 0 [(0, .ref m0), (1, .int p1), (2, .int p2), (3, .int p3), (4, .int p4), (5, .int p5)] [] (hk_mU m0 st s0)
  unfold m_ordersFrom at h
  refine hv_iload_n 3 dX4_ordersFrom_0 rfl rfl ?_
  refine hv_iload_n 2 dX4_ordersFrom_1 rfl rfl ?_
  refine hv_icmp_ne (tgt := 83) dX4_ordersFrom_2 (by decide) (fun c1 => ?_) (fun c1 => ?_)
  · replace h := hq_in c1 h
    refine hv_iconst (v := 0) dX4_ordersFrom_83 (by decide) ?_
    refine hv_istore (L' := [(6, .int (0 : Int32)), (0, .ref m0), (1, .int p1), (2, .int p2), (3, .int p3), (4, .int p4), (5, .int p5)]) dX4_ordersFrom_84 (Nat.le_of_ble_eq_true rfl) rfl ?_
    refine hv_sub [1, 2, 3, 4, 5, 6, 0] rfl ?_
    refine wk_m_ordersFrom_L86 KM hroom h_ordersFrom ?_ hk_F _ _ h
    · intro s4 h
      have h := Option.some.inj h
      subst h
      exact hv_vret rfl dX4_ordersFrom_142
  · replace h := hq_ip c1 h
    refine hv_iconst (v := 0) dX4_ordersFrom_5 (by decide) ?_
    refine hv_istore (L' := [(6, .int (0 : Int32)), (0, .ref m0), (1, .int p1), (2, .int p2), (3, .int p3), (4, .int p4), (5, .int p5)]) dX4_ordersFrom_6 (Nat.le_of_ble_eq_true rfl) rfl ?_
    refine hv_iconst (v := 0) dX4_ordersFrom_8 (by decide) ?_
    refine hv_istore (L' := [(7, .int (0 : Int32)), (6, .int (0 : Int32)), (0, .ref m0), (1, .int p1), (2, .int p2), (3, .int p3), (4, .int p4), (5, .int p5)]) dX4_ordersFrom_9 (Nat.le_of_ble_eq_true rfl) rfl ?_
    refine hv_sub [2, 3, 4, 7, 1, 0] rfl ?_
    refine wk_m_ordersFrom_L11 KM hroom h_ordersFrom ?_ hk_F _ _ _ h
    · intro v14 s15 h
      refine hv_aload_n 0 dX4_ordersFrom_49 rfl rfl ?_
      refine hv_iload_n 1 dX4_ordersFrom_50 rfl rfl ?_
      obtain ⟨s22, e_s22, h⟩ := hq_ob h
      refine hv_callV [.int p1] [] [] (wk_m_putsBack KM e_s22) cs_X4_354 KM.recv rfl ⟨by show _ ≤ fr; omega, by show _ ≤ lo; omega⟩ rfl (Nat.le_of_ble_eq_true rfl) rfl dX4_ordersFrom_51 ?_
      refine hv_aload_n 0 dX4_ordersFrom_54 rfl rfl ?_
      refine hm_getI (f := 42) KM (fl_X4_357) dX4_ordersFrom_55 ?_
      refine hv_if_lt (tgt := 70) dX4_ordersFrom_58 (by decide) (fun c23 => ?_) (fun c23 => ?_)
      · replace h := hq_ip c23 h
        refine hv_aload_n 0 dX4_ordersFrom_70 rfl rfl ?_
        refine hv_iload 3 dX4_ordersFrom_71 rfl ?_
        obtain ⟨s24, e_s24, h⟩ := hq_nm h
        refine hm_putI (f := 42) KM (fp_X4_357) e_s24 dX4_ordersFrom_73 ?_
        refine hv_aload_n 0 dX4_ordersFrom_76 rfl rfl ?_
        refine hv_iload 2 dX4_ordersFrom_77 rfl ?_
        obtain ⟨s25, e_s25, h⟩ := hq_nm h
        refine hm_putI (f := 43) KM (fp_X4_360) e_s25 dX4_ordersFrom_79 ?_
        have h := Option.some.inj h
        subst h
        exact hv_vret rfl dX4_ordersFrom_82
      · replace h := hq_in c23 h
        refine hv_iload 3 dX4_ordersFrom_61 rfl ?_
        refine hv_aload_n 0 dX4_ordersFrom_63 rfl rfl ?_
        refine hm_getI (f := 42) KM (fl_X4_357) dX4_ordersFrom_64 ?_
        refine hv_icmp_ge (tgt := 82) dX4_ordersFrom_67 (by decide) (fun c26 => ?_) (fun c26 => ?_)
        · replace h := hq_ip c26 h
          have h := Option.some.inj h
          subst h
          exact hv_vret rfl dX4_ordersFrom_82
        · replace h := hq_in c26 h
          refine hv_aload_n 0 dX4_ordersFrom_70 rfl rfl ?_
          refine hv_iload 3 dX4_ordersFrom_71 rfl ?_
          obtain ⟨s27, e_s27, h⟩ := hq_nm h
          refine hm_putI (f := 42) KM (fp_X4_357) e_s27 dX4_ordersFrom_73 ?_
          refine hv_aload_n 0 dX4_ordersFrom_76 rfl rfl ?_
          refine hv_iload 2 dX4_ordersFrom_77 rfl ?_
          obtain ⟨s28, e_s28, h⟩ := hq_nm h
          refine hm_putI (f := 43) KM (fp_X4_360) e_s28 dX4_ordersFrom_79 ?_
          have h := Option.some.inj h
          subst h
          exact hv_vret rfl dX4_ordersFrom_82
def g_ordersFrom : Nat → Int32 → Int32 → Int32 → Int32 → Int32 → hk_Ms → Option hk_Ms
  | 0 => fun _ _ _ _ _ _ => none
  | d + 1 => m_ordersFrom (g_ordersFrom d)
theorem wk_gA_ordersFrom {l : Launch} {Gd : hk_G} {m0 : Nat} {st : hk_St} (KM : hk_KM m0 st) : ∀ d : Nat, (∀ (b0 : Int32) (b1 : Int32) (b2 : Int32) (b3 : Int32) (b4 : Int32) (z : hk_Ms) (z2 : hk_Ms), g_ordersFrom d b0 b1 b2 b3 b4 z = some z2 → hk_Met Gd l yX4_ordersFrom cX4_ordersFrom 8 none (300 + d) (12000 + 60 * d) [.ref m0, .int b0, .int b1, .int b2, .int b3, .int b4] (hk_mU m0 st z) none (hk_mU m0 st z2)) := by
  intro d
  induction d with
  | zero => skip; (intros; rename_i h; cases h)
  | succ d ih =>
    exact fun _ _ _ _ _ _ _ h => wk_m_ordersFrom KM ⟨by omega, by omega, by omega, by omega⟩ ih h
theorem wk_g_ordersFrom_ordersFrom {l : Launch} {Gd : hk_G} {m0 : Nat} {st : hk_St} (KM : hk_KM m0 st) {b0 : Int32} {b1 : Int32} {b2 : Int32} {b3 : Int32} {b4 : Int32} {z : hk_Ms} {z2 : hk_Ms} (h : g_ordersFrom 8 b0 b1 b2 b3 b4 z = some z2) : hk_Met Gd l yX4_ordersFrom cX4_ordersFrom 8 none 308 12480 [.ref m0, .int b0, .int b1, .int b2, .int b3, .int b4] (hk_mU m0 st z) none (hk_mU m0 st z2) :=
  (wk_gA_ordersFrom KM 8) _ _ _ _ _ _ _ h
def m_first (p1 : Int32) (p2 : Int32) (s0 : hk_Ms) : Option (Int32 × hk_Ms) :=
  hk_nm (fun (v1 : Int32) (s2 : hk_Ms) =>
    ((g_ordersFrom 8) p1 v1 (0 : Int32) (0 : Int32) (0 : Int32) s2).bind fun s3 =>
    if p2 = 0 then
      some ((hm_I s3 43), s3)
    else
    some ((hm_I s3 42), s3)) fun k65 =>
  (m_isHead p1 s0).bind fun x5 =>
  if x5 = 0 then
    some ((-1 : Int32), s0)
  else
  if (m_within p2.toInt64 (0 : Int64) (1 : Int64)) = 0 then
    some ((-1 : Int32), s0)
  else
  (m_isListBad  s0).bind fun x8 =>
  if x8 = 0 then
    if (hm_I s0 37) = 0 then
      some ((-5 : Int32), s0)
    else
    (m_keeps p1 s0).bind fun s11 =>
      hk_nm (hm_sI s11 42 (-1 : Int32)) fun s12 =>
      if (5 : Int32) ≤ (hm_I s12 37) then
        k65 (5 : Int32) s12
      else
      k65 (hm_I s12 37) s12
  else
  some ((-1 : Int32), s0)
abbrev N_m_first (l : Launch) : hk_N := (l, cX4_first, "HeadReckonsModel", 3, (some .int), 309, 12507, false)
set_option maxHeartbeats 4000000 in
theorem wk_m_first {l : Launch} {Gd : hk_G} {m0 : Nat} {st : hk_St} (KM : hk_KM m0 st) {p1 : Int32} {p2 : Int32} {s0 : hk_Ms} {r : Int32} {fin : hk_Ms} (h : m_first p1 p2 s0 = some (r, fin)) : hk_Met Gd l yX4_first cX4_first 3 (some .int) 309 12507 [.ref m0, .int p1, .int p2] (hk_mU m0 st s0) (some (.int r)) (hk_mU m0 st fin) := by
  refine hk_start "HeadReckonsModel" false (by decide +kernel) rfl (by decide) (Nat.le_of_ble_eq_true rfl) ?_
  show hk_V Gd (N_m_first l) (hk_end Gd (hk_mU m0 st s0) (some (.int r)) (hk_mU m0 st fin)) 0 [(0, .ref m0), (1, .int p1), (2, .int p2)] [] (hk_mU m0 st s0)
  unfold m_first at h
  obtain ⟨k65, e_k65, h⟩ := hq_nm h
  have wk65 : ∀ (v1 : Int32) (s2 : hk_Ms), k65 v1 s2 = some (r, fin) → hk_V Gd (N_m_first l) (hk_end Gd (hk_mU m0 st s0) (some (.int r)) (hk_mU m0 st fin)) 65 [(0, .ref m0), (2, .int p2)] [.int v1, .int p1, .ref m0] (hk_mU m0 st s2) := by
    intro v1 s2 h
    rw [e_k65] at h
    refine hv_iconst (v := 0) dX4_first_65 (by decide) ?_
    refine hv_iconst (v := 0) dX4_first_66 (by decide) ?_
    refine hv_iconst (v := 0) dX4_first_67 (by decide) ?_
    obtain ⟨s3, e_s3, h⟩ := hq_ob h
    refine hv_callV [.int p1, .int v1, .int (0 : Int32), .int (0 : Int32), .int (0 : Int32)] [] [] (wk_g_ordersFrom_ordersFrom KM e_s3) cs_X4_363 KM.recv rfl ⟨Nat.le_of_ble_eq_true rfl, Nat.le_of_ble_eq_true rfl⟩ rfl (Nat.le_of_ble_eq_true rfl) rfl dX4_first_68 ?_
    refine hv_iload_n 1 dX4_first_71 rfl rfl ?_
    refine hv_if_ne (tgt := 82) dX4_first_72 (by decide) (fun c4 => ?_) (fun c4 => ?_)
    · replace h := hq_in c4 h
      refine hv_aload_n 0 dX4_first_82 rfl rfl ?_
      refine hm_getI (f := 42) KM (fl_X4_357) dX4_first_83 ?_
      obtain ⟨h1, h2⟩ := hq_ret h
      subst h1
      subst h2
      exact hv_iret rfl dX4_first_86
    · replace h := hq_ip c4 h
      refine hv_aload_n 0 dX4_first_75 rfl rfl ?_
      refine hm_getI (f := 43) KM (fl_X4_360) dX4_first_76 ?_
      refine hv_goto (tgt := 86) dX4_first_79 (by decide) ?_
      obtain ⟨h1, h2⟩ := hq_ret h
      subst h1
      subst h2
      exact hv_iret rfl dX4_first_86
  clear e_k65
  refine hv_aload_n 0 dX4_first_0 rfl rfl ?_
  refine hv_iload_n 1 dX4_first_1 rfl rfl ?_
  obtain ⟨x5, e_x5, h⟩ := hq_ob h
  refine hv_callV [.int p1] [] [.int x5] (wk_m_isHead KM e_x5) cs_X4_188 KM.recv rfl ⟨Nat.le_of_ble_eq_true rfl, Nat.le_of_ble_eq_true rfl⟩ rfl (Nat.le_of_ble_eq_true rfl) rfl dX4_first_2 ?_
  refine hv_if_eq (tgt := 25) dX4_first_5 (by decide) (fun c6 => ?_) (fun c6 => ?_)
  · replace h := hq_ip c6 h
    refine hv_iconst (v := -1) dX4_first_25 (by decide) ?_
    obtain ⟨h1, h2⟩ := hq_ret h
    subst h1
    subst h2
    exact hv_iret rfl dX4_first_26
  · replace h := hq_in c6 h
    refine hv_iload_n 2 dX4_first_8 rfl rfl ?_
    refine hv_i2l dX4_first_9 ?_
    refine hv_lconst (v := 0) dX4_first_10 (by decide) ?_
    refine hv_lconst (v := 1) dX4_first_11 (by decide) ?_
    refine hv_callS [.long p2.toInt64, .long (0 : Int64), .long (1 : Int64)] [] [.int (m_within p2.toInt64 (0 : Int64) (1 : Int64))] (wk_m_within rfl) cs_X4_113 rfl ⟨Nat.le_of_ble_eq_true rfl, Nat.le_of_ble_eq_true rfl⟩ rfl (Nat.le_of_ble_eq_true rfl) rfl dX4_first_12 ?_
    refine hv_if_eq (tgt := 25) dX4_first_15 (by decide) (fun c7 => ?_) (fun c7 => ?_)
    · replace h := hq_ip c7 h
      refine hv_iconst (v := -1) dX4_first_25 (by decide) ?_
      obtain ⟨h1, h2⟩ := hq_ret h
      subst h1
      subst h2
      exact hv_iret rfl dX4_first_26
    · replace h := hq_in c7 h
      refine hv_aload_n 0 dX4_first_18 rfl rfl ?_
      obtain ⟨x8, e_x8, h⟩ := hq_ob h
      refine hv_callV [] [] [.int x8] (wk_m_isListBad KM e_x8) cs_X4_343 KM.recv rfl ⟨Nat.le_of_ble_eq_true rfl, Nat.le_of_ble_eq_true rfl⟩ rfl (Nat.le_of_ble_eq_true rfl) rfl dX4_first_19 ?_
      refine hv_if_eq (tgt := 27) dX4_first_22 (by decide) (fun c9 => ?_) (fun c9 => ?_)
      · replace h := hq_ip c9 h
        refine hv_aload_n 0 dX4_first_27 rfl rfl ?_
        refine hm_getI (f := 37) KM (fl_X4_333) dX4_first_28 ?_
        refine hv_if_ne (tgt := 37) dX4_first_31 (by decide) (fun c10 => ?_) (fun c10 => ?_)
        · replace h := hq_in c10 h
          refine hv_aload_n 0 dX4_first_37 rfl rfl ?_
          refine hv_iload_n 1 dX4_first_38 rfl rfl ?_
          obtain ⟨s11, e_s11, h⟩ := hq_ob h
          refine hv_callV [.int p1] [] [] (wk_m_keeps KM e_s11) cs_X4_347 KM.recv rfl ⟨Nat.le_of_ble_eq_true rfl, Nat.le_of_ble_eq_true rfl⟩ rfl (Nat.le_of_ble_eq_true rfl) rfl dX4_first_39 ?_
          refine hv_aload_n 0 dX4_first_42 rfl rfl ?_
          refine hv_iconst (v := -1) dX4_first_43 (by decide) ?_
          obtain ⟨s12, e_s12, h⟩ := hq_nm h
          refine hm_putI (f := 42) KM (fp_X4_357) e_s12 dX4_first_44 ?_
          refine hv_aload_n 0 dX4_first_47 rfl rfl ?_
          refine hv_iload_n 1 dX4_first_48 rfl rfl ?_
          refine hv_aload_n 0 dX4_first_49 rfl rfl ?_
          refine hm_getI (f := 37) KM (fl_X4_333) dX4_first_50 ?_
          refine hv_iconst (v := 5) dX4_first_53 (by decide) ?_
          refine hv_icmp_ge (tgt := 64) dX4_first_54 (by decide) (fun c13 => ?_) (fun c13 => ?_)
          · replace h := hq_ip c13 h
            refine hv_iconst (v := 5) dX4_first_64 (by decide) ?_
            refine hv_sub [0, 2] rfl ?_
            exact wk65 _ _ h
          · replace h := hq_in c13 h
            refine hv_aload_n 0 dX4_first_57 rfl rfl ?_
            refine hm_getI (f := 37) KM (fl_X4_333) dX4_first_58 ?_
            refine hv_goto (tgt := 65) dX4_first_61 (by decide) ?_
            refine hv_sub [0, 2] rfl ?_
            exact wk65 _ _ h
        · replace h := hq_ip c10 h
          refine hv_bipush (v := -5) dX4_first_34 (by decide) ?_
          obtain ⟨h1, h2⟩ := hq_ret h
          subst h1
          subst h2
          exact hv_iret rfl dX4_first_36
      · replace h := hq_in c9 h
        refine hv_iconst (v := -1) dX4_first_25 (by decide) ?_
        obtain ⟨h1, h2⟩ := hq_ret h
        subst h1
        subst h2
        exact hv_iret rfl dX4_first_26
def m_isPower (p1 : Int32) : Int32 :=
  if p1 = (2 : Int32) then
    (1 : Int32)
  else
  if p1 = (3 : Int32) then
    (1 : Int32)
  else
  if p1 = (5 : Int32) then
    (1 : Int32)
  else
  (0 : Int32)
theorem bz_m_isPower {p1 : Int32} : m_isPower p1 &&& 1 = m_isPower p1 := by
  unfold m_isPower
  try unfold hk_nm
  repeat' split
  all_goals first | rfl
abbrev N_m_isPower (l : Launch) : hk_N := (l, cX4_isPower, "HeadReckonsModel", 1, (some .boolean), 0, 0, false)
set_option maxHeartbeats 4000000 in
theorem wk_m_isPower {l : Launch} {Gd : hk_G} {st : hk_St} {p1 : Int32} {r : Int32} (h : m_isPower p1 = r) : hk_Met Gd l yX4_isPower cX4_isPower 1 (some .boolean) 0 0 [.int p1] st (some (.int r)) st := by
  refine hk_start "HeadReckonsModel" false (by decide +kernel) rfl (by decide) (Nat.le_of_ble_eq_true rfl) ?_
  show hk_V Gd (N_m_isPower l) (hk_end Gd st (some (.int r)) st) 0 [(0, .int p1)] [] st
  unfold m_isPower at h
  refine hv_iload_n 0 dX4_isPower_0 rfl rfl ?_
  refine hv_iconst (v := 2) dX4_isPower_1 (by decide) ?_
  refine hv_icmp_eq (tgt := 15) dX4_isPower_2 (by decide) (fun c1 => ?_) (fun c1 => ?_)
  · replace h := hq_ip c1 h
    refine hv_iconst (v := 1) dX4_isPower_15 (by decide) ?_
    refine hv_goto (tgt := 20) dX4_isPower_16 (by decide) ?_
    subst h
    exact hv_zret (ty := .boolean) rfl rfl dX4_isPower_20
  · replace h := hq_in c1 h
    refine hv_iload_n 0 dX4_isPower_5 rfl rfl ?_
    refine hv_iconst (v := 3) dX4_isPower_6 (by decide) ?_
    refine hv_icmp_eq (tgt := 15) dX4_isPower_7 (by decide) (fun c2 => ?_) (fun c2 => ?_)
    · replace h := hq_ip c2 h
      refine hv_iconst (v := 1) dX4_isPower_15 (by decide) ?_
      refine hv_goto (tgt := 20) dX4_isPower_16 (by decide) ?_
      subst h
      exact hv_zret (ty := .boolean) rfl rfl dX4_isPower_20
    · replace h := hq_in c2 h
      refine hv_iload_n 0 dX4_isPower_10 rfl rfl ?_
      refine hv_iconst (v := 5) dX4_isPower_11 (by decide) ?_
      refine hv_icmp_ne (tgt := 19) dX4_isPower_12 (by decide) (fun c3 => ?_) (fun c3 => ?_)
      · replace h := hq_in c3 h
        refine hv_iconst (v := 0) dX4_isPower_19 (by decide) ?_
        subst h
        exact hv_zret (ty := .boolean) rfl rfl dX4_isPower_20
      · replace h := hq_ip c3 h
        refine hv_iconst (v := 1) dX4_isPower_15 (by decide) ?_
        refine hv_goto (tgt := 20) dX4_isPower_16 (by decide) ?_
        subst h
        exact hv_zret (ty := .boolean) rfl rfl dX4_isPower_20
def m_isNumber (p1 : Int64) (p2 : Int32) : Int32 :=
  if (m_within p1 (1 : Int64) (999999999999999999 : Int64)) = 0 then
    (0 : Int32)
  else
  if (m_isPower p2) = 0 then
    (0 : Int32)
  else
  (1 : Int32)
theorem bz_m_isNumber {p1 : Int64} {p2 : Int32} : m_isNumber p1 p2 &&& 1 = m_isNumber p1 p2 := by
  unfold m_isNumber
  try unfold hk_nm
  repeat' split
  all_goals first | rfl | exact bz_m_isPower | exact bz_m_within
abbrev N_m_isNumber (l : Launch) : hk_N := (l, cX4_isNumber, "HeadReckonsModel", 3, (some .boolean), 1, 25, false)
set_option maxHeartbeats 4000000 in
theorem wk_m_isNumber {l : Launch} {Gd : hk_G} {st : hk_St} {p1 : Int64} {p2 : Int32} {r : Int32} (h : m_isNumber p1 p2 = r) : hk_Met Gd l yX4_isNumber cX4_isNumber 3 (some .boolean) 1 25 [.long p1, .int p2] st (some (.int r)) st := by
  refine hk_start "HeadReckonsModel" false (by decide +kernel) rfl (by decide) (Nat.le_of_ble_eq_true rfl) ?_
  show hk_V Gd (N_m_isNumber l) (hk_end Gd st (some (.int r)) st) 0 [(0, .long p1), (2, .int p2)] [] st
  unfold m_isNumber at h
  refine hv_lload_n 0 dX4_isNumber_0 rfl rfl ?_
  refine hv_lconst (v := 1) dX4_isNumber_1 (by decide) ?_
  refine hv_ldc2 q2097 dX4_isNumber_2 ?_
  refine hv_callS [.long p1, .long (1 : Int64), .long (999999999999999999 : Int64)] [] [.int (m_within p1 (1 : Int64) (999999999999999999 : Int64))] (wk_m_within rfl) cs_X4_113 rfl ⟨Nat.le_of_ble_eq_true rfl, Nat.le_of_ble_eq_true rfl⟩ rfl (Nat.le_of_ble_eq_true rfl) rfl dX4_isNumber_5 ?_
  refine hv_if_eq (tgt := 22) dX4_isNumber_8 (by decide) (fun c1 => ?_) (fun c1 => ?_)
  · replace h := hq_ip c1 h
    refine hv_iconst (v := 0) dX4_isNumber_22 (by decide) ?_
    subst h
    exact hv_zret (ty := .boolean) rfl rfl dX4_isNumber_23
  · replace h := hq_in c1 h
    refine hv_iload_n 1 dX4_isNumber_11 rfl rfl ?_
    refine hv_callS [.int p2] [] [.int (m_isPower p2)] (wk_m_isPower rfl) cs_X4_377 rfl ⟨Nat.le_of_ble_eq_true rfl, Nat.le_of_ble_eq_true rfl⟩ rfl (Nat.le_of_ble_eq_true rfl) rfl dX4_isNumber_12 ?_
    refine hv_if_eq (tgt := 22) dX4_isNumber_15 (by decide) (fun c2 => ?_) (fun c2 => ?_)
    · replace h := hq_ip c2 h
      refine hv_iconst (v := 0) dX4_isNumber_22 (by decide) ?_
      subst h
      exact hv_zret (ty := .boolean) rfl rfl dX4_isNumber_23
    · replace h := hq_in c2 h
      refine hv_iconst (v := 1) dX4_isNumber_18 (by decide) ?_
      refine hv_goto (tgt := 23) dX4_isNumber_19 (by decide) ?_
      subst h
      exact hv_zret (ty := .boolean) rfl rfl dX4_isNumber_23
def m_powerOf_L5b (p1 : Int64) (p2 : Int32) (e0 : Int64 → Option (Int64)) (rc : Int64 → Int32 → Option (Int64)) (v1 : Int64) (v2 : Int32) : Option (Int64) :=
  if p2 ≤ v2 then
    e0 v1
  else
  hk_gd (decide (¬ p1 = 0)) <|
  if v1 ≤ ((999999999999999999 : Int64) / p1) then
    hk_nm (v1 * p1) fun x7 =>
    hk_nm (v2 + (1 : Int32)) fun x8 =>
    rc x7 x8
  else
  some (1000000000000000000 : Int64)
def m_powerOf_L5 (p1 : Int64) (p2 : Int32) (e0 : Int64 → Option (Int64)) : Nat → Int64 → Int32 → Option (Int64)
  | 0 => fun _ _ => none
  | n + 1 => m_powerOf_L5b p1 p2 e0 (m_powerOf_L5 p1 p2 e0 n)
def m_powerOf (p1 : Int64) (p2 : Int32) : Option (Int64) :=
  m_powerOf_L5 p1 p2  (fun (v3 : Int64) =>
    some v3) hk_F (1 : Int64) (0 : Int32) 
abbrev N_m_powerOf (l : Launch) : hk_N := (l, cX4_powerOf, "HeadReckonsModel", 6, (some .long), 0, 0, false)
set_option maxHeartbeats 4000000 in
theorem wk_m_powerOf_L5b {l : Launch} {Gd : hk_G} {st : hk_St} {p1 : Int64} {p2 : Int32} {r : Int64} {e0 : Int64 → Option (Int64)} {rc : Int64 → Int32 → Option (Int64)} (hrc : ∀ (v1 : Int64) (v2 : Int32), rc v1 v2 = some r → hk_V Gd (N_m_powerOf l) (hk_end Gd st (some (.long r)) st) 5 [(0, .long p1), (2, .int p2), (3, .long v1), (5, .int v2)] [] st) (he0 : ∀ (v3 : Int64), e0 v3 = some r → hk_V Gd (N_m_powerOf l) (hk_end Gd st (some (.long r)) st) 35 [(3, .long v3)] [] st) {v1 : Int64} {v2 : Int32} (h : m_powerOf_L5b p1 p2 e0 rc v1 v2 = some r) : hk_V Gd (N_m_powerOf l) (hk_end Gd st (some (.long r)) st) 5 [(0, .long p1), (2, .int p2), (3, .long v1), (5, .int v2)] [] st := by
  unfold m_powerOf_L5b at h
  refine hv_iload 3 dX4_powerOf_5 rfl ?_
  refine hv_iload_n 1 dX4_powerOf_7 rfl rfl ?_
  refine hv_icmp_ge (tgt := 35) dX4_powerOf_8 (by decide) (fun c4 => ?_) (fun c4 => ?_)
  · replace h := hq_ip c4 h
    refine hv_sub [2] rfl ?_
    exact he0 _ h
  · replace h := hq_in c4 h
    refine hv_lload_n 2 dX4_powerOf_11 rfl rfl ?_
    refine hv_ldc2 q2097 dX4_powerOf_12 ?_
    refine hv_lload_n 0 dX4_powerOf_15 rfl rfl ?_
    obtain ⟨g5, h⟩ := hq_gd h
    refine hv_ldiv (of_decide_eq_true g5) dX4_powerOf_16 ?_
    refine hv_lcmp_le (tgt := 25) dX4_powerOf_17 dX4_powerOf_18 (by decide) (fun c6 => ?_) (fun c6 => ?_)
    · replace h := hq_ip c6 h
      refine hv_lload_n 2 dX4_powerOf_25 rfl rfl ?_
      refine hv_lload_n 0 dX4_powerOf_26 rfl rfl ?_
      refine hv_lmul dX4_powerOf_27 ?_
      obtain ⟨x7, e_x7, h⟩ := hq_nm h
      rw [← e_x7]
      refine hv_lstore_n (L' := [(3, .long x7), (0, .long p1), (2, .int p2), (5, .int v2)]) dX4_powerOf_28 rfl (Nat.le_of_ble_eq_true rfl) rfl ?_
      obtain ⟨x8, e_x8, h⟩ := hq_nm h
      refine hv_iinc (v := x8) (L' := [(5, .int x8), (3, .long x7), (0, .long p1), (2, .int p2)]) 3 dX4_powerOf_29 rfl (by rw [e_x8]; rfl) (Nat.le_of_ble_eq_true rfl) rfl ?_
      refine hv_goto (tgt := 5) dX4_powerOf_32 (by decide) ?_
      refine hv_sub [2, 3, 1, 0] rfl ?_
      exact hrc _ _ h
    · replace h := hq_in c6 h
      refine hv_ldc2 q2111 dX4_powerOf_21 ?_
      have h := Option.some.inj h
      subst h
      exact hv_lret rfl dX4_powerOf_24
theorem wk_m_powerOf_L5 {l : Launch} {Gd : hk_G} {st : hk_St} {p1 : Int64} {p2 : Int32} {r : Int64} {e0 : Int64 → Option (Int64)} (he0 : ∀ (v3 : Int64), e0 v3 = some r → hk_V Gd (N_m_powerOf l) (hk_end Gd st (some (.long r)) st) 35 [(3, .long v3)] [] st) : ∀ (n : Nat) (v1 : Int64) (v2 : Int32), m_powerOf_L5 p1 p2 e0 n v1 v2 = some r → hk_V Gd (N_m_powerOf l) (hk_end Gd st (some (.long r)) st) 5 [(0, .long p1), (2, .int p2), (3, .long v1), (5, .int v2)] [] st := by
  intro n
  induction n with
  | zero => intro v1 v2 h; cases h
  | succ n ih => intro v1 v2 h; exact wk_m_powerOf_L5b  ih he0 h
set_option maxHeartbeats 4000000 in
theorem wk_m_powerOf {l : Launch} {Gd : hk_G} {st : hk_St} {p1 : Int64} {p2 : Int32} {r : Int64} (h : m_powerOf p1 p2 = some r) : hk_Met Gd l yX4_powerOf cX4_powerOf 6 (some .long) 0 0 [.long p1, .int p2] st (some (.long r)) st := by
  refine hk_start "HeadReckonsModel" false (by decide +kernel) rfl (by decide) (Nat.le_of_ble_eq_true rfl) ?_
  show hk_V Gd (N_m_powerOf l) (hk_end Gd st (some (.long r)) st) 0 [(0, .long p1), (2, .int p2)] [] st
  unfold m_powerOf at h
  refine hv_lconst (v := 1) dX4_powerOf_0 (by decide) ?_
  refine hv_lstore_n (L' := [(3, .long (1 : Int64)), (0, .long p1), (2, .int p2)]) dX4_powerOf_1 rfl (Nat.le_of_ble_eq_true rfl) rfl ?_
  refine hv_iconst (v := 0) dX4_powerOf_2 (by decide) ?_
  refine hv_istore (L' := [(5, .int (0 : Int32)), (3, .long (1 : Int64)), (0, .long p1), (2, .int p2)]) dX4_powerOf_3 (Nat.le_of_ble_eq_true rfl) rfl ?_
  refine hv_sub [2, 3, 1, 0] rfl ?_
  refine wk_m_powerOf_L5  ?_ hk_F _ _ h
  · intro v3 h
    refine hv_lload_n 0 dX4_powerOf_35 rfl rfl ?_
    have h := Option.some.inj h
    subst h
    exact hv_lret rfl dX4_powerOf_36
def m_leastOf_L7b (p1 : Int64) (p2 : Int32) (e0 : Int64 → Option (Int64)) (rc : Int64 → Int64 → Option (Int64)) (v1 : Int64) (v2 : Int64) : Option (Int64) :=
  if (v2 - v1) ≤ (1 : Int64) then
    e0 v2
  else
  hk_nm ((v1 + v2) / (2 : Int64)) fun x5 =>
  (m_powerOf x5 p2).bind fun x6 =>
  if x6 < p1 then
    rc x5 v2
  else
  rc v1 x5
def m_leastOf_L7 (p1 : Int64) (p2 : Int32) (e0 : Int64 → Option (Int64)) : Nat → Int64 → Int64 → Option (Int64)
  | 0 => fun _ _ => none
  | n + 1 => m_leastOf_L7b p1 p2 e0 (m_leastOf_L7 p1 p2 e0 n)
def m_leastOf (p1 : Int64) (p2 : Int32) : Option (Int64) :=
  m_leastOf_L7 p1 p2  (fun (v3 : Int64) =>
    some v3) hk_F (0 : Int64) (1000000001 : Int64) 
abbrev N_m_leastOf (l : Launch) : hk_N := (l, cX4_leastOf, "HeadReckonsModel", 9, (some .long), 1, 25, false)
set_option maxHeartbeats 4000000 in
theorem wk_m_leastOf_L7b {l : Launch} {Gd : hk_G} {st : hk_St} {p1 : Int64} {p2 : Int32} {r : Int64} {e0 : Int64 → Option (Int64)} {rc : Int64 → Int64 → Option (Int64)} (hrc : ∀ (v1 : Int64) (v2 : Int64), rc v1 v2 = some r → hk_V Gd (N_m_leastOf l) (hk_end Gd st (some (.long r)) st) 7 [(0, .long p1), (2, .int p2), (3, .long v1), (5, .long v2)] [] st) (he0 : ∀ (v3 : Int64), e0 v3 = some r → hk_V Gd (N_m_leastOf l) (hk_end Gd st (some (.long r)) st) 50 [(5, .long v3)] [] st) {v1 : Int64} {v2 : Int64} (h : m_leastOf_L7b p1 p2 e0 rc v1 v2 = some r) : hk_V Gd (N_m_leastOf l) (hk_end Gd st (some (.long r)) st) 7 [(0, .long p1), (2, .int p2), (3, .long v1), (5, .long v2)] [] st := by
  unfold m_leastOf_L7b at h
  refine hv_lload 3 dX4_leastOf_7 rfl ?_
  refine hv_lload_n 2 dX4_leastOf_9 rfl rfl ?_
  refine hv_lsub dX4_leastOf_10 ?_
  refine hv_lconst (v := 1) dX4_leastOf_11 (by decide) ?_
  refine hv_lcmp_le (tgt := 50) dX4_leastOf_12 dX4_leastOf_13 (by decide) (fun c4 => ?_) (fun c4 => ?_)
  · replace h := hq_ip c4 h
    refine hv_sub [3] rfl ?_
    exact he0 _ h
  · replace h := hq_in c4 h
    refine hv_lload_n 2 dX4_leastOf_16 rfl rfl ?_
    refine hv_lload 3 dX4_leastOf_17 rfl ?_
    refine hv_ladd dX4_leastOf_19 ?_
    refine hv_ldc2 q1896 dX4_leastOf_20 ?_
    refine hv_ldiv (by decide) dX4_leastOf_23 ?_
    obtain ⟨x5, e_x5, h⟩ := hq_nm h
    rw [← e_x5]
    refine hv_lstore (L' := [(7, .long x5), (0, .long p1), (2, .int p2), (3, .long v1), (5, .long v2)]) dX4_leastOf_24 (Nat.le_of_ble_eq_true rfl) rfl ?_
    refine hv_lload 0 dX4_leastOf_26 rfl ?_
    refine hv_iload_n 2 dX4_leastOf_28 rfl rfl ?_
    obtain ⟨x6, e_x6, h⟩ := hq_ob h
    refine hv_callS [.long x5, .int p2] [] [.long x6] (wk_m_powerOf e_x6) cs_X4_373 rfl ⟨Nat.le_of_ble_eq_true rfl, Nat.le_of_ble_eq_true rfl⟩ rfl (Nat.le_of_ble_eq_true rfl) rfl dX4_leastOf_29 ?_
    refine hv_lload_n 1 dX4_leastOf_32 rfl rfl ?_
    refine hv_lcmp_lt (tgt := 44) dX4_leastOf_33 dX4_leastOf_34 (by decide) (fun c7 => ?_) (fun c7 => ?_)
    · replace h := hq_ip c7 h
      refine hv_lload 0 dX4_leastOf_44 rfl ?_
      refine hv_lstore_n (L' := [(3, .long x5), (7, .long x5), (0, .long p1), (2, .int p2), (5, .long v2)]) dX4_leastOf_46 rfl (Nat.le_of_ble_eq_true rfl) rfl ?_
      refine hv_goto (tgt := 7) dX4_leastOf_47 (by decide) ?_
      refine hv_sub [2, 3, 0, 4] rfl ?_
      exact hrc _ _ h
    · replace h := hq_in c7 h
      refine hv_lload 0 dX4_leastOf_37 rfl ?_
      refine hv_lstore (L' := [(5, .long x5), (7, .long x5), (0, .long p1), (2, .int p2), (3, .long v1)]) dX4_leastOf_39 (Nat.le_of_ble_eq_true rfl) rfl ?_
      refine hv_goto (tgt := 47) dX4_leastOf_41 (by decide) ?_
      refine hv_goto (tgt := 7) dX4_leastOf_47 (by decide) ?_
      refine hv_sub [2, 3, 4, 0] rfl ?_
      exact hrc _ _ h
theorem wk_m_leastOf_L7 {l : Launch} {Gd : hk_G} {st : hk_St} {p1 : Int64} {p2 : Int32} {r : Int64} {e0 : Int64 → Option (Int64)} (he0 : ∀ (v3 : Int64), e0 v3 = some r → hk_V Gd (N_m_leastOf l) (hk_end Gd st (some (.long r)) st) 50 [(5, .long v3)] [] st) : ∀ (n : Nat) (v1 : Int64) (v2 : Int64), m_leastOf_L7 p1 p2 e0 n v1 v2 = some r → hk_V Gd (N_m_leastOf l) (hk_end Gd st (some (.long r)) st) 7 [(0, .long p1), (2, .int p2), (3, .long v1), (5, .long v2)] [] st := by
  intro n
  induction n with
  | zero => intro v1 v2 h; cases h
  | succ n ih => intro v1 v2 h; exact wk_m_leastOf_L7b  ih he0 h
set_option maxHeartbeats 4000000 in
theorem wk_m_leastOf {l : Launch} {Gd : hk_G} {st : hk_St} {p1 : Int64} {p2 : Int32} {r : Int64} (h : m_leastOf p1 p2 = some r) : hk_Met Gd l yX4_leastOf cX4_leastOf 9 (some .long) 1 25 [.long p1, .int p2] st (some (.long r)) st := by
  refine hk_start "HeadReckonsModel" false (by decide +kernel) rfl (by decide) (Nat.le_of_ble_eq_true rfl) ?_
  show hk_V Gd (N_m_leastOf l) (hk_end Gd st (some (.long r)) st) 0 [(0, .long p1), (2, .int p2)] [] st
  unfold m_leastOf at h
  refine hv_lconst (v := 0) dX4_leastOf_0 (by decide) ?_
  refine hv_lstore_n (L' := [(3, .long (0 : Int64)), (0, .long p1), (2, .int p2)]) dX4_leastOf_1 rfl (Nat.le_of_ble_eq_true rfl) rfl ?_
  refine hv_ldc2 q2107 dX4_leastOf_2 ?_
  refine hv_lstore (L' := [(5, .long (1000000001 : Int64)), (3, .long (0 : Int64)), (0, .long p1), (2, .int p2)]) dX4_leastOf_5 (Nat.le_of_ble_eq_true rfl) rfl ?_
  refine hv_sub [2, 3, 1, 0] rfl ?_
  refine wk_m_leastOf_L7  ?_ hk_F _ _ h
  · intro v3 h
    refine hv_lload 0 dX4_leastOf_50 rfl ?_
    have h := Option.some.inj h
    subst h
    exact hv_lret rfl dX4_leastOf_52
def m_rootOf (p1 : Int64) (p2 : Int32) : Option (Int32) :=
  (m_leastOf p1 p2).bind fun x1 =>
  (m_powerOf x1 p2).bind fun x2 =>
  if x2 = p1 then
    some x1.toInt32
  else
  some (0 : Int32)
abbrev N_m_rootOf (l : Launch) : hk_N := (l, cX4_rootOf, "HeadReckonsModel", 5, (some .int), 2, 53, false)
set_option maxHeartbeats 4000000 in
theorem wk_m_rootOf {l : Launch} {Gd : hk_G} {st : hk_St} {p1 : Int64} {p2 : Int32} {r : Int32} (h : m_rootOf p1 p2 = some r) : hk_Met Gd l yX4_rootOf cX4_rootOf 5 (some .int) 2 53 [.long p1, .int p2] st (some (.int r)) st := by
  refine hk_start "HeadReckonsModel" false (by decide +kernel) rfl (by decide) (Nat.le_of_ble_eq_true rfl) ?_
  show hk_V Gd (N_m_rootOf l) (hk_end Gd st (some (.int r)) st) 0 [(0, .long p1), (2, .int p2)] [] st
  unfold m_rootOf at h
  refine hv_lload_n 0 dX4_rootOf_0 rfl rfl ?_
  refine hv_iload_n 1 dX4_rootOf_1 rfl rfl ?_
  obtain ⟨x1, e_x1, h⟩ := hq_ob h
  refine hv_callS [.long p1, .int p2] [] [.long x1] (wk_m_leastOf e_x1) cs_X4_380 rfl ⟨Nat.le_of_ble_eq_true rfl, Nat.le_of_ble_eq_true rfl⟩ rfl (Nat.le_of_ble_eq_true rfl) rfl dX4_rootOf_2 ?_
  refine hv_lstore_n (L' := [(3, .long x1), (0, .long p1), (2, .int p2)]) dX4_rootOf_5 rfl (Nat.le_of_ble_eq_true rfl) rfl ?_
  refine hv_lload_n 0 dX4_rootOf_6 rfl rfl ?_
  refine hv_iload_n 2 dX4_rootOf_7 rfl rfl ?_
  obtain ⟨x2, e_x2, h⟩ := hq_ob h
  refine hv_callS [.long x1, .int p2] [] [.long x2] (wk_m_powerOf e_x2) cs_X4_373 rfl ⟨Nat.le_of_ble_eq_true rfl, Nat.le_of_ble_eq_true rfl⟩ rfl (Nat.le_of_ble_eq_true rfl) rfl dX4_rootOf_8 ?_
  refine hv_lload_n 1 dX4_rootOf_11 rfl rfl ?_
  refine hv_lcmp_ne (tgt := 21) dX4_rootOf_12 dX4_rootOf_13 (by decide) (fun c3 => ?_) (fun c3 => ?_)
  · replace h := hq_in c3 h
    refine hv_iconst (v := 0) dX4_rootOf_21 (by decide) ?_
    have h := Option.some.inj h
    subst h
    exact hv_iret rfl dX4_rootOf_22
  · replace h := hq_ip c3 h
    refine hv_lload_n 0 dX4_rootOf_16 rfl rfl ?_
    refine hv_l2i dX4_rootOf_17 ?_
    refine hv_goto (tgt := 22) dX4_rootOf_18 (by decide) ?_
    have h := Option.some.inj h
    subst h
    exact hv_iret rfl dX4_rootOf_22
def m_root (th : Nat) (p1 : Int64) (p2 : Int32) : Option (Int32) :=
  if (m_isNumber p1 p2) = 0 then
    some (-1 : Int32)
  else
  (m_rootOf p1 p2).bind fun x2 =>
  some x2
abbrev N_m_root (l : Launch) : hk_N := (l, cX4_root, "HeadReckonsModel", 4, (some .int), 3, 77, false)
set_option maxHeartbeats 4000000 in
theorem wk_m_root {l : Launch} {Gd : hk_G} {st : hk_St} {th : Nat} {p1 : Int64} {p2 : Int32} {r : Int32} (h : m_root th p1 p2 = some r) : hk_Met Gd l yX4_root cX4_root 4 (some .int) 3 77 [.ref th, .long p1, .int p2] st (some (.int r)) st := by
  refine hk_start "HeadReckonsModel" false (by decide +kernel) rfl (by decide) (Nat.le_of_ble_eq_true rfl) ?_
  show hk_V Gd (N_m_root l) (hk_end Gd st (some (.int r)) st) 0 [(0, .ref th), (1, .long p1), (3, .int p2)] [] st
  unfold m_root at h
  refine hv_lload_n 1 dX4_root_0 rfl rfl ?_
  refine hv_iload_n 2 dX4_root_1 rfl rfl ?_
  refine hv_callS [.long p1, .int p2] [] [.int (m_isNumber p1 p2)] (wk_m_isNumber rfl) cs_X4_383 rfl ⟨Nat.le_of_ble_eq_true rfl, Nat.le_of_ble_eq_true rfl⟩ rfl (Nat.le_of_ble_eq_true rfl) rfl dX4_root_2 ?_
  refine hv_if_eq (tgt := 16) dX4_root_5 (by decide) (fun c1 => ?_) (fun c1 => ?_)
  · replace h := hq_ip c1 h
    refine hv_iconst (v := -1) dX4_root_16 (by decide) ?_
    have h := Option.some.inj h
    subst h
    exact hv_iret rfl dX4_root_17
  · replace h := hq_in c1 h
    refine hv_lload_n 1 dX4_root_8 rfl rfl ?_
    refine hv_iload_n 2 dX4_root_9 rfl rfl ?_
    obtain ⟨x2, e_x2, h⟩ := hq_ob h
    refine hv_callS [.long p1, .int p2] [] [.int x2] (wk_m_rootOf e_x2) cs_X4_387 rfl ⟨Nat.le_of_ble_eq_true rfl, Nat.le_of_ble_eq_true rfl⟩ rfl (Nat.le_of_ble_eq_true rfl) rfl dX4_root_10 ?_
    refine hv_goto (tgt := 17) dX4_root_13 (by decide) ?_
    have h := Option.some.inj h
    subst h
    exact hv_iret rfl dX4_root_17
def m_digitsOf_L4b (p1 : Int64) (e0 : Int32 → Option (Int32)) (rc : Int32 → Int64 → Option (Int32)) (v1 : Int32) (v2 : Int64) : Option (Int32) :=
  if v2 ≤ (0 : Int64) then
    e0 v1
  else
  hk_nm (v1 + (1 : Int32)) fun x5 =>
  hk_nm (v2 / (10 : Int64)) fun x6 =>
  rc x5 x6
def m_digitsOf_L4 (p1 : Int64) (e0 : Int32 → Option (Int32)) : Nat → Int32 → Int64 → Option (Int32)
  | 0 => fun _ _ => none
  | n + 1 => m_digitsOf_L4b p1 e0 (m_digitsOf_L4 p1 e0 n)
def m_digitsOf (p1 : Int64) : Option (Int32) :=
  m_digitsOf_L4 p1  (fun (v3 : Int32) =>
    some v3) hk_F (0 : Int32) p1 
abbrev N_m_digitsOf (l : Launch) : hk_N := (l, cX4_digitsOf, "HeadReckonsModel", 5, (some .int), 0, 0, false)
set_option maxHeartbeats 4000000 in
theorem wk_m_digitsOf_L4b {l : Launch} {Gd : hk_G} {st : hk_St} {p1 : Int64} {r : Int32} {e0 : Int32 → Option (Int32)} {rc : Int32 → Int64 → Option (Int32)} (hrc : ∀ (v1 : Int32) (v2 : Int64), rc v1 v2 = some r → hk_V Gd (N_m_digitsOf l) (hk_end Gd st (some (.int r)) st) 4 [(2, .int v1), (3, .long v2)] [] st) (he0 : ∀ (v3 : Int32), e0 v3 = some r → hk_V Gd (N_m_digitsOf l) (hk_end Gd st (some (.int r)) st) 22 [(2, .int v3)] [] st) {v1 : Int32} {v2 : Int64} (h : m_digitsOf_L4b p1 e0 rc v1 v2 = some r) : hk_V Gd (N_m_digitsOf l) (hk_end Gd st (some (.int r)) st) 4 [(2, .int v1), (3, .long v2)] [] st := by
  unfold m_digitsOf_L4b at h
  refine hv_lload_n 1 dX4_digitsOf_4 rfl rfl ?_
  refine hv_lconst (v := 0) dX4_digitsOf_5 (by decide) ?_
  refine hv_lcmp_le (tgt := 22) dX4_digitsOf_6 dX4_digitsOf_7 (by decide) (fun c4 => ?_) (fun c4 => ?_)
  · replace h := hq_ip c4 h
    refine hv_sub [0] rfl ?_
    exact he0 _ h
  · replace h := hq_in c4 h
    obtain ⟨x5, e_x5, h⟩ := hq_nm h
    refine hv_iinc (v := x5) (L' := [(2, .int x5), (3, .long v2)]) 0 dX4_digitsOf_10 rfl (by rw [e_x5]; rfl) (Nat.le_of_ble_eq_true rfl) rfl ?_
    refine hv_lload_n 1 dX4_digitsOf_13 rfl rfl ?_
    refine hv_ldc2 q2119 dX4_digitsOf_14 ?_
    refine hv_ldiv (by decide) dX4_digitsOf_17 ?_
    obtain ⟨x6, e_x6, h⟩ := hq_nm h
    rw [← e_x6]
    refine hv_lstore_n (L' := [(3, .long x6), (2, .int x5)]) dX4_digitsOf_18 rfl (Nat.le_of_ble_eq_true rfl) rfl ?_
    refine hv_goto (tgt := 4) dX4_digitsOf_19 (by decide) ?_
    refine hv_sub [1, 0] rfl ?_
    exact hrc _ _ h
theorem wk_m_digitsOf_L4 {l : Launch} {Gd : hk_G} {st : hk_St} {p1 : Int64} {r : Int32} {e0 : Int32 → Option (Int32)} (he0 : ∀ (v3 : Int32), e0 v3 = some r → hk_V Gd (N_m_digitsOf l) (hk_end Gd st (some (.int r)) st) 22 [(2, .int v3)] [] st) : ∀ (n : Nat) (v1 : Int32) (v2 : Int64), m_digitsOf_L4 p1 e0 n v1 v2 = some r → hk_V Gd (N_m_digitsOf l) (hk_end Gd st (some (.int r)) st) 4 [(2, .int v1), (3, .long v2)] [] st := by
  intro n
  induction n with
  | zero => intro v1 v2 h; cases h
  | succ n ih => intro v1 v2 h; exact wk_m_digitsOf_L4b  ih he0 h
set_option maxHeartbeats 4000000 in
theorem wk_m_digitsOf {l : Launch} {Gd : hk_G} {st : hk_St} {p1 : Int64} {r : Int32} (h : m_digitsOf p1 = some r) : hk_Met Gd l yX4_digitsOf cX4_digitsOf 5 (some .int) 0 0 [.long p1] st (some (.int r)) st := by
  refine hk_start "HeadReckonsModel" false (by decide +kernel) rfl (by decide) (Nat.le_of_ble_eq_true rfl) ?_
  show hk_V Gd (N_m_digitsOf l) (hk_end Gd st (some (.int r)) st) 0 [(0, .long p1)] [] st
  unfold m_digitsOf at h
  refine hv_iconst (v := 0) dX4_digitsOf_0 (by decide) ?_
  refine hv_istore_n (L' := [(2, .int (0 : Int32)), (0, .long p1)]) dX4_digitsOf_1 rfl (Nat.le_of_ble_eq_true rfl) rfl ?_
  refine hv_lload_n 1 dX4_digitsOf_2 rfl rfl ?_
  refine hv_lstore_n (L' := [(3, .long p1), (2, .int (0 : Int32)), (0, .long p1)]) dX4_digitsOf_3 rfl (Nat.le_of_ble_eq_true rfl) rfl ?_
  refine hv_sub [1, 0] rfl ?_
  refine wk_m_digitsOf_L4  ?_ hk_F _ _ h
  · intro v3 h
    refine hv_iload_n 0 dX4_digitsOf_22 rfl rfl ?_
    have h := Option.some.inj h
    subst h
    exact hv_iret rfl dX4_digitsOf_23
def m_lastOf_L4b (p1 : Int32) (p2 : Int32) (e0 : Int32 → Option (Int32)) (rc : Int32 → Int32 → Option (Int32)) (v1 : Int32) (v2 : Int32) : Option (Int32) :=
  if p2 ≤ v2 then
    e0 v1
  else
  hk_nm ((v1 * p1) - (v1 * p1) / (10 : Int32) * (10 : Int32)) fun x5 =>
  hk_nm (v2 + (1 : Int32)) fun x6 =>
  rc x5 x6
def m_lastOf_L4 (p1 : Int32) (p2 : Int32) (e0 : Int32 → Option (Int32)) : Nat → Int32 → Int32 → Option (Int32)
  | 0 => fun _ _ => none
  | n + 1 => m_lastOf_L4b p1 p2 e0 (m_lastOf_L4 p1 p2 e0 n)
def m_lastOf (p1 : Int32) (p2 : Int32) : Option (Int32) :=
  m_lastOf_L4 p1 p2  (fun (v3 : Int32) =>
    some v3) hk_F (1 : Int32) (0 : Int32) 
abbrev N_m_lastOf (l : Launch) : hk_N := (l, cX4_lastOf, "HeadReckonsModel", 4, (some .int), 0, 0, false)
set_option maxHeartbeats 4000000 in
theorem wk_m_lastOf_L4b {l : Launch} {Gd : hk_G} {st : hk_St} {p1 : Int32} {p2 : Int32} {r : Int32} {e0 : Int32 → Option (Int32)} {rc : Int32 → Int32 → Option (Int32)} (hrc : ∀ (v1 : Int32) (v2 : Int32), rc v1 v2 = some r → hk_V Gd (N_m_lastOf l) (hk_end Gd st (some (.int r)) st) 4 [(0, .int p1), (1, .int p2), (2, .int v1), (3, .int v2)] [] st) (he0 : ∀ (v3 : Int32), e0 v3 = some r → hk_V Gd (N_m_lastOf l) (hk_end Gd st (some (.int r)) st) 22 [(2, .int v3)] [] st) {v1 : Int32} {v2 : Int32} (h : m_lastOf_L4b p1 p2 e0 rc v1 v2 = some r) : hk_V Gd (N_m_lastOf l) (hk_end Gd st (some (.int r)) st) 4 [(0, .int p1), (1, .int p2), (2, .int v1), (3, .int v2)] [] st := by
  unfold m_lastOf_L4b at h
  refine hv_iload_n 3 dX4_lastOf_4 rfl rfl ?_
  refine hv_iload_n 1 dX4_lastOf_5 rfl rfl ?_
  refine hv_icmp_ge (tgt := 22) dX4_lastOf_6 (by decide) (fun c4 => ?_) (fun c4 => ?_)
  · replace h := hq_ip c4 h
    refine hv_sub [2] rfl ?_
    exact he0 _ h
  · replace h := hq_in c4 h
    refine hv_iload_n 2 dX4_lastOf_9 rfl rfl ?_
    refine hv_iload_n 0 dX4_lastOf_10 rfl rfl ?_
    refine hv_imul dX4_lastOf_11 ?_
    refine hv_bipush (v := 10) dX4_lastOf_12 (by decide) ?_
    refine hv_irem (by decide) dX4_lastOf_14 ?_
    obtain ⟨x5, e_x5, h⟩ := hq_nm h
    rw [← e_x5]
    refine hv_istore_n (L' := [(2, .int x5), (0, .int p1), (1, .int p2), (3, .int v2)]) dX4_lastOf_15 rfl (Nat.le_of_ble_eq_true rfl) rfl ?_
    obtain ⟨x6, e_x6, h⟩ := hq_nm h
    refine hv_iinc (v := x6) (L' := [(3, .int x6), (2, .int x5), (0, .int p1), (1, .int p2)]) 3 dX4_lastOf_16 rfl (by rw [e_x6]; rfl) (Nat.le_of_ble_eq_true rfl) rfl ?_
    refine hv_goto (tgt := 4) dX4_lastOf_19 (by decide) ?_
    refine hv_sub [2, 3, 1, 0] rfl ?_
    exact hrc _ _ h
theorem wk_m_lastOf_L4 {l : Launch} {Gd : hk_G} {st : hk_St} {p1 : Int32} {p2 : Int32} {r : Int32} {e0 : Int32 → Option (Int32)} (he0 : ∀ (v3 : Int32), e0 v3 = some r → hk_V Gd (N_m_lastOf l) (hk_end Gd st (some (.int r)) st) 22 [(2, .int v3)] [] st) : ∀ (n : Nat) (v1 : Int32) (v2 : Int32), m_lastOf_L4 p1 p2 e0 n v1 v2 = some r → hk_V Gd (N_m_lastOf l) (hk_end Gd st (some (.int r)) st) 4 [(0, .int p1), (1, .int p2), (2, .int v1), (3, .int v2)] [] st := by
  intro n
  induction n with
  | zero => intro v1 v2 h; cases h
  | succ n ih => intro v1 v2 h; exact wk_m_lastOf_L4b  ih he0 h
set_option maxHeartbeats 4000000 in
theorem wk_m_lastOf {l : Launch} {Gd : hk_G} {st : hk_St} {p1 : Int32} {p2 : Int32} {r : Int32} (h : m_lastOf p1 p2 = some r) : hk_Met Gd l yX4_lastOf cX4_lastOf 4 (some .int) 0 0 [.int p1, .int p2] st (some (.int r)) st := by
  refine hk_start "HeadReckonsModel" false (by decide +kernel) rfl (by decide) (Nat.le_of_ble_eq_true rfl) ?_
  show hk_V Gd (N_m_lastOf l) (hk_end Gd st (some (.int r)) st) 0 [(0, .int p1), (1, .int p2)] [] st
  unfold m_lastOf at h
  refine hv_iconst (v := 1) dX4_lastOf_0 (by decide) ?_
  refine hv_istore_n (L' := [(2, .int (1 : Int32)), (0, .int p1), (1, .int p2)]) dX4_lastOf_1 rfl (Nat.le_of_ble_eq_true rfl) rfl ?_
  refine hv_iconst (v := 0) dX4_lastOf_2 (by decide) ?_
  refine hv_istore_n (L' := [(3, .int (0 : Int32)), (2, .int (1 : Int32)), (0, .int p1), (1, .int p2)]) dX4_lastOf_3 rfl (Nat.le_of_ble_eq_true rfl) rfl ?_
  refine hv_sub [2, 3, 1, 0] rfl ?_
  refine wk_m_lastOf_L4  ?_ hk_F _ _ h
  · intro v3 h
    refine hv_iload_n 0 dX4_lastOf_22 rfl rfl ?_
    have h := Option.some.inj h
    subst h
    exact hv_iret rfl dX4_lastOf_23
def m_endingBelow (p1 : Int64) (p2 : Int32) : Int64 :=
  if p2.toInt64 < p1 then
    (((p1 - (1 : Int64)) - p2.toInt64) / (10 : Int64)) + (1 : Int64)
  else
  (0 : Int64)
abbrev N_m_endingBelow (l : Launch) : hk_N := (l, cX4_endingBelow, "HeadReckonsModel", 3, (some .long), 0, 0, false)
set_option maxHeartbeats 4000000 in
theorem wk_m_endingBelow {l : Launch} {Gd : hk_G} {st : hk_St} {p1 : Int64} {p2 : Int32} {r : Int64} (h : m_endingBelow p1 p2 = r) : hk_Met Gd l yX4_endingBelow cX4_endingBelow 3 (some .long) 0 0 [.long p1, .int p2] st (some (.long r)) st := by
  refine hk_start "HeadReckonsModel" false (by decide +kernel) rfl (by decide) (Nat.le_of_ble_eq_true rfl) ?_
  show hk_V Gd (N_m_endingBelow l) (hk_end Gd st (some (.long r)) st) 0 [(0, .long p1), (2, .int p2)] [] st
  unfold m_endingBelow at h
  refine hv_lload_n 0 dX4_endingBelow_0 rfl rfl ?_
  refine hv_iload_n 1 dX4_endingBelow_1 rfl rfl ?_
  refine hv_i2l dX4_endingBelow_2 ?_
  refine hv_lcmp_gt (tgt := 11) dX4_endingBelow_3 dX4_endingBelow_4 (by decide) (fun c1 => ?_) (fun c1 => ?_)
  · replace h := hq_ip c1 h
    refine hv_lload_n 0 dX4_endingBelow_11 rfl rfl ?_
    refine hv_lconst (v := 1) dX4_endingBelow_12 (by decide) ?_
    refine hv_lsub dX4_endingBelow_13 ?_
    refine hv_iload_n 1 dX4_endingBelow_14 rfl rfl ?_
    refine hv_i2l dX4_endingBelow_15 ?_
    refine hv_lsub dX4_endingBelow_16 ?_
    refine hv_ldc2 q2119 dX4_endingBelow_17 ?_
    refine hv_ldiv (by decide) dX4_endingBelow_20 ?_
    refine hv_lconst (v := 1) dX4_endingBelow_21 (by decide) ?_
    refine hv_ladd dX4_endingBelow_22 ?_
    subst h
    exact hv_lret rfl dX4_endingBelow_23
  · replace h := hq_in c1 h
    refine hv_lconst (v := 0) dX4_endingBelow_7 (by decide) ?_
    refine hv_goto (tgt := 23) dX4_endingBelow_8 (by decide) ?_
    subst h
    exact hv_lret rfl dX4_endingBelow_23
def m_manyFirsts_L131b (p1 : Int64) (p2 : Int32) (p3 : Int32) (v6 : Int64) (v7 : Int64) (v8 : Int32) (e0 : Int64 → hk_Ms → Option (Int64 × hk_Ms)) (rc : Int64 → Int32 → hk_Ms → Option (Int64 × hk_Ms)) (v9 : Int64) (v10 : Int32) (s11 : hk_Ms) : Option (Int64 × hk_Ms) :=
  if (10 : Int32) ≤ v10 then
    e0 v9 s11
  else
  (m_lastOf v10 p2).bind fun x15 =>
  if x15 = v8 then
    hk_nm (v9 + ((m_endingBelow v7 v10) - (m_endingBelow v6 v10))) fun x17 =>
    hk_nm (v6 + ((((v10.toInt64 - v6) - (v10.toInt64 - v6) / (10 : Int64) * (10 : Int64)) + (10 : Int64)) - (((v10.toInt64 - v6) - (v10.toInt64 - v6) / (10 : Int64) * (10 : Int64)) + (10 : Int64)) / (10 : Int64) * (10 : Int64))) fun x18 =>
    if v7 ≤ x18 then
      hk_nm (v10 + (1 : Int32)) fun x20 =>
      rc x17 x20 s11
    else
    if (hm_L s11 44) = (0 : Int64) then
      hk_nm (hm_sL s11 44 x18) fun s22 =>
      hk_nm (v10 + (1 : Int32)) fun x23 =>
      rc x17 x23 s22
    else
    if (hm_L s11 44) ≤ x18 then
      hk_nm (v10 + (1 : Int32)) fun x25 =>
      rc x17 x25 s11
    else
    hk_nm (hm_sL s11 44 x18) fun s26 =>
    hk_nm (v10 + (1 : Int32)) fun x27 =>
    rc x17 x27 s26
  else
  hk_nm (v10 + (1 : Int32)) fun x28 =>
  rc v9 x28 s11
def m_manyFirsts_L131 (p1 : Int64) (p2 : Int32) (p3 : Int32) (v6 : Int64) (v7 : Int64) (v8 : Int32) (e0 : Int64 → hk_Ms → Option (Int64 × hk_Ms)) : Nat → Int64 → Int32 → hk_Ms → Option (Int64 × hk_Ms)
  | 0 => fun _ _ _ => none
  | n + 1 => m_manyFirsts_L131b p1 p2 p3 v6 v7 v8 e0 (m_manyFirsts_L131 p1 p2 p3 v6 v7 v8 e0 n)
def m_manyFirsts_L12b (p1 : Int64) (p2 : Int32) (p3 : Int32) (v34 : Int32) (e0 : Int64 → hk_Ms → Option (Int64 × hk_Ms)) (rc : Int64 → Int32 → hk_Ms → Option (Int64 × hk_Ms)) (v35 : Int64) (v36 : Int32) (s37 : hk_Ms) : Option (Int64 × hk_Ms) :=
  if (v34 - p3) ≤ v36 then
    e0 v35 s37
  else
  hk_nm (v35 * (10 : Int64)) fun x41 =>
  hk_nm (v36 + (1 : Int32)) fun x42 =>
  rc x41 x42 s37
def m_manyFirsts_L12 (p1 : Int64) (p2 : Int32) (p3 : Int32) (v34 : Int32) (e0 : Int64 → hk_Ms → Option (Int64 × hk_Ms)) : Nat → Int64 → Int32 → hk_Ms → Option (Int64 × hk_Ms)
  | 0 => fun _ _ _ => none
  | n + 1 => m_manyFirsts_L12b p1 p2 p3 v34 e0 (m_manyFirsts_L12 p1 p2 p3 v34 e0 n)
def m_manyFirsts (p1 : Int64) (p2 : Int32) (p3 : Int32) (s0 : hk_Ms) : Option (Int64 × hk_Ms) :=
  hk_nm (fun (v1 : Int64) (v2 : Int64) (s3 : hk_Ms) =>
    hk_nm ((p1 - p1 / (10 : Int64) * (10 : Int64)).toInt32) fun x4 =>
    hk_nm (hm_sL s3 44 (0 : Int64)) fun s5 =>
    m_manyFirsts_L131 p1 p2 p3 v1 v2 x4 (fun (v12 : Int64) (s13 : hk_Ms) =>
      some (v12, s13)) hk_F (0 : Int64) (0 : Int32) s5) fun k110 =>
  hk_nm (fun (v29 : Int64) (v30 : Int64) (v31 : Int64) (s32 : hk_Ms) =>
    k110 v29 (v31 + v30) s32) fun k97 =>
  (m_digitsOf p1).bind fun x33 =>
  m_manyFirsts_L12 p1 p2 p3 x33 (fun (v38 : Int64) (s39 : hk_Ms) =>
    hk_gd (decide (¬ v38 = 0)) <|
    hk_nm ((p1 / v38) * v38) fun x44 =>
    (m_leastOf x44 p2).bind fun x45 =>
    if ((x44 + v38) - (1 : Int64)) < (999999999999999999 : Int64) then
      (m_leastOf (x44 + v38) p2).bind fun x47 =>
      k110 x45 x47 s39
    else
    (m_leastOf (999999999999999999 : Int64) p2).bind fun x48 =>
    (m_leastOf (999999999999999999 : Int64) p2).bind fun x49 =>
    (m_powerOf x49 p2).bind fun x50 =>
    if (999999999999999999 : Int64) < x50 then
      k97 x45 (0 : Int64) x48 s39
    else
    k97 x45 (1 : Int64) x48 s39) hk_F (1 : Int64) (0 : Int32) s0
abbrev N_m_manyFirsts (l : Launch) : hk_N := (l, cX4_manyFirsts, "HeadReckonsModel", 20, (some .long), 2, 53, false)
set_option maxHeartbeats 4000000 in
theorem wk_m_manyFirsts_L131b {l : Launch} {Gd : hk_G} {m0 : Nat} {st : hk_St} (KM : hk_KM m0 st) {p1 : Int64} {p2 : Int32} {p3 : Int32} {s0 : hk_Ms} {r : Int64} {fin : hk_Ms} {v6 : Int64} {v7 : Int64} {v8 : Int32} {e0 : Int64 → hk_Ms → Option (Int64 × hk_Ms)} {rc : Int64 → Int32 → hk_Ms → Option (Int64 × hk_Ms)} (hrc : ∀ (v9 : Int64) (v10 : Int32) (s11 : hk_Ms), rc v9 v10 s11 = some (r, fin) → hk_V Gd (N_m_manyFirsts l) (hk_end Gd (hk_mU m0 st s0) (some (.long r)) (hk_mU m0 st fin)) 131 [(0, .ref m0), (3, .int p2), (10, .long v6), (12, .long v7), (14, .int v8), (15, .long v9), (17, .int v10)] [] (hk_mU m0 st s11)) (he0 : ∀ (v12 : Int64) (s13 : hk_Ms), e0 v12 s13 = some (r, fin) → hk_V Gd (N_m_manyFirsts l) (hk_end Gd (hk_mU m0 st s0) (some (.long r)) (hk_mU m0 st fin)) 234 [(15, .long v12)] [] (hk_mU m0 st s13)) {v9 : Int64} {v10 : Int32} {s11 : hk_Ms} (h : m_manyFirsts_L131b p1 p2 p3 v6 v7 v8 e0 rc v9 v10 s11 = some (r, fin)) : hk_V Gd (N_m_manyFirsts l) (hk_end Gd (hk_mU m0 st s0) (some (.long r)) (hk_mU m0 st fin)) 131 [(0, .ref m0), (3, .int p2), (10, .long v6), (12, .long v7), (14, .int v8), (15, .long v9), (17, .int v10)] [] (hk_mU m0 st s11) := by
  unfold m_manyFirsts_L131b at h
  refine hv_iload 6 dX4_manyFirsts_131 rfl ?_
  refine hv_bipush (v := 10) dX4_manyFirsts_133 (by decide) ?_
  refine hv_icmp_ge (tgt := 234) dX4_manyFirsts_135 (by decide) (fun c14 => ?_) (fun c14 => ?_)
  · replace h := hq_ip c14 h
    refine hv_sub [5] rfl ?_
    exact he0 _ _ h
  · replace h := hq_in c14 h
    refine hv_iload 6 dX4_manyFirsts_138 rfl ?_
    refine hv_iload_n 1 dX4_manyFirsts_140 rfl rfl ?_
    obtain ⟨x15, e_x15, h⟩ := hq_ob h
    refine hv_callS [.int v10, .int p2] [] [.int x15] (wk_m_lastOf e_x15) cs_X4_401 rfl ⟨Nat.le_of_ble_eq_true rfl, Nat.le_of_ble_eq_true rfl⟩ rfl (Nat.le_of_ble_eq_true rfl) rfl dX4_manyFirsts_141 ?_
    refine hv_iload 4 dX4_manyFirsts_144 rfl ?_
    refine hv_icmp_eq (tgt := 152) dX4_manyFirsts_146 (by decide) (fun c16 => ?_) (fun c16 => ?_)
    · replace h := hq_ip c16 h
      refine hv_lload 5 dX4_manyFirsts_152 rfl ?_
      refine hv_lload 3 dX4_manyFirsts_154 rfl ?_
      refine hv_iload 6 dX4_manyFirsts_156 rfl ?_
      refine hv_callS [.long v7, .int v10] [.long v9] [.long (m_endingBelow v7 v10), .long v9] (wk_m_endingBelow rfl) cs_X4_404 rfl ⟨Nat.le_of_ble_eq_true rfl, Nat.le_of_ble_eq_true rfl⟩ rfl (Nat.le_of_ble_eq_true rfl) rfl dX4_manyFirsts_158 ?_
      refine hv_lload 2 dX4_manyFirsts_161 rfl ?_
      refine hv_iload 6 dX4_manyFirsts_163 rfl ?_
      refine hv_callS [.long v6, .int v10] [.long (m_endingBelow v7 v10), .long v9] [.long (m_endingBelow v6 v10), .long (m_endingBelow v7 v10), .long v9] (wk_m_endingBelow rfl) cs_X4_404 rfl ⟨Nat.le_of_ble_eq_true rfl, Nat.le_of_ble_eq_true rfl⟩ rfl (Nat.le_of_ble_eq_true rfl) rfl dX4_manyFirsts_165 ?_
      refine hv_lsub dX4_manyFirsts_168 ?_
      refine hv_ladd dX4_manyFirsts_169 ?_
      obtain ⟨x17, e_x17, h⟩ := hq_nm h
      rw [← e_x17]
      refine hv_lstore (L' := [(15, .long x17), (0, .ref m0), (3, .int p2), (10, .long v6), (12, .long v7), (14, .int v8), (17, .int v10)]) dX4_manyFirsts_170 (Nat.le_of_ble_eq_true rfl) rfl ?_
      refine hv_lload 3 dX4_manyFirsts_172 rfl ?_
      refine hv_iload 6 dX4_manyFirsts_174 rfl ?_
      refine hv_i2l dX4_manyFirsts_176 ?_
      refine hv_lload 3 dX4_manyFirsts_177 rfl ?_
      refine hv_lsub dX4_manyFirsts_179 ?_
      refine hv_ldc2 q2119 dX4_manyFirsts_180 ?_
      refine hv_lrem (by decide) dX4_manyFirsts_183 ?_
      refine hv_ldc2 q2119 dX4_manyFirsts_184 ?_
      refine hv_ladd dX4_manyFirsts_187 ?_
      refine hv_ldc2 q2119 dX4_manyFirsts_188 ?_
      refine hv_lrem (by decide) dX4_manyFirsts_191 ?_
      refine hv_ladd dX4_manyFirsts_192 ?_
      obtain ⟨x18, e_x18, h⟩ := hq_nm h
      rw [← e_x18]
      refine hv_lstore (L' := [(18, .long x18), (15, .long x17), (0, .ref m0), (3, .int p2), (10, .long v6), (12, .long v7), (14, .int v8), (17, .int v10)]) dX4_manyFirsts_193 (Nat.le_of_ble_eq_true rfl) rfl ?_
      refine hv_lload 0 dX4_manyFirsts_195 rfl ?_
      refine hv_lload 5 dX4_manyFirsts_197 rfl ?_
      refine hv_lcmp_ge (tgt := 228) dX4_manyFirsts_199 dX4_manyFirsts_200 (by decide) (fun c19 => ?_) (fun c19 => ?_)
      · replace h := hq_ip c19 h
        obtain ⟨x20, e_x20, h⟩ := hq_nm h
        refine hv_iinc (v := x20) (L' := [(17, .int x20), (18, .long x18), (15, .long x17), (0, .ref m0), (3, .int p2), (10, .long v6), (12, .long v7), (14, .int v8)]) 7 dX4_manyFirsts_228 rfl (by rw [e_x20]; rfl) (Nat.le_of_ble_eq_true rfl) rfl ?_
        refine hv_goto (tgt := 131) dX4_manyFirsts_231 (by decide) ?_
        refine hv_sub [3, 4, 5, 6, 7, 2, 0] rfl ?_
        exact hrc _ _ _ h
      · replace h := hq_in c19 h
        refine hv_aload_n 2 dX4_manyFirsts_203 rfl rfl ?_
        refine hm_getL (f := 44) KM (fl_X4_397) dX4_manyFirsts_204 ?_
        refine hv_lconst (v := 0) dX4_manyFirsts_207 (by decide) ?_
        refine hv_lcmp_eq (tgt := 222) dX4_manyFirsts_208 dX4_manyFirsts_209 (by decide) (fun c21 => ?_) (fun c21 => ?_)
        · replace h := hq_ip c21 h
          refine hv_aload_n 2 dX4_manyFirsts_222 rfl rfl ?_
          refine hv_lload 0 dX4_manyFirsts_223 rfl ?_
          obtain ⟨s22, e_s22, h⟩ := hq_nm h
          refine hm_putL (f := 44) KM (fp_X4_397) e_s22 dX4_manyFirsts_225 ?_
          obtain ⟨x23, e_x23, h⟩ := hq_nm h
          refine hv_iinc (v := x23) (L' := [(17, .int x23), (18, .long x18), (15, .long x17), (0, .ref m0), (3, .int p2), (10, .long v6), (12, .long v7), (14, .int v8)]) 7 dX4_manyFirsts_228 rfl (by rw [e_x23]; rfl) (Nat.le_of_ble_eq_true rfl) rfl ?_
          refine hv_goto (tgt := 131) dX4_manyFirsts_231 (by decide) ?_
          refine hv_sub [3, 4, 5, 6, 7, 2, 0] rfl ?_
          exact hrc _ _ _ h
        · replace h := hq_in c21 h
          refine hv_lload 0 dX4_manyFirsts_212 rfl ?_
          refine hv_aload_n 2 dX4_manyFirsts_214 rfl rfl ?_
          refine hm_getL (f := 44) KM (fl_X4_397) dX4_manyFirsts_215 ?_
          refine hv_lcmp_ge (tgt := 228) dX4_manyFirsts_218 dX4_manyFirsts_219 (by decide) (fun c24 => ?_) (fun c24 => ?_)
          · replace h := hq_ip c24 h
            obtain ⟨x25, e_x25, h⟩ := hq_nm h
            refine hv_iinc (v := x25) (L' := [(17, .int x25), (18, .long x18), (15, .long x17), (0, .ref m0), (3, .int p2), (10, .long v6), (12, .long v7), (14, .int v8)]) 7 dX4_manyFirsts_228 rfl (by rw [e_x25]; rfl) (Nat.le_of_ble_eq_true rfl) rfl ?_
            refine hv_goto (tgt := 131) dX4_manyFirsts_231 (by decide) ?_
            refine hv_sub [3, 4, 5, 6, 7, 2, 0] rfl ?_
            exact hrc _ _ _ h
          · replace h := hq_in c24 h
            refine hv_aload_n 2 dX4_manyFirsts_222 rfl rfl ?_
            refine hv_lload 0 dX4_manyFirsts_223 rfl ?_
            obtain ⟨s26, e_s26, h⟩ := hq_nm h
            refine hm_putL (f := 44) KM (fp_X4_397) e_s26 dX4_manyFirsts_225 ?_
            obtain ⟨x27, e_x27, h⟩ := hq_nm h
            refine hv_iinc (v := x27) (L' := [(17, .int x27), (18, .long x18), (15, .long x17), (0, .ref m0), (3, .int p2), (10, .long v6), (12, .long v7), (14, .int v8)]) 7 dX4_manyFirsts_228 rfl (by rw [e_x27]; rfl) (Nat.le_of_ble_eq_true rfl) rfl ?_
            refine hv_goto (tgt := 131) dX4_manyFirsts_231 (by decide) ?_
            refine hv_sub [3, 4, 5, 6, 7, 2, 0] rfl ?_
            exact hrc _ _ _ h
    · replace h := hq_in c16 h
      refine hv_goto (tgt := 228) dX4_manyFirsts_149 (by decide) ?_
      obtain ⟨x28, e_x28, h⟩ := hq_nm h
      refine hv_iinc (v := x28) (L' := [(17, .int x28), (0, .ref m0), (3, .int p2), (10, .long v6), (12, .long v7), (14, .int v8), (15, .long v9)]) 6 dX4_manyFirsts_228 rfl (by rw [e_x28]; rfl) (Nat.le_of_ble_eq_true rfl) rfl ?_
      refine hv_goto (tgt := 131) dX4_manyFirsts_231 (by decide) ?_
      refine hv_sub [1, 2, 3, 4, 5, 6, 0] rfl ?_
      exact hrc _ _ _ h
theorem wk_m_manyFirsts_L131 {l : Launch} {Gd : hk_G} {m0 : Nat} {st : hk_St} (KM : hk_KM m0 st) {p1 : Int64} {p2 : Int32} {p3 : Int32} {s0 : hk_Ms} {r : Int64} {fin : hk_Ms} {v6 : Int64} {v7 : Int64} {v8 : Int32} {e0 : Int64 → hk_Ms → Option (Int64 × hk_Ms)} (he0 : ∀ (v12 : Int64) (s13 : hk_Ms), e0 v12 s13 = some (r, fin) → hk_V Gd (N_m_manyFirsts l) (hk_end Gd (hk_mU m0 st s0) (some (.long r)) (hk_mU m0 st fin)) 234 [(15, .long v12)] [] (hk_mU m0 st s13)) : ∀ (n : Nat) (v9 : Int64) (v10 : Int32) (s11 : hk_Ms), m_manyFirsts_L131 p1 p2 p3 v6 v7 v8 e0 n v9 v10 s11 = some (r, fin) → hk_V Gd (N_m_manyFirsts l) (hk_end Gd (hk_mU m0 st s0) (some (.long r)) (hk_mU m0 st fin)) 131 [(0, .ref m0), (3, .int p2), (10, .long v6), (12, .long v7), (14, .int v8), (15, .long v9), (17, .int v10)] [] (hk_mU m0 st s11) := by
  intro n
  induction n with
  | zero => intro v9 v10 s11 h; cases h
  | succ n ih => intro v9 v10 s11 h; exact wk_m_manyFirsts_L131b KM ih he0 h
set_option maxHeartbeats 4000000 in
theorem wk_m_manyFirsts_L12b {l : Launch} {Gd : hk_G} {m0 : Nat} {st : hk_St} (KM : hk_KM m0 st) {p1 : Int64} {p2 : Int32} {p3 : Int32} {s0 : hk_Ms} {r : Int64} {fin : hk_Ms} {v34 : Int32} {e0 : Int64 → hk_Ms → Option (Int64 × hk_Ms)} {rc : Int64 → Int32 → hk_Ms → Option (Int64 × hk_Ms)} (hrc : ∀ (v35 : Int64) (v36 : Int32) (s37 : hk_Ms), rc v35 v36 s37 = some (r, fin) → hk_V Gd (N_m_manyFirsts l) (hk_end Gd (hk_mU m0 st s0) (some (.long r)) (hk_mU m0 st fin)) 12 [(0, .ref m0), (1, .long p1), (3, .int p2), (4, .int p3), (5, .int v34), (6, .long v35), (8, .int v36)] [] (hk_mU m0 st s37)) (he0 : ∀ (v38 : Int64) (s39 : hk_Ms), e0 v38 s39 = some (r, fin) → hk_V Gd (N_m_manyFirsts l) (hk_end Gd (hk_mU m0 st s0) (some (.long r)) (hk_mU m0 st fin)) 36 [(0, .ref m0), (1, .long p1), (3, .int p2), (6, .long v38)] [] (hk_mU m0 st s39)) {v35 : Int64} {v36 : Int32} {s37 : hk_Ms} (h : m_manyFirsts_L12b p1 p2 p3 v34 e0 rc v35 v36 s37 = some (r, fin)) : hk_V Gd (N_m_manyFirsts l) (hk_end Gd (hk_mU m0 st s0) (some (.long r)) (hk_mU m0 st fin)) 12 [(0, .ref m0), (1, .long p1), (3, .int p2), (4, .int p3), (5, .int v34), (6, .long v35), (8, .int v36)] [] (hk_mU m0 st s37) := by
  unfold m_manyFirsts_L12b at h
  refine hv_iload 6 dX4_manyFirsts_12 rfl ?_
  refine hv_iload 4 dX4_manyFirsts_14 rfl ?_
  refine hv_iload 3 dX4_manyFirsts_16 rfl ?_
  refine hv_isub dX4_manyFirsts_18 ?_
  refine hv_icmp_ge (tgt := 36) dX4_manyFirsts_19 (by decide) (fun c40 => ?_) (fun c40 => ?_)
  · replace h := hq_ip c40 h
    refine hv_sub [0, 1, 2, 5] rfl ?_
    exact he0 _ _ h
  · replace h := hq_in c40 h
    refine hv_lload 5 dX4_manyFirsts_22 rfl ?_
    refine hv_ldc2 q2119 dX4_manyFirsts_24 ?_
    refine hv_lmul dX4_manyFirsts_27 ?_
    obtain ⟨x41, e_x41, h⟩ := hq_nm h
    rw [← e_x41]
    refine hv_lstore (L' := [(6, .long x41), (0, .ref m0), (1, .long p1), (3, .int p2), (4, .int p3), (5, .int v34), (8, .int v36)]) dX4_manyFirsts_28 (Nat.le_of_ble_eq_true rfl) rfl ?_
    obtain ⟨x42, e_x42, h⟩ := hq_nm h
    refine hv_iinc (v := x42) (L' := [(8, .int x42), (6, .long x41), (0, .ref m0), (1, .long p1), (3, .int p2), (4, .int p3), (5, .int v34)]) 6 dX4_manyFirsts_30 rfl (by rw [e_x42]; rfl) (Nat.le_of_ble_eq_true rfl) rfl ?_
    refine hv_goto (tgt := 12) dX4_manyFirsts_33 (by decide) ?_
    refine hv_sub [2, 3, 4, 5, 6, 1, 0] rfl ?_
    exact hrc _ _ _ h
theorem wk_m_manyFirsts_L12 {l : Launch} {Gd : hk_G} {m0 : Nat} {st : hk_St} (KM : hk_KM m0 st) {p1 : Int64} {p2 : Int32} {p3 : Int32} {s0 : hk_Ms} {r : Int64} {fin : hk_Ms} {v34 : Int32} {e0 : Int64 → hk_Ms → Option (Int64 × hk_Ms)} (he0 : ∀ (v38 : Int64) (s39 : hk_Ms), e0 v38 s39 = some (r, fin) → hk_V Gd (N_m_manyFirsts l) (hk_end Gd (hk_mU m0 st s0) (some (.long r)) (hk_mU m0 st fin)) 36 [(0, .ref m0), (1, .long p1), (3, .int p2), (6, .long v38)] [] (hk_mU m0 st s39)) : ∀ (n : Nat) (v35 : Int64) (v36 : Int32) (s37 : hk_Ms), m_manyFirsts_L12 p1 p2 p3 v34 e0 n v35 v36 s37 = some (r, fin) → hk_V Gd (N_m_manyFirsts l) (hk_end Gd (hk_mU m0 st s0) (some (.long r)) (hk_mU m0 st fin)) 12 [(0, .ref m0), (1, .long p1), (3, .int p2), (4, .int p3), (5, .int v34), (6, .long v35), (8, .int v36)] [] (hk_mU m0 st s37) := by
  intro n
  induction n with
  | zero => intro v35 v36 s37 h; cases h
  | succ n ih => intro v35 v36 s37 h; exact wk_m_manyFirsts_L12b KM ih he0 h
set_option maxHeartbeats 4000000 in
theorem wk_m_manyFirsts {l : Launch} {Gd : hk_G} {m0 : Nat} {st : hk_St} (KM : hk_KM m0 st) {p1 : Int64} {p2 : Int32} {p3 : Int32} {s0 : hk_Ms} {r : Int64} {fin : hk_Ms} (h : m_manyFirsts p1 p2 p3 s0 = some (r, fin)) : hk_Met Gd l yX4_manyFirsts cX4_manyFirsts 20 (some .long) 2 53 [.ref m0, .long p1, .int p2, .int p3] (hk_mU m0 st s0) (some (.long r)) (hk_mU m0 st fin) := by
  refine hk_start "HeadReckonsModel" false (by decide +kernel) rfl (by decide) (Nat.le_of_ble_eq_true rfl) ?_
  show hk_V Gd (N_m_manyFirsts l) (hk_end Gd (hk_mU m0 st s0) (some (.long r)) (hk_mU m0 st fin)) 0 [(0, .ref m0), (1, .long p1), (3, .int p2), (4, .int p3)] [] (hk_mU m0 st s0)
  unfold m_manyFirsts at h
  obtain ⟨k110, e_k110, h⟩ := hq_nm h
  have wk110 : ∀ (v1 : Int64) (v2 : Int64) (s3 : hk_Ms), k110 v1 v2 s3 = some (r, fin) → hk_V Gd (N_m_manyFirsts l) (hk_end Gd (hk_mU m0 st s0) (some (.long r)) (hk_mU m0 st fin)) 110 [(0, .ref m0), (1, .long p1), (3, .int p2), (10, .long v1)] [.long v2] (hk_mU m0 st s3) := by
    intro v1 v2 s3 h
    rw [e_k110] at h
    refine hv_lstore (L' := [(12, .long v2), (0, .ref m0), (1, .long p1), (3, .int p2), (10, .long v1)]) dX4_manyFirsts_110 (Nat.le_of_ble_eq_true rfl) rfl ?_
    refine hv_lload_n 2 dX4_manyFirsts_112 rfl rfl ?_
    refine hv_ldc2 q2119 dX4_manyFirsts_113 ?_
    refine hv_lrem (by decide) dX4_manyFirsts_116 ?_
    refine hv_l2i dX4_manyFirsts_117 ?_
    obtain ⟨x4, e_x4, h⟩ := hq_nm h
    rw [← e_x4]
    refine hv_istore (L' := [(14, .int x4), (12, .long v2), (0, .ref m0), (1, .long p1), (3, .int p2), (10, .long v1)]) dX4_manyFirsts_118 (Nat.le_of_ble_eq_true rfl) rfl ?_
    refine hv_lconst (v := 0) dX4_manyFirsts_120 (by decide) ?_
    refine hv_lstore (L' := [(15, .long (0 : Int64)), (14, .int x4), (12, .long v2), (0, .ref m0), (1, .long p1), (3, .int p2), (10, .long v1)]) dX4_manyFirsts_121 (Nat.le_of_ble_eq_true rfl) rfl ?_
    refine hv_aload_n 3 dX4_manyFirsts_123 rfl rfl ?_
    refine hv_lconst (v := 0) dX4_manyFirsts_124 (by decide) ?_
    obtain ⟨s5, e_s5, h⟩ := hq_nm h
    refine hm_putL (f := 44) KM (fp_X4_397) e_s5 dX4_manyFirsts_125 ?_
    refine hv_iconst (v := 0) dX4_manyFirsts_128 (by decide) ?_
    refine hv_istore (L' := [(17, .int (0 : Int32)), (15, .long (0 : Int64)), (14, .int x4), (12, .long v2), (0, .ref m0), (1, .long p1), (3, .int p2), (10, .long v1)]) dX4_manyFirsts_129 (Nat.le_of_ble_eq_true rfl) rfl ?_
    refine hv_sub [4, 6, 7, 3, 2, 1, 0] rfl ?_
    refine wk_m_manyFirsts_L131 KM ?_ hk_F _ _ _ h
    · intro v12 s13 h
      refine hv_lload 0 dX4_manyFirsts_234 rfl ?_
      obtain ⟨h1, h2⟩ := hq_ret h
      subst h1
      subst h2
      exact hv_lret rfl dX4_manyFirsts_236
  clear e_k110
  obtain ⟨k97, e_k97, h⟩ := hq_nm h
  have wk97 : ∀ (v29 : Int64) (v30 : Int64) (v31 : Int64) (s32 : hk_Ms), k97 v29 v30 v31 s32 = some (r, fin) → hk_V Gd (N_m_manyFirsts l) (hk_end Gd (hk_mU m0 st s0) (some (.long r)) (hk_mU m0 st fin)) 97 [(0, .ref m0), (1, .long p1), (3, .int p2), (10, .long v29)] [.long v30, .long v31] (hk_mU m0 st s32) := by
    intro v29 v30 v31 s32 h
    rw [e_k97] at h
    refine hv_ladd dX4_manyFirsts_97 ?_
    refine hv_goto (tgt := 110) dX4_manyFirsts_98 (by decide) ?_
    exact wk110 _ _ _ h
  clear e_k97
  refine hv_lload_n 1 dX4_manyFirsts_0 rfl rfl ?_
  obtain ⟨x33, e_x33, h⟩ := hq_ob h
  refine hv_callS [.long p1] [] [.int x33] (wk_m_digitsOf e_x33) cs_X4_393 rfl ⟨Nat.le_of_ble_eq_true rfl, Nat.le_of_ble_eq_true rfl⟩ rfl (Nat.le_of_ble_eq_true rfl) rfl dX4_manyFirsts_1 ?_
  refine hv_istore (L' := [(5, .int x33), (0, .ref m0), (1, .long p1), (3, .int p2), (4, .int p3)]) dX4_manyFirsts_4 (Nat.le_of_ble_eq_true rfl) rfl ?_
  refine hv_lconst (v := 1) dX4_manyFirsts_6 (by decide) ?_
  refine hv_lstore (L' := [(6, .long (1 : Int64)), (5, .int x33), (0, .ref m0), (1, .long p1), (3, .int p2), (4, .int p3)]) dX4_manyFirsts_7 (Nat.le_of_ble_eq_true rfl) rfl ?_
  refine hv_iconst (v := 0) dX4_manyFirsts_9 (by decide) ?_
  refine hv_istore (L' := [(8, .int (0 : Int32)), (6, .long (1 : Int64)), (5, .int x33), (0, .ref m0), (1, .long p1), (3, .int p2), (4, .int p3)]) dX4_manyFirsts_10 (Nat.le_of_ble_eq_true rfl) rfl ?_
  refine hv_sub [3, 4, 5, 6, 2, 1, 0] rfl ?_
  refine wk_m_manyFirsts_L12 KM ?_ hk_F _ _ _ h
  · intro v38 s39 h
    refine hv_lload_n 1 dX4_manyFirsts_36 rfl rfl ?_
    refine hv_lload 3 dX4_manyFirsts_37 rfl ?_
    obtain ⟨g43, h⟩ := hq_gd h
    refine hv_ldiv (of_decide_eq_true g43) dX4_manyFirsts_39 ?_
    refine hv_lload 3 dX4_manyFirsts_40 rfl ?_
    refine hv_lmul dX4_manyFirsts_42 ?_
    obtain ⟨x44, e_x44, h⟩ := hq_nm h
    rw [← e_x44]
    refine hv_lstore (L' := [(8, .long x44), (0, .ref m0), (1, .long p1), (3, .int p2), (6, .long v38)]) dX4_manyFirsts_43 (Nat.le_of_ble_eq_true rfl) rfl ?_
    refine hv_lload 0 dX4_manyFirsts_45 rfl ?_
    refine hv_iload_n 3 dX4_manyFirsts_47 rfl rfl ?_
    obtain ⟨x45, e_x45, h⟩ := hq_ob h
    refine hv_callS [.long x44, .int p2] [] [.long x45] (wk_m_leastOf e_x45) cs_X4_380 rfl ⟨Nat.le_of_ble_eq_true rfl, Nat.le_of_ble_eq_true rfl⟩ rfl (Nat.le_of_ble_eq_true rfl) rfl dX4_manyFirsts_48 ?_
    refine hv_lstore (L' := [(10, .long x45), (8, .long x44), (0, .ref m0), (1, .long p1), (3, .int p2), (6, .long v38)]) dX4_manyFirsts_51 (Nat.le_of_ble_eq_true rfl) rfl ?_
    refine hv_lload 1 dX4_manyFirsts_53 rfl ?_
    refine hv_lload 5 dX4_manyFirsts_55 rfl ?_
    refine hv_ladd dX4_manyFirsts_57 ?_
    refine hv_lconst (v := 1) dX4_manyFirsts_58 (by decide) ?_
    refine hv_lsub dX4_manyFirsts_59 ?_
    refine hv_ldc2 q2097 dX4_manyFirsts_60 ?_
    refine hv_lcmp_lt (tgt := 101) dX4_manyFirsts_63 dX4_manyFirsts_64 (by decide) (fun c46 => ?_) (fun c46 => ?_)
    · replace h := hq_ip c46 h
      refine hv_lload 1 dX4_manyFirsts_101 rfl ?_
      refine hv_lload 5 dX4_manyFirsts_103 rfl ?_
      refine hv_ladd dX4_manyFirsts_105 ?_
      refine hv_iload_n 4 dX4_manyFirsts_106 rfl rfl ?_
      obtain ⟨x47, e_x47, h⟩ := hq_ob h
      refine hv_callS [.long (x44 + v38), .int p2] [] [.long x47] (wk_m_leastOf e_x47) cs_X4_380 rfl ⟨Nat.le_of_ble_eq_true rfl, Nat.le_of_ble_eq_true rfl⟩ rfl (Nat.le_of_ble_eq_true rfl) rfl dX4_manyFirsts_107 ?_
      refine hv_sub [2, 3, 4, 0] rfl ?_
      exact wk110 _ _ _ h
    · replace h := hq_in c46 h
      refine hv_ldc2 q2097 dX4_manyFirsts_67 ?_
      refine hv_iload_n 4 dX4_manyFirsts_70 rfl rfl ?_
      obtain ⟨x48, e_x48, h⟩ := hq_ob h
      refine hv_callS [.long (999999999999999999 : Int64), .int p2] [] [.long x48] (wk_m_leastOf e_x48) cs_X4_380 rfl ⟨Nat.le_of_ble_eq_true rfl, Nat.le_of_ble_eq_true rfl⟩ rfl (Nat.le_of_ble_eq_true rfl) rfl dX4_manyFirsts_71 ?_
      refine hv_ldc2 q2097 dX4_manyFirsts_74 ?_
      refine hv_iload_n 4 dX4_manyFirsts_77 rfl rfl ?_
      obtain ⟨x49, e_x49, h⟩ := hq_ob h
      refine hv_callS [.long (999999999999999999 : Int64), .int p2] [.long x48] [.long x49, .long x48] (wk_m_leastOf e_x49) cs_X4_380 rfl ⟨Nat.le_of_ble_eq_true rfl, Nat.le_of_ble_eq_true rfl⟩ rfl (Nat.le_of_ble_eq_true rfl) rfl dX4_manyFirsts_78 ?_
      refine hv_iload_n 4 dX4_manyFirsts_81 rfl rfl ?_
      obtain ⟨x50, e_x50, h⟩ := hq_ob h
      refine hv_callS [.long x49, .int p2] [.long x48] [.long x50, .long x48] (wk_m_powerOf e_x50) cs_X4_373 rfl ⟨Nat.le_of_ble_eq_true rfl, Nat.le_of_ble_eq_true rfl⟩ rfl (Nat.le_of_ble_eq_true rfl) rfl dX4_manyFirsts_82 ?_
      refine hv_ldc2 q2097 dX4_manyFirsts_85 ?_
      refine hv_lcmp_gt (tgt := 96) dX4_manyFirsts_88 dX4_manyFirsts_89 (by decide) (fun c51 => ?_) (fun c51 => ?_)
      · replace h := hq_ip c51 h
        refine hv_lconst (v := 0) dX4_manyFirsts_96 (by decide) ?_
        refine hv_sub [2, 3, 4, 0] rfl ?_
        exact wk97 _ _ _ _ h
      · replace h := hq_in c51 h
        refine hv_lconst (v := 1) dX4_manyFirsts_92 (by decide) ?_
        refine hv_goto (tgt := 97) dX4_manyFirsts_93 (by decide) ?_
        refine hv_sub [2, 3, 4, 0] rfl ?_
        exact wk97 _ _ _ _ h
def m_firsts (p1 : Int64) (p2 : Int32) (p3 : Int32) (s0 : hk_Ms) : Option (Int32 × hk_Ms) :=
  if p2 < 0 then
    some ((-1 : Int32), s0)
  else
  if (m_isNumber p1 (p2 / (100 : Int32))) = 0 then
    some ((-1 : Int32), s0)
  else
  (m_digitsOf p1).bind fun x3 =>
  if (m_within ((p2 - p2 / (100 : Int32) * (100 : Int32)).toInt64) (1 : Int64) x3.toInt64) = 0 then
    some ((-1 : Int32), s0)
  else
  if (m_within p3.toInt64 (0 : Int64) (1 : Int64)) = 0 then
    some ((-1 : Int32), s0)
  else
  (m_manyFirsts p1 (p2 / (100 : Int32)) (p2 - p2 / (100 : Int32) * (100 : Int32)) s0).bind fun q6 =>
    if p3 = 0 then
      some (q6.1.toInt32, q6.2)
    else
    some ((hm_L q6.2 44).toInt32, q6.2)
abbrev N_m_firsts (l : Launch) : hk_N := (l, cX4_firsts, "HeadReckonsModel", 7, (some .int), 3, 92, false)
set_option maxHeartbeats 4000000 in
theorem wk_m_firsts {l : Launch} {Gd : hk_G} {m0 : Nat} {st : hk_St} (KM : hk_KM m0 st) {p1 : Int64} {p2 : Int32} {p3 : Int32} {s0 : hk_Ms} {r : Int32} {fin : hk_Ms} (h : m_firsts p1 p2 p3 s0 = some (r, fin)) : hk_Met Gd l yX4_firsts cX4_firsts 7 (some .int) 3 92 [.ref m0, .long p1, .int p2, .int p3] (hk_mU m0 st s0) (some (.int r)) (hk_mU m0 st fin) := by
  refine hk_start "HeadReckonsModel" false (by decide +kernel) rfl (by decide) (Nat.le_of_ble_eq_true rfl) ?_
  show hk_V Gd (N_m_firsts l) (hk_end Gd (hk_mU m0 st s0) (some (.int r)) (hk_mU m0 st fin)) 0 [(0, .ref m0), (1, .long p1), (3, .int p2), (4, .int p3)] [] (hk_mU m0 st s0)
  unfold m_firsts at h
  refine hv_iload_n 2 dX4_firsts_0 rfl rfl ?_
  refine hv_if_lt (tgt := 43) dX4_firsts_1 (by decide) (fun c1 => ?_) (fun c1 => ?_)
  · replace h := hq_ip c1 h
    refine hv_iconst (v := -1) dX4_firsts_43 (by decide) ?_
    obtain ⟨h1, h2⟩ := hq_ret h
    subst h1
    subst h2
    exact hv_iret rfl dX4_firsts_44
  · replace h := hq_in c1 h
    refine hv_lload_n 1 dX4_firsts_4 rfl rfl ?_
    refine hv_iload_n 2 dX4_firsts_5 rfl rfl ?_
    refine hv_bipush (v := 100) dX4_firsts_6 (by decide) ?_
    refine hv_idiv (by decide) dX4_firsts_8 ?_
    refine hv_callS [.long p1, .int (p2 / (100 : Int32))] [] [.int (m_isNumber p1 (p2 / (100 : Int32)))] (wk_m_isNumber rfl) cs_X4_383 rfl ⟨Nat.le_of_ble_eq_true rfl, Nat.le_of_ble_eq_true rfl⟩ rfl (Nat.le_of_ble_eq_true rfl) rfl dX4_firsts_9 ?_
    refine hv_if_eq (tgt := 43) dX4_firsts_12 (by decide) (fun c2 => ?_) (fun c2 => ?_)
    · replace h := hq_ip c2 h
      refine hv_iconst (v := -1) dX4_firsts_43 (by decide) ?_
      obtain ⟨h1, h2⟩ := hq_ret h
      subst h1
      subst h2
      exact hv_iret rfl dX4_firsts_44
    · replace h := hq_in c2 h
      refine hv_iload_n 2 dX4_firsts_15 rfl rfl ?_
      refine hv_bipush (v := 100) dX4_firsts_16 (by decide) ?_
      refine hv_irem (by decide) dX4_firsts_18 ?_
      refine hv_i2l dX4_firsts_19 ?_
      refine hv_lconst (v := 1) dX4_firsts_20 (by decide) ?_
      refine hv_lload_n 1 dX4_firsts_21 rfl rfl ?_
      obtain ⟨x3, e_x3, h⟩ := hq_ob h
      refine hv_callS [.long p1] [.long (1 : Int64), .long ((p2 - p2 / (100 : Int32) * (100 : Int32)).toInt64)] [.int x3, .long (1 : Int64), .long ((p2 - p2 / (100 : Int32) * (100 : Int32)).toInt64)] (wk_m_digitsOf e_x3) cs_X4_393 rfl ⟨Nat.le_of_ble_eq_true rfl, Nat.le_of_ble_eq_true rfl⟩ rfl (Nat.le_of_ble_eq_true rfl) rfl dX4_firsts_22 ?_
      refine hv_i2l dX4_firsts_25 ?_
      refine hv_callS [.long ((p2 - p2 / (100 : Int32) * (100 : Int32)).toInt64), .long (1 : Int64), .long x3.toInt64] [] [.int (m_within ((p2 - p2 / (100 : Int32) * (100 : Int32)).toInt64) (1 : Int64) x3.toInt64)] (wk_m_within rfl) cs_X4_113 rfl ⟨Nat.le_of_ble_eq_true rfl, Nat.le_of_ble_eq_true rfl⟩ rfl (Nat.le_of_ble_eq_true rfl) rfl dX4_firsts_26 ?_
      refine hv_if_eq (tgt := 43) dX4_firsts_29 (by decide) (fun c4 => ?_) (fun c4 => ?_)
      · replace h := hq_ip c4 h
        refine hv_iconst (v := -1) dX4_firsts_43 (by decide) ?_
        obtain ⟨h1, h2⟩ := hq_ret h
        subst h1
        subst h2
        exact hv_iret rfl dX4_firsts_44
      · replace h := hq_in c4 h
        refine hv_iload 3 dX4_firsts_32 rfl ?_
        refine hv_i2l dX4_firsts_34 ?_
        refine hv_lconst (v := 0) dX4_firsts_35 (by decide) ?_
        refine hv_lconst (v := 1) dX4_firsts_36 (by decide) ?_
        refine hv_callS [.long p3.toInt64, .long (0 : Int64), .long (1 : Int64)] [] [.int (m_within p3.toInt64 (0 : Int64) (1 : Int64))] (wk_m_within rfl) cs_X4_113 rfl ⟨Nat.le_of_ble_eq_true rfl, Nat.le_of_ble_eq_true rfl⟩ rfl (Nat.le_of_ble_eq_true rfl) rfl dX4_firsts_37 ?_
        refine hv_if_ne (tgt := 45) dX4_firsts_40 (by decide) (fun c5 => ?_) (fun c5 => ?_)
        · replace h := hq_in c5 h
          refine hv_aload_n 0 dX4_firsts_45 rfl rfl ?_
          refine hv_lload_n 1 dX4_firsts_46 rfl rfl ?_
          refine hv_iload_n 2 dX4_firsts_47 rfl rfl ?_
          refine hv_bipush (v := 100) dX4_firsts_48 (by decide) ?_
          refine hv_idiv (by decide) dX4_firsts_50 ?_
          refine hv_iload_n 2 dX4_firsts_51 rfl rfl ?_
          refine hv_bipush (v := 100) dX4_firsts_52 (by decide) ?_
          refine hv_irem (by decide) dX4_firsts_54 ?_
          obtain ⟨q6, e_q6, h⟩ := hq_ob h
          refine hv_callV [.long p1, .int (p2 / (100 : Int32)), .int (p2 - p2 / (100 : Int32) * (100 : Int32))] [] [.long q6.1] (wk_m_manyFirsts KM e_q6) cs_X4_407 KM.recv rfl ⟨Nat.le_of_ble_eq_true rfl, Nat.le_of_ble_eq_true rfl⟩ rfl (Nat.le_of_ble_eq_true rfl) rfl dX4_firsts_55 ?_
          refine hv_lstore (L' := [(5, .long q6.1), (0, .ref m0), (1, .long p1), (3, .int p2), (4, .int p3)]) dX4_firsts_58 (Nat.le_of_ble_eq_true rfl) rfl ?_
          refine hv_iload 4 dX4_firsts_60 rfl ?_
          refine hv_if_ne (tgt := 71) dX4_firsts_62 (by decide) (fun c7 => ?_) (fun c7 => ?_)
          · replace h := hq_in c7 h
            refine hv_aload_n 1 dX4_firsts_71 rfl rfl ?_
            refine hm_getL (f := 44) KM (fl_X4_397) dX4_firsts_72 ?_
            refine hv_l2i dX4_firsts_75 ?_
            obtain ⟨h1, h2⟩ := hq_ret h
            subst h1
            subst h2
            exact hv_iret rfl dX4_firsts_76
          · replace h := hq_ip c7 h
            refine hv_lload 0 dX4_firsts_65 rfl ?_
            refine hv_l2i dX4_firsts_67 ?_
            refine hv_goto (tgt := 76) dX4_firsts_68 (by decide) ?_
            obtain ⟨h1, h2⟩ := hq_ret h
            subst h1
            subst h2
            exact hv_iret rfl dX4_firsts_76
        · replace h := hq_ip c5 h
          refine hv_iconst (v := -1) dX4_firsts_43 (by decide) ?_
          obtain ⟨h1, h2⟩ := hq_ret h
          subst h1
          subst h2
          exact hv_iret rfl dX4_firsts_44
def m_enough_L24b (p1 : Int64) (p2 : Int32) (e0 : Int32 → hk_Ms → Option (Int32 × hk_Ms)) (rc : Int32 → hk_Ms → Option (Int32 × hk_Ms)) (v4 : Int32) (s5 : hk_Ms) : Option (Int32 × hk_Ms) :=
  (m_manyFirsts p1 p2 v4 s5).bind fun q8 =>
  if q8.1 ≤ (1 : Int64) then
    e0 v4 q8.2
  else
  hk_nm (v4 + (1 : Int32)) fun x10 =>
  rc x10 q8.2
def m_enough_L24 (p1 : Int64) (p2 : Int32) (e0 : Int32 → hk_Ms → Option (Int32 × hk_Ms)) : Nat → Int32 → hk_Ms → Option (Int32 × hk_Ms)
  | 0 => fun _ _ => none
  | n + 1 => m_enough_L24b p1 p2 e0 (m_enough_L24 p1 p2 e0 n)
def m_enough (p1 : Int64) (p2 : Int32) (s0 : hk_Ms) : Option (Int32 × hk_Ms) :=
  if (m_isNumber p1 p2) = 0 then
    some ((-1 : Int32), s0)
  else
  (m_rootOf p1 p2).bind fun x2 =>
    if x2 = 0 then
      some ((-2 : Int32), s0)
    else
    m_enough_L24 p1 p2  (fun (v6 : Int32) (s7 : hk_Ms) =>
        some (v6, s7)) hk_F (1 : Int32) s0
abbrev N_m_enough (l : Launch) : hk_N := (l, cX4_enough, "HeadReckonsModel", 5, (some .int), 3, 92, false)
set_option maxHeartbeats 4000000 in
theorem wk_m_enough_L24b {l : Launch} {Gd : hk_G} {m0 : Nat} {st : hk_St} (KM : hk_KM m0 st) {p1 : Int64} {p2 : Int32} {s0 : hk_Ms} {r : Int32} {fin : hk_Ms} {e0 : Int32 → hk_Ms → Option (Int32 × hk_Ms)} {rc : Int32 → hk_Ms → Option (Int32 × hk_Ms)} (hrc : ∀ (v4 : Int32) (s5 : hk_Ms), rc v4 s5 = some (r, fin) → hk_V Gd (N_m_enough l) (hk_end Gd (hk_mU m0 st s0) (some (.int r)) (hk_mU m0 st fin)) 24 [(0, .ref m0), (1, .long p1), (3, .int p2), (4, .int v4)] [] (hk_mU m0 st s5)) (he0 : ∀ (v6 : Int32) (s7 : hk_Ms), e0 v6 s7 = some (r, fin) → hk_V Gd (N_m_enough l) (hk_end Gd (hk_mU m0 st s0) (some (.int r)) (hk_mU m0 st fin)) 43 [(4, .int v6)] [] (hk_mU m0 st s7)) {v4 : Int32} {s5 : hk_Ms} (h : m_enough_L24b p1 p2 e0 rc v4 s5 = some (r, fin)) : hk_V Gd (N_m_enough l) (hk_end Gd (hk_mU m0 st s0) (some (.int r)) (hk_mU m0 st fin)) 24 [(0, .ref m0), (1, .long p1), (3, .int p2), (4, .int v4)] [] (hk_mU m0 st s5) := by
  unfold m_enough_L24b at h
  refine hv_aload_n 0 dX4_enough_24 rfl rfl ?_
  refine hv_lload_n 1 dX4_enough_25 rfl rfl ?_
  refine hv_iload_n 2 dX4_enough_26 rfl rfl ?_
  refine hv_iload 3 dX4_enough_27 rfl ?_
  obtain ⟨q8, e_q8, h⟩ := hq_ob h
  refine hv_callV [.long p1, .int p2, .int v4] [] [.long q8.1] (wk_m_manyFirsts KM e_q8) cs_X4_407 KM.recv rfl ⟨Nat.le_of_ble_eq_true rfl, Nat.le_of_ble_eq_true rfl⟩ rfl (Nat.le_of_ble_eq_true rfl) rfl dX4_enough_29 ?_
  refine hv_lconst (v := 1) dX4_enough_32 (by decide) ?_
  refine hv_lcmp_le (tgt := 43) dX4_enough_33 dX4_enough_34 (by decide) (fun c9 => ?_) (fun c9 => ?_)
  · replace h := hq_ip c9 h
    refine hv_sub [3] rfl ?_
    exact he0 _ _ h
  · replace h := hq_in c9 h
    obtain ⟨x10, e_x10, h⟩ := hq_nm h
    refine hv_iinc (v := x10) (L' := [(4, .int x10), (0, .ref m0), (1, .long p1), (3, .int p2)]) 3 dX4_enough_37 rfl (by rw [e_x10]; rfl) (Nat.le_of_ble_eq_true rfl) rfl ?_
    refine hv_goto (tgt := 24) dX4_enough_40 (by decide) ?_
    refine hv_sub [1, 2, 3, 0] rfl ?_
    exact hrc _ _ h
theorem wk_m_enough_L24 {l : Launch} {Gd : hk_G} {m0 : Nat} {st : hk_St} (KM : hk_KM m0 st) {p1 : Int64} {p2 : Int32} {s0 : hk_Ms} {r : Int32} {fin : hk_Ms} {e0 : Int32 → hk_Ms → Option (Int32 × hk_Ms)} (he0 : ∀ (v6 : Int32) (s7 : hk_Ms), e0 v6 s7 = some (r, fin) → hk_V Gd (N_m_enough l) (hk_end Gd (hk_mU m0 st s0) (some (.int r)) (hk_mU m0 st fin)) 43 [(4, .int v6)] [] (hk_mU m0 st s7)) : ∀ (n : Nat) (v4 : Int32) (s5 : hk_Ms), m_enough_L24 p1 p2 e0 n v4 s5 = some (r, fin) → hk_V Gd (N_m_enough l) (hk_end Gd (hk_mU m0 st s0) (some (.int r)) (hk_mU m0 st fin)) 24 [(0, .ref m0), (1, .long p1), (3, .int p2), (4, .int v4)] [] (hk_mU m0 st s5) := by
  intro n
  induction n with
  | zero => intro v4 s5 h; cases h
  | succ n ih => intro v4 s5 h; exact wk_m_enough_L24b KM ih he0 h
set_option maxHeartbeats 4000000 in
theorem wk_m_enough {l : Launch} {Gd : hk_G} {m0 : Nat} {st : hk_St} (KM : hk_KM m0 st) {p1 : Int64} {p2 : Int32} {s0 : hk_Ms} {r : Int32} {fin : hk_Ms} (h : m_enough p1 p2 s0 = some (r, fin)) : hk_Met Gd l yX4_enough cX4_enough 5 (some .int) 3 92 [.ref m0, .long p1, .int p2] (hk_mU m0 st s0) (some (.int r)) (hk_mU m0 st fin) := by
  refine hk_start "HeadReckonsModel" false (by decide +kernel) rfl (by decide) (Nat.le_of_ble_eq_true rfl) ?_
  show hk_V Gd (N_m_enough l) (hk_end Gd (hk_mU m0 st s0) (some (.int r)) (hk_mU m0 st fin)) 0 [(0, .ref m0), (1, .long p1), (3, .int p2)] [] (hk_mU m0 st s0)
  unfold m_enough at h
  refine hv_lload_n 1 dX4_enough_0 rfl rfl ?_
  refine hv_iload_n 2 dX4_enough_1 rfl rfl ?_
  refine hv_callS [.long p1, .int p2] [] [.int (m_isNumber p1 p2)] (wk_m_isNumber rfl) cs_X4_383 rfl ⟨Nat.le_of_ble_eq_true rfl, Nat.le_of_ble_eq_true rfl⟩ rfl (Nat.le_of_ble_eq_true rfl) rfl dX4_enough_2 ?_
  refine hv_if_ne (tgt := 10) dX4_enough_5 (by decide) (fun c1 => ?_) (fun c1 => ?_)
  · replace h := hq_in c1 h
    refine hv_lload_n 1 dX4_enough_10 rfl rfl ?_
    refine hv_iload_n 2 dX4_enough_11 rfl rfl ?_
    obtain ⟨x2, e_x2, h⟩ := hq_ob h
    refine hv_callS [.long p1, .int p2] [] [.int x2] (wk_m_rootOf e_x2) cs_X4_387 rfl ⟨Nat.le_of_ble_eq_true rfl, Nat.le_of_ble_eq_true rfl⟩ rfl (Nat.le_of_ble_eq_true rfl) rfl dX4_enough_12 ?_
    refine hv_if_ne (tgt := 21) dX4_enough_15 (by decide) (fun c3 => ?_) (fun c3 => ?_)
    · replace h := hq_in c3 h
      refine hv_iconst (v := 1) dX4_enough_21 (by decide) ?_
      refine hv_istore (L' := [(4, .int (1 : Int32)), (0, .ref m0), (1, .long p1), (3, .int p2)]) dX4_enough_22 (Nat.le_of_ble_eq_true rfl) rfl ?_
      refine hv_sub [1, 2, 3, 0] rfl ?_
      refine wk_m_enough_L24 KM ?_ hk_F _ _ h
      · intro v6 s7 h
        refine hv_iload 0 dX4_enough_43 rfl ?_
        obtain ⟨h1, h2⟩ := hq_ret h
        subst h1
        subst h2
        exact hv_iret rfl dX4_enough_45
    · replace h := hq_ip c3 h
      refine hv_bipush (v := -2) dX4_enough_18 (by decide) ?_
      obtain ⟨h1, h2⟩ := hq_ret h
      subst h1
      subst h2
      exact hv_iret rfl dX4_enough_20
  · replace h := hq_ip c1 h
    refine hv_iconst (v := -1) dX4_enough_8 (by decide) ?_
    obtain ⟨h1, h2⟩ := hq_ret h
    subst h1
    subst h2
    exact hv_iret rfl dX4_enough_9
