set_option maxRecDepth 100000
def m_ask (p1 : Int32) (p2 : Int32) (s0 : hk_Ms) : Option (Int32 × hk_Ms) :=
  (m_isHead p1 s0).bind fun x1 =>
  if x1 = 0 then
    some ((-1 : Int32), s0)
  else
  if (m_isAsk p2) = 0 then
    some ((-1 : Int32), s0)
  else
  (m_askOf p1 p2 s0).bind fun q4 =>
  some (q4.1, q4.2)
abbrev N_m_ask (l : Launch) : hk_N := (l, cX4_ask, "HeadReckonsModel", 3, (some .int), 3, 68, false)
set_option maxHeartbeats 4000000 in
theorem wk_m_ask {l : Launch} {Gd : hk_G} {m0 : Nat} {st : hk_St} (KM : hk_KM m0 st) {p1 : Int32} {p2 : Int32} {s0 : hk_Ms} {r : Int32} {fin : hk_Ms} (h : m_ask p1 p2 s0 = some (r, fin)) : hk_Met Gd l yX4_ask cX4_ask 3 (some .int) 3 68 [.ref m0, .int p1, .int p2] (hk_mU m0 st s0) (some (.int r)) (hk_mU m0 st fin) := by
  refine hk_start "HeadReckonsModel" false (by decide +kernel) rfl (by decide) (Nat.le_of_ble_eq_true rfl) ?_
  show hk_V Gd (N_m_ask l) (hk_end Gd (hk_mU m0 st s0) (some (.int r)) (hk_mU m0 st fin)) 0 [(0, .ref m0), (1, .int p1), (2, .int p2)] [] (hk_mU m0 st s0)
  unfold m_ask at h
  refine hv_aload_n 0 dX4_ask_0 rfl rfl ?_
  refine hv_iload_n 1 dX4_ask_1 rfl rfl ?_
  obtain ⟨x1, e_x1, h⟩ := hq_ob h
  refine hv_callV [.int p1] [] [.int x1] (wk_m_isHead KM e_x1) cs_X4_188 KM.recv rfl ⟨Nat.le_of_ble_eq_true rfl, Nat.le_of_ble_eq_true rfl⟩ rfl (Nat.le_of_ble_eq_true rfl) rfl dX4_ask_2 ?_
  refine hv_if_eq (tgt := 24) dX4_ask_5 (by decide) (fun c2 => ?_) (fun c2 => ?_)
  · replace h := hq_ip c2 h
    refine hv_iconst (v := -1) dX4_ask_24 (by decide) ?_
    obtain ⟨h1, h2⟩ := hq_ret h
    subst h1
    subst h2
    exact hv_iret rfl dX4_ask_25
  · replace h := hq_in c2 h
    refine hv_iload_n 2 dX4_ask_8 rfl rfl ?_
    refine hv_callS [.int p2] [] [.int (m_isAsk p2)] (wk_m_isAsk rfl) cs_X4_208 rfl ⟨Nat.le_of_ble_eq_true rfl, Nat.le_of_ble_eq_true rfl⟩ rfl (Nat.le_of_ble_eq_true rfl) rfl dX4_ask_9 ?_
    refine hv_if_eq (tgt := 24) dX4_ask_12 (by decide) (fun c3 => ?_) (fun c3 => ?_)
    · replace h := hq_ip c3 h
      refine hv_iconst (v := -1) dX4_ask_24 (by decide) ?_
      obtain ⟨h1, h2⟩ := hq_ret h
      subst h1
      subst h2
      exact hv_iret rfl dX4_ask_25
    · replace h := hq_in c3 h
      refine hv_aload_n 0 dX4_ask_15 rfl rfl ?_
      refine hv_iload_n 1 dX4_ask_16 rfl rfl ?_
      refine hv_iload_n 2 dX4_ask_17 rfl rfl ?_
      obtain ⟨q4, e_q4, h⟩ := hq_ob h
      refine hv_callV [.int p1, .int p2] [] [.int q4.1] (wk_m_askOf KM e_q4) cs_X4_211 KM.recv rfl ⟨Nat.le_of_ble_eq_true rfl, Nat.le_of_ble_eq_true rfl⟩ rfl (Nat.le_of_ble_eq_true rfl) rfl dX4_ask_18 ?_
      refine hv_goto (tgt := 25) dX4_ask_21 (by decide) ?_
      obtain ⟨h1, h2⟩ := hq_ret h
      subst h1
      subst h2
      exact hv_iret rfl dX4_ask_25
def m_isHw (p1 : Int32) (s0 : hk_Ms) : Option (Int32) :=
  if p1 < 0 then
    some (0 : Int32)
  else
  (m_isHead (p1 / (10 : Int32)) s0).bind fun x2 =>
  if x2 = 0 then
    some (0 : Int32)
  else
  if (7 : Int32) ≤ (p1 - p1 / (10 : Int32) * (10 : Int32)) then
    some (0 : Int32)
  else
  some (1 : Int32)
abbrev N_m_isHw (l : Launch) : hk_N := (l, cX4_isHw, "HeadReckonsModel", 2, (some .boolean), 2, 46, false)
set_option maxHeartbeats 4000000 in
theorem wk_m_isHw {l : Launch} {Gd : hk_G} {m0 : Nat} {st : hk_St} (KM : hk_KM m0 st) {p1 : Int32} {s0 : hk_Ms} {r : Int32} (h : m_isHw p1 s0 = some r) : hk_Met Gd l yX4_isHw cX4_isHw 2 (some .boolean) 2 46 [.ref m0, .int p1] (hk_mU m0 st s0) (some (.int r)) (hk_mU m0 st s0) := by
  refine hk_start "HeadReckonsModel" false (by decide +kernel) rfl (by decide) (Nat.le_of_ble_eq_true rfl) ?_
  show hk_V Gd (N_m_isHw l) (hk_end Gd (hk_mU m0 st s0) (some (.int r)) (hk_mU m0 st s0)) 0 [(0, .ref m0), (1, .int p1)] [] (hk_mU m0 st s0)
  unfold m_isHw at h
  refine hv_iload_n 1 dX4_isHw_0 rfl rfl ?_
  refine hv_if_lt (tgt := 28) dX4_isHw_1 (by decide) (fun c1 => ?_) (fun c1 => ?_)
  · replace h := hq_ip c1 h
    refine hv_iconst (v := 0) dX4_isHw_28 (by decide) ?_
    have h := Option.some.inj h
    subst h
    exact hv_zret (ty := .boolean) rfl rfl dX4_isHw_29
  · replace h := hq_in c1 h
    refine hv_aload_n 0 dX4_isHw_4 rfl rfl ?_
    refine hv_iload_n 1 dX4_isHw_5 rfl rfl ?_
    refine hv_bipush (v := 10) dX4_isHw_6 (by decide) ?_
    refine hv_idiv (by decide) dX4_isHw_8 ?_
    obtain ⟨x2, e_x2, h⟩ := hq_ob h
    refine hv_callV [.int (p1 / (10 : Int32))] [] [.int x2] (wk_m_isHead KM e_x2) cs_X4_188 KM.recv rfl ⟨Nat.le_of_ble_eq_true rfl, Nat.le_of_ble_eq_true rfl⟩ rfl (Nat.le_of_ble_eq_true rfl) rfl dX4_isHw_9 ?_
    refine hv_if_eq (tgt := 28) dX4_isHw_12 (by decide) (fun c3 => ?_) (fun c3 => ?_)
    · replace h := hq_ip c3 h
      refine hv_iconst (v := 0) dX4_isHw_28 (by decide) ?_
      have h := Option.some.inj h
      subst h
      exact hv_zret (ty := .boolean) rfl rfl dX4_isHw_29
    · replace h := hq_in c3 h
      refine hv_iload_n 1 dX4_isHw_15 rfl rfl ?_
      refine hv_bipush (v := 10) dX4_isHw_16 (by decide) ?_
      refine hv_irem (by decide) dX4_isHw_18 ?_
      refine hv_bipush (v := 7) dX4_isHw_19 (by decide) ?_
      refine hv_icmp_ge (tgt := 28) dX4_isHw_21 (by decide) (fun c4 => ?_) (fun c4 => ?_)
      · replace h := hq_ip c4 h
        refine hv_iconst (v := 0) dX4_isHw_28 (by decide) ?_
        have h := Option.some.inj h
        subst h
        exact hv_zret (ty := .boolean) rfl rfl dX4_isHw_29
      · replace h := hq_in c4 h
        refine hv_iconst (v := 1) dX4_isHw_24 (by decide) ?_
        refine hv_goto (tgt := 29) dX4_isHw_25 (by decide) ?_
        have h := Option.some.inj h
        subst h
        exact hv_zret (ty := .boolean) rfl rfl dX4_isHw_29
def m_isLearnt (p1 : Int32) (p2 : Int32) (s0 : hk_Ms) : Option (Int32) :=
  hk_nm (fun (v1 : Int32) =>
    if v1 < 0 then
      some (0 : Int32)
    else
    (hm_lI s0 10 360 (((60 : Int32) * p1) + v1)).bind fun x3 =>
    if x3 < (3 : Int32) then
      some (0 : Int32)
    else
    some (1 : Int32)) fun k17 =>
  if (m_isSmall p2) = 0 then
    k17 (-1 : Int32)
  else
  (m_pairAt p1 p2 s0).bind fun x6 =>
  k17 x6
abbrev N_m_isLearnt (l : Launch) : hk_N := (l, cX4_isLearnt, "HeadReckonsModel", 4, (some .boolean), 2, 45, false)
set_option maxHeartbeats 4000000 in
theorem wk_m_isLearnt {l : Launch} {Gd : hk_G} {m0 : Nat} {st : hk_St} (KM : hk_KM m0 st) {p1 : Int32} {p2 : Int32} {s0 : hk_Ms} {r : Int32} (h : m_isLearnt p1 p2 s0 = some r) : hk_Met Gd l yX4_isLearnt cX4_isLearnt 4 (some .boolean) 2 45 [.ref m0, .int p1, .int p2] (hk_mU m0 st s0) (some (.int r)) (hk_mU m0 st s0) := by
  refine hk_start "HeadReckonsModel" false (by decide +kernel) rfl (by decide) (Nat.le_of_ble_eq_true rfl) ?_
  show hk_V Gd (N_m_isLearnt l) (hk_end Gd (hk_mU m0 st s0) (some (.int r)) (hk_mU m0 st s0)) 0 [(0, .ref m0), (1, .int p1), (2, .int p2)] [] (hk_mU m0 st s0)
  unfold m_isLearnt at h
  obtain ⟨k17, e_k17, h⟩ := hq_nm h
  have wk17 : ∀ (v1 : Int32), k17 v1 = some r → hk_V Gd (N_m_isLearnt l) (hk_end Gd (hk_mU m0 st s0) (some (.int r)) (hk_mU m0 st s0)) 17 [(0, .ref m0), (1, .int p1)] [.int v1] (hk_mU m0 st s0) := by
    intro v1 h
    rw [e_k17] at h
    refine hv_istore_n (L' := [(3, .int v1), (0, .ref m0), (1, .int p1)]) dX4_isLearnt_17 rfl (Nat.le_of_ble_eq_true rfl) rfl ?_
    refine hv_iload_n 0 dX4_isLearnt_18 rfl rfl ?_
    refine hv_if_lt (tgt := 41) dX4_isLearnt_19 (by decide) (fun c2 => ?_) (fun c2 => ?_)
    · replace h := hq_ip c2 h
      refine hv_iconst (v := 0) dX4_isLearnt_41 (by decide) ?_
      have h := Option.some.inj h
      subst h
      exact hv_zret (ty := .boolean) rfl rfl dX4_isLearnt_42
    · replace h := hq_in c2 h
      refine hv_aload_n 1 dX4_isLearnt_22 rfl rfl ?_
      refine hm_getA (j := 10) KM (fl_X4_40) rfl (Nat.le_of_ble_eq_true rfl) dX4_isLearnt_23 ?_
      refine hv_bipush (v := 60) dX4_isLearnt_26 (by decide) ?_
      refine hv_iload_n 2 dX4_isLearnt_28 rfl rfl ?_
      refine hv_imul dX4_isLearnt_29 ?_
      refine hv_iload_n 0 dX4_isLearnt_30 rfl rfl ?_
      refine hv_iadd dX4_isLearnt_31 ?_
      obtain ⟨x3, e_x3, h⟩ := hq_ob h
      refine hm_iaload KM e_x3 (Nat.le_of_ble_eq_true rfl) rfl dX4_isLearnt_32 ?_
      refine hv_iconst (v := 3) dX4_isLearnt_33 (by decide) ?_
      refine hv_icmp_lt (tgt := 41) dX4_isLearnt_34 (by decide) (fun c4 => ?_) (fun c4 => ?_)
      · replace h := hq_ip c4 h
        refine hv_iconst (v := 0) dX4_isLearnt_41 (by decide) ?_
        have h := Option.some.inj h
        subst h
        exact hv_zret (ty := .boolean) rfl rfl dX4_isLearnt_42
      · replace h := hq_in c4 h
        refine hv_iconst (v := 1) dX4_isLearnt_37 (by decide) ?_
        refine hv_goto (tgt := 42) dX4_isLearnt_38 (by decide) ?_
        have h := Option.some.inj h
        subst h
        exact hv_zret (ty := .boolean) rfl rfl dX4_isLearnt_42
  clear e_k17
  refine hv_iload_n 2 dX4_isLearnt_0 rfl rfl ?_
  refine hv_callS [.int p2] [] [.int (m_isSmall p2)] (wk_m_isSmall rfl) cs_X4_202 rfl ⟨Nat.le_of_ble_eq_true rfl, Nat.le_of_ble_eq_true rfl⟩ rfl (Nat.le_of_ble_eq_true rfl) rfl dX4_isLearnt_1 ?_
  refine hv_if_eq (tgt := 16) dX4_isLearnt_4 (by decide) (fun c5 => ?_) (fun c5 => ?_)
  · replace h := hq_ip c5 h
    refine hv_iconst (v := -1) dX4_isLearnt_16 (by decide) ?_
    refine hv_sub [0, 1] rfl ?_
    exact wk17 _ h
  · replace h := hq_in c5 h
    refine hv_aload_n 0 dX4_isLearnt_7 rfl rfl ?_
    refine hv_iload_n 1 dX4_isLearnt_8 rfl rfl ?_
    refine hv_iload_n 2 dX4_isLearnt_9 rfl rfl ?_
    obtain ⟨x6, e_x6, h⟩ := hq_ob h
    refine hv_callV [.int p1, .int p2] [] [.int x6] (wk_m_pairAt KM e_x6) cs_X4_205 KM.recv rfl ⟨Nat.le_of_ble_eq_true rfl, Nat.le_of_ble_eq_true rfl⟩ rfl (Nat.le_of_ble_eq_true rfl) rfl dX4_isLearnt_10 ?_
    refine hv_goto (tgt := 17) dX4_isLearnt_13 (by decide) ?_
    refine hv_sub [0, 1] rfl ?_
    exact wk17 _ h
def m_isKnown (p1 : Int32) (p2 : Int32) (s0 : hk_Ms) : Option (Int32) :=
  hk_nm (fun (_ : Unit) =>
    (m_isLearnt (hm_I s0 30) (((10000 : Int32) * p1) + p2) s0).bind fun x1 =>
    if x1 = 0 then
      some (0 : Int32)
    else
    some (1 : Int32)) fun k16 =>
  if (hm_I s0 31) < p1 then
    k16 ()
  else
  if p2 ≤ (hm_I s0 31) then
    some (1 : Int32)
  else
  k16 ()
abbrev N_m_isKnown (l : Launch) : hk_N := (l, cX4_isKnown, "HeadReckonsModel", 3, (some .boolean), 3, 68, false)
set_option maxHeartbeats 4000000 in
theorem wk_m_isKnown {l : Launch} {Gd : hk_G} {m0 : Nat} {st : hk_St} (KM : hk_KM m0 st) {p1 : Int32} {p2 : Int32} {s0 : hk_Ms} {r : Int32} (h : m_isKnown p1 p2 s0 = some r) : hk_Met Gd l yX4_isKnown cX4_isKnown 3 (some .boolean) 3 68 [.ref m0, .int p1, .int p2] (hk_mU m0 st s0) (some (.int r)) (hk_mU m0 st s0) := by
  refine hk_start "HeadReckonsModel" false (by decide +kernel) rfl (by decide) (Nat.le_of_ble_eq_true rfl) ?_
  show hk_V Gd (N_m_isKnown l) (hk_end Gd (hk_mU m0 st s0) (some (.int r)) (hk_mU m0 st s0)) 0 [(0, .ref m0), (1, .int p1), (2, .int p2)] [] (hk_mU m0 st s0)
  unfold m_isKnown at h
  obtain ⟨k16, e_k16, h⟩ := hq_nm h
  have wk16 : ∀ (_ : Unit), k16 () = some r → hk_V Gd (N_m_isKnown l) (hk_end Gd (hk_mU m0 st s0) (some (.int r)) (hk_mU m0 st s0)) 16 [(0, .ref m0), (1, .int p1), (2, .int p2)] [] (hk_mU m0 st s0) := by
    intro _ h
    rw [e_k16] at h
    refine hv_aload_n 0 dX4_isKnown_16 rfl rfl ?_
    refine hv_aload_n 0 dX4_isKnown_17 rfl rfl ?_
    refine hm_getI (f := 30) KM (fl_X4_217) dX4_isKnown_18 ?_
    refine hv_sipush (v := 10000) dX4_isKnown_21 (by decide) ?_
    refine hv_iload_n 1 dX4_isKnown_24 rfl rfl ?_
    refine hv_imul dX4_isKnown_25 ?_
    refine hv_iload_n 2 dX4_isKnown_26 rfl rfl ?_
    refine hv_iadd dX4_isKnown_27 ?_
    obtain ⟨x1, e_x1, h⟩ := hq_ob h
    refine hv_callV [.int (hm_I s0 30), .int (((10000 : Int32) * p1) + p2)] [] [.int x1] (wk_m_isLearnt KM e_x1) cs_X4_256 KM.recv rfl ⟨Nat.le_of_ble_eq_true rfl, Nat.le_of_ble_eq_true rfl⟩ rfl (Nat.le_of_ble_eq_true rfl) rfl dX4_isKnown_28 ?_
    refine hv_if_eq (tgt := 38) dX4_isKnown_31 (by decide) (fun c2 => ?_) (fun c2 => ?_)
    · replace h := hq_ip c2 h
      refine hv_iconst (v := 0) dX4_isKnown_38 (by decide) ?_
      have h := Option.some.inj h
      subst h
      exact hv_zret (ty := .boolean) rfl rfl dX4_isKnown_39
    · replace h := hq_in c2 h
      refine hv_iconst (v := 1) dX4_isKnown_34 (by decide) ?_
      refine hv_goto (tgt := 39) dX4_isKnown_35 (by decide) ?_
      have h := Option.some.inj h
      subst h
      exact hv_zret (ty := .boolean) rfl rfl dX4_isKnown_39
  clear e_k16
  refine hv_iload_n 1 dX4_isKnown_0 rfl rfl ?_
  refine hv_aload_n 0 dX4_isKnown_1 rfl rfl ?_
  refine hm_getI (f := 31) KM (fl_X4_253) dX4_isKnown_2 ?_
  refine hv_icmp_gt (tgt := 16) dX4_isKnown_5 (by decide) (fun c3 => ?_) (fun c3 => ?_)
  · replace h := hq_ip c3 h
    exact wk16 () h
  · replace h := hq_in c3 h
    refine hv_iload_n 2 dX4_isKnown_8 rfl rfl ?_
    refine hv_aload_n 0 dX4_isKnown_9 rfl rfl ?_
    refine hm_getI (f := 31) KM (fl_X4_253) dX4_isKnown_10 ?_
    refine hv_icmp_le (tgt := 34) dX4_isKnown_13 (by decide) (fun c4 => ?_) (fun c4 => ?_)
    · replace h := hq_ip c4 h
      refine hv_iconst (v := 1) dX4_isKnown_34 (by decide) ?_
      refine hv_goto (tgt := 39) dX4_isKnown_35 (by decide) ?_
      have h := Option.some.inj h
      subst h
      exact hv_zret (ty := .boolean) rfl rfl dX4_isKnown_39
    · replace h := hq_in c4 h
      exact wk16 () h
def m_digits_L4b (p1 : Int32) (e0 : Int32 → Option (Int32)) (rc : Int32 → Int32 → Option (Int32)) (v1 : Int32) (v2 : Int32) : Option (Int32) :=
  if v2 ≤ 0 then
    e0 v1
  else
  hk_nm (v1 + (1 : Int32)) fun x5 =>
  hk_nm (v2 / (10 : Int32)) fun x6 =>
  rc x5 x6
def m_digits_L4 (p1 : Int32) (e0 : Int32 → Option (Int32)) : Nat → Int32 → Int32 → Option (Int32)
  | 0 => fun _ _ => none
  | n + 1 => m_digits_L4b p1 e0 (m_digits_L4 p1 e0 n)
def m_digits (p1 : Int32) : Option (Int32) :=
  m_digits_L4 p1  (fun (v3 : Int32) =>
    some v3) hk_F (0 : Int32) p1 
abbrev N_m_digits (l : Launch) : hk_N := (l, cX4_digits, "HeadReckonsModel", 3, (some .int), 0, 0, false)
set_option maxHeartbeats 4000000 in
theorem wk_m_digits_L4b {l : Launch} {Gd : hk_G} {st : hk_St} {p1 : Int32} {r : Int32} {e0 : Int32 → Option (Int32)} {rc : Int32 → Int32 → Option (Int32)} (hrc : ∀ (v1 : Int32) (v2 : Int32), rc v1 v2 = some r → hk_V Gd (N_m_digits l) (hk_end Gd st (some (.int r)) st) 4 [(1, .int v1), (2, .int v2)] [] st) (he0 : ∀ (v3 : Int32), e0 v3 = some r → hk_V Gd (N_m_digits l) (hk_end Gd st (some (.int r)) st) 19 [(1, .int v3)] [] st) {v1 : Int32} {v2 : Int32} (h : m_digits_L4b p1 e0 rc v1 v2 = some r) : hk_V Gd (N_m_digits l) (hk_end Gd st (some (.int r)) st) 4 [(1, .int v1), (2, .int v2)] [] st := by
  unfold m_digits_L4b at h
  refine hv_iload_n 1 dX4_digits_4 rfl rfl ?_
  refine hv_if_le (tgt := 19) dX4_digits_5 (by decide) (fun c4 => ?_) (fun c4 => ?_)
  · replace h := hq_ip c4 h
    refine hv_sub [0] rfl ?_
    exact he0 _ h
  · replace h := hq_in c4 h
    obtain ⟨x5, e_x5, h⟩ := hq_nm h
    refine hv_iinc (v := x5) (L' := [(1, .int x5), (2, .int v2)]) 0 dX4_digits_8 rfl (by rw [e_x5]; rfl) (Nat.le_of_ble_eq_true rfl) rfl ?_
    refine hv_iload_n 1 dX4_digits_11 rfl rfl ?_
    refine hv_bipush (v := 10) dX4_digits_12 (by decide) ?_
    refine hv_idiv (by decide) dX4_digits_14 ?_
    obtain ⟨x6, e_x6, h⟩ := hq_nm h
    rw [← e_x6]
    refine hv_istore_n (L' := [(2, .int x6), (1, .int x5)]) dX4_digits_15 rfl (Nat.le_of_ble_eq_true rfl) rfl ?_
    refine hv_goto (tgt := 4) dX4_digits_16 (by decide) ?_
    refine hv_sub [1, 0] rfl ?_
    exact hrc _ _ h
theorem wk_m_digits_L4 {l : Launch} {Gd : hk_G} {st : hk_St} {p1 : Int32} {r : Int32} {e0 : Int32 → Option (Int32)} (he0 : ∀ (v3 : Int32), e0 v3 = some r → hk_V Gd (N_m_digits l) (hk_end Gd st (some (.int r)) st) 19 [(1, .int v3)] [] st) : ∀ (n : Nat) (v1 : Int32) (v2 : Int32), m_digits_L4 p1 e0 n v1 v2 = some r → hk_V Gd (N_m_digits l) (hk_end Gd st (some (.int r)) st) 4 [(1, .int v1), (2, .int v2)] [] st := by
  intro n
  induction n with
  | zero => intro v1 v2 h; cases h
  | succ n ih => intro v1 v2 h; exact wk_m_digits_L4b  ih he0 h
set_option maxHeartbeats 4000000 in
theorem wk_m_digits {l : Launch} {Gd : hk_G} {st : hk_St} {p1 : Int32} {r : Int32} (h : m_digits p1 = some r) : hk_Met Gd l yX4_digits cX4_digits 3 (some .int) 0 0 [.int p1] st (some (.int r)) st := by
  refine hk_start "HeadReckonsModel" false (by decide +kernel) rfl (by decide) (Nat.le_of_ble_eq_true rfl) ?_
  show hk_V Gd (N_m_digits l) (hk_end Gd st (some (.int r)) st) 0 [(0, .int p1)] [] st
  unfold m_digits at h
  refine hv_iconst (v := 0) dX4_digits_0 (by decide) ?_
  refine hv_istore_n (L' := [(1, .int (0 : Int32)), (0, .int p1)]) dX4_digits_1 rfl (Nat.le_of_ble_eq_true rfl) rfl ?_
  refine hv_iload_n 1 dX4_digits_2 rfl rfl ?_
  refine hv_istore_n (L' := [(2, .int p1), (1, .int (0 : Int32)), (0, .int p1)]) dX4_digits_3 rfl (Nat.le_of_ble_eq_true rfl) rfl ?_
  refine hv_sub [1, 0] rfl ?_
  refine wk_m_digits_L4  ?_ hk_F _ _ h
  · intro v3 h
    refine hv_iload_n 0 dX4_digits_19 rfl rfl ?_
    have h := Option.some.inj h
    subst h
    exact hv_iret rfl dX4_digits_20
def m_acts (p1 : Int32) (p2 : Int32) (p3 : Int32) (p4 : Int32) (s0 : hk_Ms) : Option hk_Ms :=
  hk_nm (fun (v1 : Int32) (v2 : Int32) (v3 : Int32) (s4 : hk_Ms) =>
    (hm_tI s4 13 200 v3 v2).bind fun s5 =>
    (m_digits (hm_I s5 29)).bind fun x6 =>
    (hm_tI s5 14 200 v1 ((hm_I s5 28) + x6)).bind fun s7 =>
    (hm_tI s7 15 200 v1 p3).bind fun s8 =>
    (hm_tI s8 16 200 v1 p4).bind fun s9 =>
    hk_nm (hm_sI s9 21 ((hm_I s9 21) + (1 : Int32))) fun s10 =>
    some s10) fun k72 =>
  hk_nm (fun (v11 : Int32) (v12 : Int32) (v13 : Int32) (v14 : Int32) (s15 : hk_Ms) =>
    k72 v11 (v13 * v12) v14 s15) fun k71 =>
  hk_nm (fun (v16 : Int32) (v17 : Int32) (v18 : Int32) (s19 : hk_Ms) =>
    (m_digits p2).bind fun x20 =>
    k71 v16 x20 v17 v18 s19) fun k67 =>
  hk_nm (hm_I s0 21) fun x21 =>
  (hm_lI s0 0 30 (((5 : Int32) * (hm_I s0 30)) + p1)).bind fun x22 =>
  (hm_tI s0 11 200 x21 p1).bind fun s23 =>
  (hm_tI s23 12 200 x21 p2).bind fun s24 =>
  if p1 = 0 then
    k72 x21 x22 x21 s24
  else
  if p1 = (2 : Int32) then
      if p2 = 0 then
      k71 x21 (1 : Int32) x22 x21 s24
    else
    k67 x21 x22 x21 s24
    else
    k67 x21 x22 x21 s24
abbrev N_m_acts (l : Launch) : hk_N := (l, cX4_acts, "HeadReckonsModel", 7, none, 1, 22, false)
set_option maxHeartbeats 4000000 in
theorem wk_m_acts {l : Launch} {Gd : hk_G} {m0 : Nat} {st : hk_St} (KM : hk_KM m0 st) {p1 : Int32} {p2 : Int32} {p3 : Int32} {p4 : Int32} {s0 : hk_Ms} {fin : hk_Ms} (h : m_acts p1 p2 p3 p4 s0 = some fin) : hk_Met Gd l yX4_acts cX4_acts 7 none 1 22 [.ref m0, .int p1, .int p2, .int p3, .int p4] (hk_mU m0 st s0) none (hk_mU m0 st fin) := by
  refine hk_start "HeadReckonsModel" false (by decide +kernel) rfl (by decide) (Nat.le_of_ble_eq_true rfl) ?_
  show hk_V Gd (N_m_acts l) (hk_end Gd (hk_mU m0 st s0) none (hk_mU m0 st fin)) 0 [(0, .ref m0), (1, .int p1), (2, .int p2), (3, .int p3), (4, .int p4)] [] (hk_mU m0 st s0)
  unfold m_acts at h
  obtain ⟨k72, e_k72, h⟩ := hq_nm h
  have wk72 : ∀ (v1 : Int32) (v2 : Int32) (v3 : Int32) (s4 : hk_Ms), k72 v1 v2 v3 s4 = some fin → hk_V Gd (N_m_acts l) (hk_end Gd (hk_mU m0 st s0) none (hk_mU m0 st fin)) 72 [(0, .ref m0), (3, .int p3), (4, .int p4), (5, .int v1)] [.int v2, .int v3, .ref (m0 + 14)] (hk_mU m0 st s4) := by
    intro v1 v2 v3 s4 h
    rw [e_k72] at h
    obtain ⟨s5, e_s5, h⟩ := hq_ob h
    refine hm_iastore KM e_s5 (Nat.le_of_ble_eq_true rfl) rfl dX4_acts_72 ?_
    refine hv_aload_n 0 dX4_acts_73 rfl rfl ?_
    refine hm_getA (j := 14) KM (fl_X4_52) rfl (Nat.le_of_ble_eq_true rfl) dX4_acts_74 ?_
    refine hv_iload 3 dX4_acts_77 rfl ?_
    refine hv_aload_n 0 dX4_acts_79 rfl rfl ?_
    refine hm_getI (f := 28) KM (fl_X4_223) dX4_acts_80 ?_
    refine hv_aload_n 0 dX4_acts_83 rfl rfl ?_
    refine hm_getI (f := 29) KM (fl_X4_226) dX4_acts_84 ?_
    obtain ⟨x6, e_x6, h⟩ := hq_ob h
    refine hv_callS [.int (hm_I s5 29)] [.int (hm_I s5 28), .int v1, .ref (m0 + 15)] [.int x6, .int (hm_I s5 28), .int v1, .ref (m0 + 15)] (wk_m_digits e_x6) cs_X4_220 rfl ⟨Nat.le_of_ble_eq_true rfl, Nat.le_of_ble_eq_true rfl⟩ rfl (Nat.le_of_ble_eq_true rfl) rfl dX4_acts_87 ?_
    refine hv_iadd dX4_acts_90 ?_
    obtain ⟨s7, e_s7, h⟩ := hq_ob h
    refine hm_iastore KM e_s7 (Nat.le_of_ble_eq_true rfl) rfl dX4_acts_91 ?_
    refine hv_aload_n 0 dX4_acts_92 rfl rfl ?_
    refine hm_getA (j := 15) KM (fl_X4_55) rfl (Nat.le_of_ble_eq_true rfl) dX4_acts_93 ?_
    refine hv_iload 3 dX4_acts_96 rfl ?_
    refine hv_iload_n 1 dX4_acts_98 rfl rfl ?_
    obtain ⟨s8, e_s8, h⟩ := hq_ob h
    refine hm_iastore KM e_s8 (Nat.le_of_ble_eq_true rfl) rfl dX4_acts_99 ?_
    refine hv_aload_n 0 dX4_acts_100 rfl rfl ?_
    refine hm_getA (j := 16) KM (fl_X4_58) rfl (Nat.le_of_ble_eq_true rfl) dX4_acts_101 ?_
    refine hv_iload 3 dX4_acts_104 rfl ?_
    refine hv_iload 2 dX4_acts_106 rfl ?_
    obtain ⟨s9, e_s9, h⟩ := hq_ob h
    refine hm_iastore KM e_s9 (Nat.le_of_ble_eq_true rfl) rfl dX4_acts_108 ?_
    refine hv_aload_n 0 dX4_acts_109 rfl rfl ?_
    refine hv_dup dX4_acts_110 rfl ?_
    refine hm_getI (f := 21) KM (fl_X4_214) dX4_acts_111 ?_
    refine hv_iconst (v := 1) dX4_acts_114 (by decide) ?_
    refine hv_iadd dX4_acts_115 ?_
    obtain ⟨s10, e_s10, h⟩ := hq_nm h
    refine hm_putI (f := 21) KM (fp_X4_214) e_s10 dX4_acts_116 ?_
    have h := Option.some.inj h
    subst h
    exact hv_vret rfl dX4_acts_119
  clear e_k72
  obtain ⟨k71, e_k71, h⟩ := hq_nm h
  have wk71 : ∀ (v11 : Int32) (v12 : Int32) (v13 : Int32) (v14 : Int32) (s15 : hk_Ms), k71 v11 v12 v13 v14 s15 = some fin → hk_V Gd (N_m_acts l) (hk_end Gd (hk_mU m0 st s0) none (hk_mU m0 st fin)) 71 [(0, .ref m0), (3, .int p3), (4, .int p4), (5, .int v11)] [.int v12, .int v13, .int v14, .ref (m0 + 14)] (hk_mU m0 st s15) := by
    intro v11 v12 v13 v14 s15 h
    rw [e_k71] at h
    refine hv_imul dX4_acts_71 ?_
    exact wk72 _ _ _ _ h
  clear e_k71
  obtain ⟨k67, e_k67, h⟩ := hq_nm h
  have wk67 : ∀ (v16 : Int32) (v17 : Int32) (v18 : Int32) (s19 : hk_Ms), k67 v16 v17 v18 s19 = some fin → hk_V Gd (N_m_acts l) (hk_end Gd (hk_mU m0 st s0) none (hk_mU m0 st fin)) 67 [(0, .ref m0), (2, .int p2), (3, .int p3), (4, .int p4), (5, .int v16)] [.int v17, .int v18, .ref (m0 + 14)] (hk_mU m0 st s19) := by
    intro v16 v17 v18 s19 h
    rw [e_k67] at h
    refine hv_iload_n 1 dX4_acts_67 rfl rfl ?_
    obtain ⟨x20, e_x20, h⟩ := hq_ob h
    refine hv_callS [.int p2] [.int v17, .int v18, .ref (m0 + 14)] [.int x20, .int v17, .int v18, .ref (m0 + 14)] (wk_m_digits e_x20) cs_X4_220 rfl ⟨Nat.le_of_ble_eq_true rfl, Nat.le_of_ble_eq_true rfl⟩ rfl (Nat.le_of_ble_eq_true rfl) rfl dX4_acts_68 ?_
    refine hv_sub [0, 2, 3, 4] rfl ?_
    exact wk71 _ _ _ _ _ h
  clear e_k67
  refine hv_aload_n 0 dX4_acts_0 rfl rfl ?_
  refine hm_getI (f := 21) KM (fl_X4_214) dX4_acts_1 ?_
  obtain ⟨x21, e_x21, h⟩ := hq_nm h
  rw [← e_x21]
  refine hv_istore (L' := [(5, .int x21), (0, .ref m0), (1, .int p1), (2, .int p2), (3, .int p3), (4, .int p4)]) dX4_acts_4 (Nat.le_of_ble_eq_true rfl) rfl ?_
  refine hv_aload_n 1 dX4_acts_6 rfl rfl ?_
  refine hm_getA (j := 0) KM (fl_X4_9) rfl (Nat.le_of_ble_eq_true rfl) dX4_acts_7 ?_
  refine hv_iconst (v := 5) dX4_acts_10 (by decide) ?_
  refine hv_aload_n 1 dX4_acts_11 rfl rfl ?_
  refine hm_getI (f := 30) KM (fl_X4_217) dX4_acts_12 ?_
  refine hv_imul dX4_acts_15 ?_
  refine hv_iload_n 2 dX4_acts_16 rfl rfl ?_
  refine hv_iadd dX4_acts_17 ?_
  obtain ⟨x22, e_x22, h⟩ := hq_ob h
  refine hm_iaload KM e_x22 (Nat.le_of_ble_eq_true rfl) rfl dX4_acts_18 ?_
  refine hv_istore (L' := [(6, .int x22), (5, .int x21), (0, .ref m0), (1, .int p1), (2, .int p2), (3, .int p3), (4, .int p4)]) dX4_acts_19 (Nat.le_of_ble_eq_true rfl) rfl ?_
  refine hv_aload_n 2 dX4_acts_21 rfl rfl ?_
  refine hm_getA (j := 11) KM (fl_X4_43) rfl (Nat.le_of_ble_eq_true rfl) dX4_acts_22 ?_
  refine hv_iload 1 dX4_acts_25 rfl ?_
  refine hv_iload_n 3 dX4_acts_27 rfl rfl ?_
  obtain ⟨s23, e_s23, h⟩ := hq_ob h
  refine hm_iastore KM e_s23 (Nat.le_of_ble_eq_true rfl) rfl dX4_acts_28 ?_
  refine hv_aload_n 2 dX4_acts_29 rfl rfl ?_
  refine hm_getA (j := 12) KM (fl_X4_46) rfl (Nat.le_of_ble_eq_true rfl) dX4_acts_30 ?_
  refine hv_iload 1 dX4_acts_33 rfl ?_
  refine hv_iload_n 4 dX4_acts_35 rfl rfl ?_
  obtain ⟨s24, e_s24, h⟩ := hq_ob h
  refine hm_iastore KM e_s24 (Nat.le_of_ble_eq_true rfl) rfl dX4_acts_36 ?_
  refine hv_aload_n 2 dX4_acts_37 rfl rfl ?_
  refine hm_getA (j := 13) KM (fl_X4_49) rfl (Nat.le_of_ble_eq_true rfl) dX4_acts_38 ?_
  refine hv_iload 1 dX4_acts_41 rfl ?_
  refine hv_iload_n 3 dX4_acts_43 rfl rfl ?_
  refine hv_if_ne (tgt := 52) dX4_acts_44 (by decide) (fun c25 => ?_) (fun c25 => ?_)
  · replace h := hq_in c25 h
    refine hv_iload 0 dX4_acts_52 rfl ?_
    refine hv_iload_n 3 dX4_acts_54 rfl rfl ?_
    refine hv_iconst (v := 2) dX4_acts_55 (by decide) ?_
    refine hv_icmp_ne (tgt := 67) dX4_acts_56 (by decide) (fun c26 => ?_) (fun c26 => ?_)
    · replace h := hq_in c26 h
      refine hv_sub [2, 4, 5, 6, 1] rfl ?_
      exact wk67 _ _ _ _ h
    · replace h := hq_ip c26 h
      refine hv_iload_n 4 dX4_acts_59 rfl rfl ?_
      refine hv_if_ne (tgt := 67) dX4_acts_60 (by decide) (fun c27 => ?_) (fun c27 => ?_)
      · replace h := hq_in c27 h
        refine hv_sub [2, 4, 5, 6, 1] rfl ?_
        exact wk67 _ _ _ _ h
      · replace h := hq_ip c27 h
        refine hv_iconst (v := 1) dX4_acts_63 (by decide) ?_
        refine hv_goto (tgt := 71) dX4_acts_64 (by decide) ?_
        refine hv_sub [2, 5, 6, 1] rfl ?_
        exact wk71 _ _ _ _ _ h
  · replace h := hq_ip c25 h
    refine hv_iload 0 dX4_acts_47 rfl ?_
    refine hv_goto (tgt := 72) dX4_acts_49 (by decide) ?_
    refine hv_sub [2, 5, 6, 1] rfl ?_
    exact wk72 _ _ _ _ h
def m_figure_L4b (p1 : Int32) (p2 : Int32) (e0 : Int32 → Option (Int32)) (rc : Int32 → Int32 → Option (Int32)) (v1 : Int32) (v2 : Int32) : Option (Int32) :=
  if p2 ≤ v2 then
    e0 v1
  else
  hk_nm (v1 / (10 : Int32)) fun x5 =>
  hk_nm (v2 + (1 : Int32)) fun x6 =>
  rc x5 x6
def m_figure_L4 (p1 : Int32) (p2 : Int32) (e0 : Int32 → Option (Int32)) : Nat → Int32 → Int32 → Option (Int32)
  | 0 => fun _ _ => none
  | n + 1 => m_figure_L4b p1 p2 e0 (m_figure_L4 p1 p2 e0 n)
def m_figure (p1 : Int32) (p2 : Int32) : Option (Int32) :=
  m_figure_L4 p1 p2  (fun (v3 : Int32) =>
    some (v3 - v3 / (10 : Int32) * (10 : Int32))) hk_F p1 (0 : Int32) 
abbrev N_m_figure (l : Launch) : hk_N := (l, cX4_figure, "HeadReckonsModel", 4, (some .int), 0, 0, false)
set_option maxHeartbeats 4000000 in
theorem wk_m_figure_L4b {l : Launch} {Gd : hk_G} {st : hk_St} {p1 : Int32} {p2 : Int32} {r : Int32} {e0 : Int32 → Option (Int32)} {rc : Int32 → Int32 → Option (Int32)} (hrc : ∀ (v1 : Int32) (v2 : Int32), rc v1 v2 = some r → hk_V Gd (N_m_figure l) (hk_end Gd st (some (.int r)) st) 4 [(1, .int p2), (2, .int v1), (3, .int v2)] [] st) (he0 : ∀ (v3 : Int32), e0 v3 = some r → hk_V Gd (N_m_figure l) (hk_end Gd st (some (.int r)) st) 20 [(2, .int v3)] [] st) {v1 : Int32} {v2 : Int32} (h : m_figure_L4b p1 p2 e0 rc v1 v2 = some r) : hk_V Gd (N_m_figure l) (hk_end Gd st (some (.int r)) st) 4 [(1, .int p2), (2, .int v1), (3, .int v2)] [] st := by
  unfold m_figure_L4b at h
  refine hv_iload_n 2 dX4_figure_4 rfl rfl ?_
  refine hv_iload_n 0 dX4_figure_5 rfl rfl ?_
  refine hv_icmp_ge (tgt := 20) dX4_figure_6 (by decide) (fun c4 => ?_) (fun c4 => ?_)
  · replace h := hq_ip c4 h
    refine hv_sub [1] rfl ?_
    exact he0 _ h
  · replace h := hq_in c4 h
    refine hv_iload_n 1 dX4_figure_9 rfl rfl ?_
    refine hv_bipush (v := 10) dX4_figure_10 (by decide) ?_
    refine hv_idiv (by decide) dX4_figure_12 ?_
    obtain ⟨x5, e_x5, h⟩ := hq_nm h
    rw [← e_x5]
    refine hv_istore_n (L' := [(2, .int x5), (1, .int p2), (3, .int v2)]) dX4_figure_13 rfl (Nat.le_of_ble_eq_true rfl) rfl ?_
    obtain ⟨x6, e_x6, h⟩ := hq_nm h
    refine hv_iinc (v := x6) (L' := [(3, .int x6), (2, .int x5), (1, .int p2)]) 2 dX4_figure_14 rfl (by rw [e_x6]; rfl) (Nat.le_of_ble_eq_true rfl) rfl ?_
    refine hv_goto (tgt := 4) dX4_figure_17 (by decide) ?_
    refine hv_sub [2, 1, 0] rfl ?_
    exact hrc _ _ h
theorem wk_m_figure_L4 {l : Launch} {Gd : hk_G} {st : hk_St} {p1 : Int32} {p2 : Int32} {r : Int32} {e0 : Int32 → Option (Int32)} (he0 : ∀ (v3 : Int32), e0 v3 = some r → hk_V Gd (N_m_figure l) (hk_end Gd st (some (.int r)) st) 20 [(2, .int v3)] [] st) : ∀ (n : Nat) (v1 : Int32) (v2 : Int32), m_figure_L4 p1 p2 e0 n v1 v2 = some r → hk_V Gd (N_m_figure l) (hk_end Gd st (some (.int r)) st) 4 [(1, .int p2), (2, .int v1), (3, .int v2)] [] st := by
  intro n
  induction n with
  | zero => intro v1 v2 h; cases h
  | succ n ih => intro v1 v2 h; exact wk_m_figure_L4b  ih he0 h
set_option maxHeartbeats 4000000 in
theorem wk_m_figure {l : Launch} {Gd : hk_G} {st : hk_St} {p1 : Int32} {p2 : Int32} {r : Int32} (h : m_figure p1 p2 = some r) : hk_Met Gd l yX4_figure cX4_figure 4 (some .int) 0 0 [.int p1, .int p2] st (some (.int r)) st := by
  refine hk_start "HeadReckonsModel" false (by decide +kernel) rfl (by decide) (Nat.le_of_ble_eq_true rfl) ?_
  show hk_V Gd (N_m_figure l) (hk_end Gd st (some (.int r)) st) 0 [(0, .int p1), (1, .int p2)] [] st
  unfold m_figure at h
  refine hv_iload_n 0 dX4_figure_0 rfl rfl ?_
  refine hv_istore_n (L' := [(2, .int p1), (0, .int p1), (1, .int p2)]) dX4_figure_1 rfl (Nat.le_of_ble_eq_true rfl) rfl ?_
  refine hv_iconst (v := 0) dX4_figure_2 (by decide) ?_
  refine hv_istore_n (L' := [(3, .int (0 : Int32)), (2, .int p1), (0, .int p1), (1, .int p2)]) dX4_figure_3 rfl (Nat.le_of_ble_eq_true rfl) rfl ?_
  refine hv_sub [3, 1, 0] rfl ?_
  refine wk_m_figure_L4  ?_ hk_F _ _ h
  · intro v3 h
    refine hv_iload_n 0 dX4_figure_20 rfl rfl ?_
    refine hv_bipush (v := 10) dX4_figure_21 (by decide) ?_
    refine hv_irem (by decide) dX4_figure_23 ?_
    have h := Option.some.inj h
    subst h
    exact hv_iret rfl dX4_figure_24
def m_tens_L4b (p1 : Int32) (e0 : Int32 → Option (Int32)) (rc : Int32 → Int32 → Option (Int32)) (v1 : Int32) (v2 : Int32) : Option (Int32) :=
  if p1 ≤ v2 then
    e0 v1
  else
  hk_nm (v1 * (10 : Int32)) fun x5 =>
  hk_nm (v2 + (1 : Int32)) fun x6 =>
  rc x5 x6
def m_tens_L4 (p1 : Int32) (e0 : Int32 → Option (Int32)) : Nat → Int32 → Int32 → Option (Int32)
  | 0 => fun _ _ => none
  | n + 1 => m_tens_L4b p1 e0 (m_tens_L4 p1 e0 n)
def m_tens (p1 : Int32) : Option (Int32) :=
  m_tens_L4 p1  (fun (v3 : Int32) =>
    some v3) hk_F (1 : Int32) (0 : Int32) 
abbrev N_m_tens (l : Launch) : hk_N := (l, cX4_tens, "HeadReckonsModel", 3, (some .int), 0, 0, false)
set_option maxHeartbeats 4000000 in
theorem wk_m_tens_L4b {l : Launch} {Gd : hk_G} {st : hk_St} {p1 : Int32} {r : Int32} {e0 : Int32 → Option (Int32)} {rc : Int32 → Int32 → Option (Int32)} (hrc : ∀ (v1 : Int32) (v2 : Int32), rc v1 v2 = some r → hk_V Gd (N_m_tens l) (hk_end Gd st (some (.int r)) st) 4 [(0, .int p1), (1, .int v1), (2, .int v2)] [] st) (he0 : ∀ (v3 : Int32), e0 v3 = some r → hk_V Gd (N_m_tens l) (hk_end Gd st (some (.int r)) st) 20 [(1, .int v3)] [] st) {v1 : Int32} {v2 : Int32} (h : m_tens_L4b p1 e0 rc v1 v2 = some r) : hk_V Gd (N_m_tens l) (hk_end Gd st (some (.int r)) st) 4 [(0, .int p1), (1, .int v1), (2, .int v2)] [] st := by
  unfold m_tens_L4b at h
  refine hv_iload_n 2 dX4_tens_4 rfl rfl ?_
  refine hv_iload_n 0 dX4_tens_5 rfl rfl ?_
  refine hv_icmp_ge (tgt := 20) dX4_tens_6 (by decide) (fun c4 => ?_) (fun c4 => ?_)
  · replace h := hq_ip c4 h
    refine hv_sub [1] rfl ?_
    exact he0 _ h
  · replace h := hq_in c4 h
    refine hv_iload_n 1 dX4_tens_9 rfl rfl ?_
    refine hv_bipush (v := 10) dX4_tens_10 (by decide) ?_
    refine hv_imul dX4_tens_12 ?_
    obtain ⟨x5, e_x5, h⟩ := hq_nm h
    rw [← e_x5]
    refine hv_istore_n (L' := [(1, .int x5), (0, .int p1), (2, .int v2)]) dX4_tens_13 rfl (Nat.le_of_ble_eq_true rfl) rfl ?_
    obtain ⟨x6, e_x6, h⟩ := hq_nm h
    refine hv_iinc (v := x6) (L' := [(2, .int x6), (1, .int x5), (0, .int p1)]) 2 dX4_tens_14 rfl (by rw [e_x6]; rfl) (Nat.le_of_ble_eq_true rfl) rfl ?_
    refine hv_goto (tgt := 4) dX4_tens_17 (by decide) ?_
    refine hv_sub [2, 1, 0] rfl ?_
    exact hrc _ _ h
theorem wk_m_tens_L4 {l : Launch} {Gd : hk_G} {st : hk_St} {p1 : Int32} {r : Int32} {e0 : Int32 → Option (Int32)} (he0 : ∀ (v3 : Int32), e0 v3 = some r → hk_V Gd (N_m_tens l) (hk_end Gd st (some (.int r)) st) 20 [(1, .int v3)] [] st) : ∀ (n : Nat) (v1 : Int32) (v2 : Int32), m_tens_L4 p1 e0 n v1 v2 = some r → hk_V Gd (N_m_tens l) (hk_end Gd st (some (.int r)) st) 4 [(0, .int p1), (1, .int v1), (2, .int v2)] [] st := by
  intro n
  induction n with
  | zero => intro v1 v2 h; cases h
  | succ n ih => intro v1 v2 h; exact wk_m_tens_L4b  ih he0 h
set_option maxHeartbeats 4000000 in
theorem wk_m_tens {l : Launch} {Gd : hk_G} {st : hk_St} {p1 : Int32} {r : Int32} (h : m_tens p1 = some r) : hk_Met Gd l yX4_tens cX4_tens 3 (some .int) 0 0 [.int p1] st (some (.int r)) st := by
  refine hk_start "HeadReckonsModel" false (by decide +kernel) rfl (by decide) (Nat.le_of_ble_eq_true rfl) ?_
  show hk_V Gd (N_m_tens l) (hk_end Gd st (some (.int r)) st) 0 [(0, .int p1)] [] st
  unfold m_tens at h
  refine hv_iconst (v := 1) dX4_tens_0 (by decide) ?_
  refine hv_istore_n (L' := [(1, .int (1 : Int32)), (0, .int p1)]) dX4_tens_1 rfl (Nat.le_of_ble_eq_true rfl) rfl ?_
  refine hv_iconst (v := 0) dX4_tens_2 (by decide) ?_
  refine hv_istore_n (L' := [(2, .int (0 : Int32)), (1, .int (1 : Int32)), (0, .int p1)]) dX4_tens_3 rfl (Nat.le_of_ble_eq_true rfl) rfl ?_
  refine hv_sub [2, 1, 0] rfl ?_
  refine wk_m_tens_L4  ?_ hk_F _ _ h
  · intro v3 h
    refine hv_iload_n 0 dX4_tens_20 rfl rfl ?_
    have h := Option.some.inj h
    subst h
    exact hv_iret rfl dX4_tens_21
def m_lookAndAdd (p1 : Int32) (p2 : Int32) (p3 : Int32) (p4 : Int32) (p5 : Int32) (s0 : hk_Ms) : Option (Int32 × hk_Ms) :=
  hk_nm (fun (v1 : Int32) (v2 : Int32) (v3 : Int32) (s4 : hk_Ms) =>
    (m_tens p3).bind fun x5 =>
    (m_tens p5).bind fun x6 =>
    (m_acts (0 : Int32) v3 ((v2 * x5) * x6) (0 : Int32) s4).bind fun s7 =>
    if p4 = 0 then
      hk_nm (hm_sI s7 29 ((hm_I s7 29) + v1)) fun s9 =>
    (m_acts (1 : Int32) (hm_I s9 29) (0 : Int32) p5 s9).bind fun s10 =>
    some ((0 : Int32), s10)
    else
    some ((0 : Int32), s7)) fun k35 =>
  hk_nm (fun (v11 : Int32) (s12 : hk_Ms) =>
    if p2 ≤ p1 then
      k35 v11 p2 v11 s12
    else
    k35 v11 p1 v11 s12) fun k21 =>
  (m_tens p3).bind fun x14 =>
  hk_nm ((p1 * p2) * x14) fun x15 =>
  if p4 = 0 then
    k21 x15 s0
  else
  hk_nm (hm_sI s0 29 x15) fun s17 =>
  k21 x15 s17
abbrev N_m_lookAndAdd (l : Launch) : hk_N := (l, cX4_lookAndAdd, "HeadReckonsModel", 7, (some .boolean), 2, 48, false)
set_option maxHeartbeats 4000000 in
theorem wk_m_lookAndAdd {l : Launch} {Gd : hk_G} {m0 : Nat} {st : hk_St} (KM : hk_KM m0 st) {p1 : Int32} {p2 : Int32} {p3 : Int32} {p4 : Int32} {p5 : Int32} {s0 : hk_Ms} {r : Int32} {fin : hk_Ms} (h : m_lookAndAdd p1 p2 p3 p4 p5 s0 = some (r, fin)) : hk_Met Gd l yX4_lookAndAdd cX4_lookAndAdd 7 (some .boolean) 2 48 [.ref m0, .int p1, .int p2, .int p3, .int p4, .int p5] (hk_mU m0 st s0) (some (.int r)) (hk_mU m0 st fin) := by
  refine hk_start "HeadReckonsModel" false (by decide +kernel) rfl (by decide) (Nat.le_of_ble_eq_true rfl) ?_
  show hk_V Gd (N_m_lookAndAdd l) (hk_end Gd (hk_mU m0 st s0) (some (.int r)) (hk_mU m0 st fin)) 0 [(0, .ref m0), (1, .int p1), (2, .int p2), (3, .int p3), (4, .int p4), (5, .int p5)] [] (hk_mU m0 st s0)
  unfold m_lookAndAdd at h
  obtain ⟨k35, e_k35, h⟩ := hq_nm h
  have wk35 : ∀ (v1 : Int32) (v2 : Int32) (v3 : Int32) (s4 : hk_Ms), k35 v1 v2 v3 s4 = some (r, fin) → hk_V Gd (N_m_lookAndAdd l) (hk_end Gd (hk_mU m0 st s0) (some (.int r)) (hk_mU m0 st fin)) 35 [(0, .ref m0), (3, .int p3), (4, .int p4), (5, .int p5), (6, .int v1)] [.int v2, .int v3, .int (0 : Int32), .ref m0] (hk_mU m0 st s4) := by
    intro v1 v2 v3 s4 h
    rw [e_k35] at h
    refine hv_iload_n 1 dX4_lookAndAdd_35 rfl rfl ?_
    obtain ⟨x5, e_x5, h⟩ := hq_ob h
    refine hv_callS [.int p3] [.int v2, .int v3, .int (0 : Int32), .ref m0] [.int x5, .int v2, .int v3, .int (0 : Int32), .ref m0] (wk_m_tens e_x5) cs_X4_233 rfl ⟨Nat.le_of_ble_eq_true rfl, Nat.le_of_ble_eq_true rfl⟩ rfl (Nat.le_of_ble_eq_true rfl) rfl dX4_lookAndAdd_36 ?_
    refine hv_imul dX4_lookAndAdd_39 ?_
    refine hv_iload 3 dX4_lookAndAdd_40 rfl ?_
    obtain ⟨x6, e_x6, h⟩ := hq_ob h
    refine hv_callS [.int p5] [.int (v2 * x5), .int v3, .int (0 : Int32), .ref m0] [.int x6, .int (v2 * x5), .int v3, .int (0 : Int32), .ref m0] (wk_m_tens e_x6) cs_X4_233 rfl ⟨Nat.le_of_ble_eq_true rfl, Nat.le_of_ble_eq_true rfl⟩ rfl (Nat.le_of_ble_eq_true rfl) rfl dX4_lookAndAdd_42 ?_
    refine hv_imul dX4_lookAndAdd_45 ?_
    refine hv_iconst (v := 0) dX4_lookAndAdd_46 (by decide) ?_
    obtain ⟨s7, e_s7, h⟩ := hq_ob h
    refine hv_callV [.int (0 : Int32), .int v3, .int ((v2 * x5) * x6), .int (0 : Int32)] [] [] (wk_m_acts KM e_s7) cs_X4_229 KM.recv rfl ⟨Nat.le_of_ble_eq_true rfl, Nat.le_of_ble_eq_true rfl⟩ rfl (Nat.le_of_ble_eq_true rfl) rfl dX4_lookAndAdd_47 ?_
    refine hv_iload 2 dX4_lookAndAdd_50 rfl ?_
    refine hv_if_ne (tgt := 78) dX4_lookAndAdd_52 (by decide) (fun c8 => ?_) (fun c8 => ?_)
    · replace h := hq_in c8 h
      refine hv_iconst (v := 0) dX4_lookAndAdd_78 (by decide) ?_
      obtain ⟨h1, h2⟩ := hq_ret h
      subst h1
      subst h2
      exact hv_zret (ty := .boolean) rfl rfl dX4_lookAndAdd_79
    · replace h := hq_ip c8 h
      refine hv_aload_n 0 dX4_lookAndAdd_55 rfl rfl ?_
      refine hv_dup dX4_lookAndAdd_56 rfl ?_
      refine hm_getI (f := 29) KM (fl_X4_226) dX4_lookAndAdd_57 ?_
      refine hv_iload 4 dX4_lookAndAdd_60 rfl ?_
      refine hv_iadd dX4_lookAndAdd_62 ?_
      obtain ⟨s9, e_s9, h⟩ := hq_nm h
      refine hm_putI (f := 29) KM (fp_X4_226) e_s9 dX4_lookAndAdd_63 ?_
      refine hv_aload_n 0 dX4_lookAndAdd_66 rfl rfl ?_
      refine hv_iconst (v := 1) dX4_lookAndAdd_67 (by decide) ?_
      refine hv_aload_n 0 dX4_lookAndAdd_68 rfl rfl ?_
      refine hm_getI (f := 29) KM (fl_X4_226) dX4_lookAndAdd_69 ?_
      refine hv_iconst (v := 0) dX4_lookAndAdd_72 (by decide) ?_
      refine hv_iload 3 dX4_lookAndAdd_73 rfl ?_
      obtain ⟨s10, e_s10, h⟩ := hq_ob h
      refine hv_callV [.int (1 : Int32), .int (hm_I s9 29), .int (0 : Int32), .int p5] [] [] (wk_m_acts KM e_s10) cs_X4_229 KM.recv rfl ⟨Nat.le_of_ble_eq_true rfl, Nat.le_of_ble_eq_true rfl⟩ rfl (Nat.le_of_ble_eq_true rfl) rfl dX4_lookAndAdd_75 ?_
      refine hv_iconst (v := 0) dX4_lookAndAdd_78 (by decide) ?_
      obtain ⟨h1, h2⟩ := hq_ret h
      subst h1
      subst h2
      exact hv_zret (ty := .boolean) rfl rfl dX4_lookAndAdd_79
  clear e_k35
  obtain ⟨k21, e_k21, h⟩ := hq_nm h
  have wk21 : ∀ (v11 : Int32) (s12 : hk_Ms), k21 v11 s12 = some (r, fin) → hk_V Gd (N_m_lookAndAdd l) (hk_end Gd (hk_mU m0 st s0) (some (.int r)) (hk_mU m0 st fin)) 21 [(0, .ref m0), (1, .int p1), (2, .int p2), (3, .int p3), (4, .int p4), (5, .int p5), (6, .int v11)] [] (hk_mU m0 st s12) := by
    intro v11 s12 h
    rw [e_k21] at h
    refine hv_aload_n 0 dX4_lookAndAdd_21 rfl rfl ?_
    refine hv_iconst (v := 0) dX4_lookAndAdd_22 (by decide) ?_
    refine hv_iload 6 dX4_lookAndAdd_23 rfl ?_
    refine hv_iload_n 1 dX4_lookAndAdd_25 rfl rfl ?_
    refine hv_iload_n 2 dX4_lookAndAdd_26 rfl rfl ?_
    refine hv_icmp_ge (tgt := 34) dX4_lookAndAdd_27 (by decide) (fun c13 => ?_) (fun c13 => ?_)
    · replace h := hq_ip c13 h
      refine hv_iload_n 2 dX4_lookAndAdd_34 rfl rfl ?_
      refine hv_sub [0, 3, 4, 5, 6] rfl ?_
      exact wk35 _ _ _ _ h
    · replace h := hq_in c13 h
      refine hv_iload_n 1 dX4_lookAndAdd_30 rfl rfl ?_
      refine hv_goto (tgt := 35) dX4_lookAndAdd_31 (by decide) ?_
      refine hv_sub [0, 3, 4, 5, 6] rfl ?_
      exact wk35 _ _ _ _ h
  clear e_k21
  refine hv_iload_n 1 dX4_lookAndAdd_0 rfl rfl ?_
  refine hv_iload_n 2 dX4_lookAndAdd_1 rfl rfl ?_
  refine hv_imul dX4_lookAndAdd_2 ?_
  refine hv_iload_n 3 dX4_lookAndAdd_3 rfl rfl ?_
  obtain ⟨x14, e_x14, h⟩ := hq_ob h
  refine hv_callS [.int p3] [.int (p1 * p2)] [.int x14, .int (p1 * p2)] (wk_m_tens e_x14) cs_X4_233 rfl ⟨Nat.le_of_ble_eq_true rfl, Nat.le_of_ble_eq_true rfl⟩ rfl (Nat.le_of_ble_eq_true rfl) rfl dX4_lookAndAdd_4 ?_
  refine hv_imul dX4_lookAndAdd_7 ?_
  obtain ⟨x15, e_x15, h⟩ := hq_nm h
  rw [← e_x15]
  refine hv_istore (L' := [(6, .int x15), (0, .ref m0), (1, .int p1), (2, .int p2), (3, .int p3), (4, .int p4), (5, .int p5)]) dX4_lookAndAdd_8 (Nat.le_of_ble_eq_true rfl) rfl ?_
  refine hv_iload 5 dX4_lookAndAdd_10 rfl ?_
  refine hv_if_eq (tgt := 21) dX4_lookAndAdd_12 (by decide) (fun c16 => ?_) (fun c16 => ?_)
  · replace h := hq_ip c16 h
    refine hv_sub [1, 2, 3, 4, 5, 6, 0] rfl ?_
    exact wk21 _ _ h
  · replace h := hq_in c16 h
    refine hv_aload_n 1 dX4_lookAndAdd_15 rfl rfl ?_
    refine hv_iload 0 dX4_lookAndAdd_16 rfl ?_
    obtain ⟨s17, e_s17, h⟩ := hq_nm h
    refine hm_putI (f := 29) KM (fp_X4_226) e_s17 dX4_lookAndAdd_18 ?_
    refine hv_sub [1, 2, 3, 4, 5, 6, 0] rfl ?_
    exact wk21 _ _ h
def m_goLeft_L23b (p1 : Int32) (p2 : Int32) (v11 : Int32) (e0 : Int32 → hk_Ms → Option hk_Ms) (rc : Int32 → Int32 → hk_Ms → Option hk_Ms) (v10 : Int32) (v12 : Int32) (s13 : hk_Ms) : Option hk_Ms :=
  if v12 < 0 then
    e0 v10 s13
  else
  (m_figure p1 v11).bind fun x17 =>
  if x17 ≤ 0 then
    hk_nm (v12 + (-1 : Int32)) fun x19 =>
    rc v10 x19 s13
  else
  (m_figure p2 v12).bind fun x20 =>
  if x20 ≤ 0 then
    hk_nm (v12 + (-1 : Int32)) fun x22 =>
    rc v10 x22 s13
  else
  (m_figure p1 v11).bind fun x23 =>
  (m_figure p2 v12).bind fun x24 =>
  (m_lookAndAdd x23 x24 (v11 + v12) v10 (0 : Int32) s13).bind fun q25 =>
  hk_nm (v12 + (-1 : Int32)) fun x26 =>
  rc q25.1 x26 q25.2
def m_goLeft_L23 (p1 : Int32) (p2 : Int32) (v11 : Int32) (e0 : Int32 → hk_Ms → Option hk_Ms) : Nat → Int32 → Int32 → hk_Ms → Option hk_Ms
  | 0 => fun _ _ _ => none
  | n + 1 => m_goLeft_L23b p1 p2 v11 e0 (m_goLeft_L23 p1 p2 v11 e0 n)
def m_goLeft_L10b (p1 : Int32) (p2 : Int32) (e0 : hk_Ms → Option hk_Ms) (rc : Int32 → Int32 → hk_Ms → Option hk_Ms) (v3 : Int32) (v4 : Int32) (s5 : hk_Ms) : Option hk_Ms :=
  if v4 < 0 then
    e0 s5
  else
  (m_digits p2).bind fun x8 =>
  hk_nm (x8 - (1 : Int32)) fun x9 =>
  m_goLeft_L23 p1 p2 v4 (fun (v14 : Int32) (s15 : hk_Ms) =>
    hk_nm (v4 + (-1 : Int32)) fun x27 =>
    rc v14 x27 s15) hk_F v3 x9 s5
def m_goLeft_L10 (p1 : Int32) (p2 : Int32) (e0 : hk_Ms → Option hk_Ms) : Nat → Int32 → Int32 → hk_Ms → Option hk_Ms
  | 0 => fun _ _ _ => none
  | n + 1 => m_goLeft_L10b p1 p2 e0 (m_goLeft_L10 p1 p2 e0 n)
def m_goLeft (p1 : Int32) (p2 : Int32) (s0 : hk_Ms) : Option hk_Ms :=
  (m_digits p1).bind fun x1 =>
  hk_nm (x1 - (1 : Int32)) fun x2 =>
  m_goLeft_L10 p1 p2  (fun (s6 : hk_Ms) =>
    some s6) hk_F (1 : Int32) x2 s0
abbrev N_m_goLeft (l : Launch) : hk_N := (l, cX4_goLeft, "HeadReckonsModel", 6, none, 3, 74, false)
set_option maxHeartbeats 4000000 in
theorem wk_m_goLeft_L23b {l : Launch} {Gd : hk_G} {m0 : Nat} {st : hk_St} (KM : hk_KM m0 st) {p1 : Int32} {p2 : Int32} {s0 : hk_Ms} {fin : hk_Ms} {v11 : Int32} {e0 : Int32 → hk_Ms → Option hk_Ms} {rc : Int32 → Int32 → hk_Ms → Option hk_Ms} (hrc : ∀ (v10 : Int32) (v12 : Int32) (s13 : hk_Ms), rc v10 v12 s13 = some fin → hk_V Gd (N_m_goLeft l) (hk_end Gd (hk_mU m0 st s0) none (hk_mU m0 st fin)) 23 [(0, .ref m0), (1, .int p1), (2, .int p2), (3, .int v10), (4, .int v11), (5, .int v12)] [] (hk_mU m0 st s13)) (he0 : ∀ (v14 : Int32) (s15 : hk_Ms), e0 v14 s15 = some fin → hk_V Gd (N_m_goLeft l) (hk_end Gd (hk_mU m0 st s0) none (hk_mU m0 st fin)) 76 [(0, .ref m0), (1, .int p1), (2, .int p2), (3, .int v14), (4, .int v11)] [] (hk_mU m0 st s15)) {v10 : Int32} {v12 : Int32} {s13 : hk_Ms} (h : m_goLeft_L23b p1 p2 v11 e0 rc v10 v12 s13 = some fin) : hk_V Gd (N_m_goLeft l) (hk_end Gd (hk_mU m0 st s0) none (hk_mU m0 st fin)) 23 [(0, .ref m0), (1, .int p1), (2, .int p2), (3, .int v10), (4, .int v11), (5, .int v12)] [] (hk_mU m0 st s13) := by
  unfold m_goLeft_L23b at h
  refine hv_iload 5 dX4_goLeft_23 rfl ?_
  refine hv_if_lt (tgt := 76) dX4_goLeft_25 (by decide) (fun c16 => ?_) (fun c16 => ?_)
  · replace h := hq_ip c16 h
    refine hv_sub [0, 1, 2, 3, 4] rfl ?_
    exact he0 _ _ h
  · replace h := hq_in c16 h
    refine hv_iload_n 1 dX4_goLeft_28 rfl rfl ?_
    refine hv_iload 4 dX4_goLeft_29 rfl ?_
    obtain ⟨x17, e_x17, h⟩ := hq_ob h
    refine hv_callS [.int p1, .int v11] [] [.int x17] (wk_m_figure e_x17) cs_X4_236 rfl ⟨Nat.le_of_ble_eq_true rfl, Nat.le_of_ble_eq_true rfl⟩ rfl (Nat.le_of_ble_eq_true rfl) rfl dX4_goLeft_31 ?_
    refine hv_if_le (tgt := 70) dX4_goLeft_34 (by decide) (fun c18 => ?_) (fun c18 => ?_)
    · replace h := hq_ip c18 h
      obtain ⟨x19, e_x19, h⟩ := hq_nm h
      refine hv_iinc (v := x19) (L' := [(5, .int x19), (0, .ref m0), (1, .int p1), (2, .int p2), (3, .int v10), (4, .int v11)]) 5 dX4_goLeft_70 rfl (by rw [e_x19]; rfl) (Nat.le_of_ble_eq_true rfl) rfl ?_
      refine hv_goto (tgt := 23) dX4_goLeft_73 (by decide) ?_
      refine hv_sub [1, 2, 3, 4, 5, 0] rfl ?_
      exact hrc _ _ _ h
    · replace h := hq_in c18 h
      refine hv_iload_n 2 dX4_goLeft_37 rfl rfl ?_
      refine hv_iload 5 dX4_goLeft_38 rfl ?_
      obtain ⟨x20, e_x20, h⟩ := hq_ob h
      refine hv_callS [.int p2, .int v12] [] [.int x20] (wk_m_figure e_x20) cs_X4_236 rfl ⟨Nat.le_of_ble_eq_true rfl, Nat.le_of_ble_eq_true rfl⟩ rfl (Nat.le_of_ble_eq_true rfl) rfl dX4_goLeft_40 ?_
      refine hv_if_le (tgt := 70) dX4_goLeft_43 (by decide) (fun c21 => ?_) (fun c21 => ?_)
      · replace h := hq_ip c21 h
        obtain ⟨x22, e_x22, h⟩ := hq_nm h
        refine hv_iinc (v := x22) (L' := [(5, .int x22), (0, .ref m0), (1, .int p1), (2, .int p2), (3, .int v10), (4, .int v11)]) 5 dX4_goLeft_70 rfl (by rw [e_x22]; rfl) (Nat.le_of_ble_eq_true rfl) rfl ?_
        refine hv_goto (tgt := 23) dX4_goLeft_73 (by decide) ?_
        refine hv_sub [1, 2, 3, 4, 5, 0] rfl ?_
        exact hrc _ _ _ h
      · replace h := hq_in c21 h
        refine hv_aload_n 0 dX4_goLeft_46 rfl rfl ?_
        refine hv_iload_n 1 dX4_goLeft_47 rfl rfl ?_
        refine hv_iload 4 dX4_goLeft_48 rfl ?_
        obtain ⟨x23, e_x23, h⟩ := hq_ob h
        refine hv_callS [.int p1, .int v11] [.ref m0] [.int x23, .ref m0] (wk_m_figure e_x23) cs_X4_236 rfl ⟨Nat.le_of_ble_eq_true rfl, Nat.le_of_ble_eq_true rfl⟩ rfl (Nat.le_of_ble_eq_true rfl) rfl dX4_goLeft_50 ?_
        refine hv_iload_n 2 dX4_goLeft_53 rfl rfl ?_
        refine hv_iload 5 dX4_goLeft_54 rfl ?_
        obtain ⟨x24, e_x24, h⟩ := hq_ob h
        refine hv_callS [.int p2, .int v12] [.int x23, .ref m0] [.int x24, .int x23, .ref m0] (wk_m_figure e_x24) cs_X4_236 rfl ⟨Nat.le_of_ble_eq_true rfl, Nat.le_of_ble_eq_true rfl⟩ rfl (Nat.le_of_ble_eq_true rfl) rfl dX4_goLeft_56 ?_
        refine hv_iload 4 dX4_goLeft_59 rfl ?_
        refine hv_iload 5 dX4_goLeft_61 rfl ?_
        refine hv_iadd dX4_goLeft_63 ?_
        refine hv_iload_n 3 dX4_goLeft_64 rfl rfl ?_
        refine hv_iconst (v := 0) dX4_goLeft_65 (by decide) ?_
        obtain ⟨q25, e_q25, h⟩ := hq_ob h
        refine hv_callV [.int x23, .int x24, .int (v11 + v12), .int v10, .int (0 : Int32)] [] [.int q25.1] (wk_m_lookAndAdd KM e_q25) cs_X4_239 KM.recv rfl ⟨Nat.le_of_ble_eq_true rfl, Nat.le_of_ble_eq_true rfl⟩ rfl (Nat.le_of_ble_eq_true rfl) rfl dX4_goLeft_66 ?_
        refine hv_istore_n (L' := [(3, .int q25.1), (0, .ref m0), (1, .int p1), (2, .int p2), (4, .int v11), (5, .int v12)]) dX4_goLeft_69 rfl (Nat.le_of_ble_eq_true rfl) rfl ?_
        obtain ⟨x26, e_x26, h⟩ := hq_nm h
        refine hv_iinc (v := x26) (L' := [(5, .int x26), (3, .int q25.1), (0, .ref m0), (1, .int p1), (2, .int p2), (4, .int v11)]) 5 dX4_goLeft_70 rfl (by rw [e_x26]; rfl) (Nat.le_of_ble_eq_true rfl) rfl ?_
        refine hv_goto (tgt := 23) dX4_goLeft_73 (by decide) ?_
        refine hv_sub [2, 3, 4, 1, 5, 0] rfl ?_
        exact hrc _ _ _ h
theorem wk_m_goLeft_L23 {l : Launch} {Gd : hk_G} {m0 : Nat} {st : hk_St} (KM : hk_KM m0 st) {p1 : Int32} {p2 : Int32} {s0 : hk_Ms} {fin : hk_Ms} {v11 : Int32} {e0 : Int32 → hk_Ms → Option hk_Ms} (he0 : ∀ (v14 : Int32) (s15 : hk_Ms), e0 v14 s15 = some fin → hk_V Gd (N_m_goLeft l) (hk_end Gd (hk_mU m0 st s0) none (hk_mU m0 st fin)) 76 [(0, .ref m0), (1, .int p1), (2, .int p2), (3, .int v14), (4, .int v11)] [] (hk_mU m0 st s15)) : ∀ (n : Nat) (v10 : Int32) (v12 : Int32) (s13 : hk_Ms), m_goLeft_L23 p1 p2 v11 e0 n v10 v12 s13 = some fin → hk_V Gd (N_m_goLeft l) (hk_end Gd (hk_mU m0 st s0) none (hk_mU m0 st fin)) 23 [(0, .ref m0), (1, .int p1), (2, .int p2), (3, .int v10), (4, .int v11), (5, .int v12)] [] (hk_mU m0 st s13) := by
  intro n
  induction n with
  | zero => intro v10 v12 s13 h; cases h
  | succ n ih => intro v10 v12 s13 h; exact wk_m_goLeft_L23b KM ih he0 h
set_option maxHeartbeats 4000000 in
theorem wk_m_goLeft_L10b {l : Launch} {Gd : hk_G} {m0 : Nat} {st : hk_St} (KM : hk_KM m0 st) {p1 : Int32} {p2 : Int32} {s0 : hk_Ms} {fin : hk_Ms} {e0 : hk_Ms → Option hk_Ms} {rc : Int32 → Int32 → hk_Ms → Option hk_Ms} (hrc : ∀ (v3 : Int32) (v4 : Int32) (s5 : hk_Ms), rc v3 v4 s5 = some fin → hk_V Gd (N_m_goLeft l) (hk_end Gd (hk_mU m0 st s0) none (hk_mU m0 st fin)) 10 [(0, .ref m0), (1, .int p1), (2, .int p2), (3, .int v3), (4, .int v4)] [] (hk_mU m0 st s5)) (he0 : ∀ (s6 : hk_Ms), e0 s6 = some fin → hk_V Gd (N_m_goLeft l) (hk_end Gd (hk_mU m0 st s0) none (hk_mU m0 st fin)) 82 [] [] (hk_mU m0 st s6)) {v3 : Int32} {v4 : Int32} {s5 : hk_Ms} (h : m_goLeft_L10b p1 p2 e0 rc v3 v4 s5 = some fin) : hk_V Gd (N_m_goLeft l) (hk_end Gd (hk_mU m0 st s0) none (hk_mU m0 st fin)) 10 [(0, .ref m0), (1, .int p1), (2, .int p2), (3, .int v3), (4, .int v4)] [] (hk_mU m0 st s5) := by
  unfold m_goLeft_L10b at h
  refine hv_iload 4 dX4_goLeft_10 rfl ?_
  refine hv_if_lt (tgt := 82) dX4_goLeft_12 (by decide) (fun c7 => ?_) (fun c7 => ?_)
  · replace h := hq_ip c7 h
    refine hv_sub [] rfl ?_
    exact he0 _ h
  · replace h := hq_in c7 h
    refine hv_iload_n 2 dX4_goLeft_15 rfl rfl ?_
    obtain ⟨x8, e_x8, h⟩ := hq_ob h
    refine hv_callS [.int p2] [] [.int x8] (wk_m_digits e_x8) cs_X4_220 rfl ⟨Nat.le_of_ble_eq_true rfl, Nat.le_of_ble_eq_true rfl⟩ rfl (Nat.le_of_ble_eq_true rfl) rfl dX4_goLeft_16 ?_
    refine hv_iconst (v := 1) dX4_goLeft_19 (by decide) ?_
    refine hv_isub dX4_goLeft_20 ?_
    obtain ⟨x9, e_x9, h⟩ := hq_nm h
    rw [← e_x9]
    refine hv_istore (L' := [(5, .int x9), (0, .ref m0), (1, .int p1), (2, .int p2), (3, .int v3), (4, .int v4)]) dX4_goLeft_21 (Nat.le_of_ble_eq_true rfl) rfl ?_
    refine hv_sub [1, 2, 3, 4, 5, 0] rfl ?_
    refine wk_m_goLeft_L23 KM ?_ hk_F _ _ _ h
    · intro v14 s15 h
      obtain ⟨x27, e_x27, h⟩ := hq_nm h
      refine hv_iinc (v := x27) (L' := [(4, .int x27), (0, .ref m0), (1, .int p1), (2, .int p2), (3, .int v14)]) 4 dX4_goLeft_76 rfl (by rw [e_x27]; rfl) (Nat.le_of_ble_eq_true rfl) rfl ?_
      refine hv_goto (tgt := 10) dX4_goLeft_79 (by decide) ?_
      refine hv_sub [1, 2, 3, 4, 0] rfl ?_
      exact hrc _ _ _ h
theorem wk_m_goLeft_L10 {l : Launch} {Gd : hk_G} {m0 : Nat} {st : hk_St} (KM : hk_KM m0 st) {p1 : Int32} {p2 : Int32} {s0 : hk_Ms} {fin : hk_Ms} {e0 : hk_Ms → Option hk_Ms} (he0 : ∀ (s6 : hk_Ms), e0 s6 = some fin → hk_V Gd (N_m_goLeft l) (hk_end Gd (hk_mU m0 st s0) none (hk_mU m0 st fin)) 82 [] [] (hk_mU m0 st s6)) : ∀ (n : Nat) (v3 : Int32) (v4 : Int32) (s5 : hk_Ms), m_goLeft_L10 p1 p2 e0 n v3 v4 s5 = some fin → hk_V Gd (N_m_goLeft l) (hk_end Gd (hk_mU m0 st s0) none (hk_mU m0 st fin)) 10 [(0, .ref m0), (1, .int p1), (2, .int p2), (3, .int v3), (4, .int v4)] [] (hk_mU m0 st s5) := by
  intro n
  induction n with
  | zero => intro v3 v4 s5 h; cases h
  | succ n ih => intro v3 v4 s5 h; exact wk_m_goLeft_L10b KM ih he0 h
set_option maxHeartbeats 4000000 in
theorem wk_m_goLeft {l : Launch} {Gd : hk_G} {m0 : Nat} {st : hk_St} (KM : hk_KM m0 st) {p1 : Int32} {p2 : Int32} {s0 : hk_Ms} {fin : hk_Ms} (h : m_goLeft p1 p2 s0 = some fin) : hk_Met Gd l yX4_goLeft cX4_goLeft 6 none 3 74 [.ref m0, .int p1, .int p2] (hk_mU m0 st s0) none (hk_mU m0 st fin) := by
  refine hk_start "HeadReckonsModel" false (by decide +kernel) rfl (by decide) (Nat.le_of_ble_eq_true rfl) ?_
  show hk_V Gd (N_m_goLeft l) (hk_end Gd (hk_mU m0 st s0) none (hk_mU m0 st fin)) 0 [(0, .ref m0), (1, .int p1), (2, .int p2)] [] (hk_mU m0 st s0)
  unfold m_goLeft at h
  refine hv_iconst (v := 1) dX4_goLeft_0 (by decide) ?_
  refine hv_istore_n (L' := [(3, .int (1 : Int32)), (0, .ref m0), (1, .int p1), (2, .int p2)]) dX4_goLeft_1 rfl (Nat.le_of_ble_eq_true rfl) rfl ?_
  refine hv_iload_n 2 dX4_goLeft_2 rfl rfl ?_
  obtain ⟨x1, e_x1, h⟩ := hq_ob h
  refine hv_callS [.int p1] [] [.int x1] (wk_m_digits e_x1) cs_X4_220 rfl ⟨Nat.le_of_ble_eq_true rfl, Nat.le_of_ble_eq_true rfl⟩ rfl (Nat.le_of_ble_eq_true rfl) rfl dX4_goLeft_3 ?_
  refine hv_iconst (v := 1) dX4_goLeft_6 (by decide) ?_
  refine hv_isub dX4_goLeft_7 ?_
  obtain ⟨x2, e_x2, h⟩ := hq_nm h
  rw [← e_x2]
  refine hv_istore (L' := [(4, .int x2), (3, .int (1 : Int32)), (0, .ref m0), (1, .int p1), (2, .int p2)]) dX4_goLeft_8 (Nat.le_of_ble_eq_true rfl) rfl ?_
  refine hv_sub [2, 3, 4, 1, 0] rfl ?_
  refine wk_m_goLeft_L10 KM ?_ hk_F _ _ _ h
  · intro s6 h
    have h := Option.some.inj h
    subst h
    exact hv_vret rfl dX4_goLeft_82
def m_holds (s0 : hk_Ms) : Option hk_Ms :=
  hk_nm (hm_I s0 29) fun x1 =>
  (m_digits x1).bind fun x2 =>
  hk_nm (hm_sI s0 28 ((hm_I s0 28) + x2)) fun s3 =>
  hk_nm (hm_sI s3 29 (0 : Int32)) fun s4 =>
  (m_acts (2 : Int32) x1 (0 : Int32) (0 : Int32) s4).bind fun s5 =>
  some s5
abbrev N_m_holds (l : Launch) : hk_N := (l, cX4_holds, "HeadReckonsModel", 2, none, 2, 48, false)
set_option maxHeartbeats 4000000 in
theorem wk_m_holds {l : Launch} {Gd : hk_G} {m0 : Nat} {st : hk_St} (KM : hk_KM m0 st) {s0 : hk_Ms} {fin : hk_Ms} (h : m_holds s0 = some fin) : hk_Met Gd l yX4_holds cX4_holds 2 none 2 48 [.ref m0] (hk_mU m0 st s0) none (hk_mU m0 st fin) := by
  refine hk_start "HeadReckonsModel" false (by decide +kernel) rfl (by decide) (Nat.le_of_ble_eq_true rfl) ?_
  show hk_V Gd (N_m_holds l) (hk_end Gd (hk_mU m0 st s0) none (hk_mU m0 st fin)) 0 [(0, .ref m0)] [] (hk_mU m0 st s0)
  unfold m_holds at h
  refine hv_aload_n 0 dX4_holds_0 rfl rfl ?_
  refine hm_getI (f := 29) KM (fl_X4_226) dX4_holds_1 ?_
  obtain ⟨x1, e_x1, h⟩ := hq_nm h
  rw [← e_x1]
  refine hv_istore_n (L' := [(1, .int x1), (0, .ref m0)]) dX4_holds_4 rfl (Nat.le_of_ble_eq_true rfl) rfl ?_
  refine hv_aload_n 1 dX4_holds_5 rfl rfl ?_
  refine hv_dup dX4_holds_6 rfl ?_
  refine hm_getI (f := 28) KM (fl_X4_223) dX4_holds_7 ?_
  refine hv_iload_n 0 dX4_holds_10 rfl rfl ?_
  obtain ⟨x2, e_x2, h⟩ := hq_ob h
  refine hv_callS [.int x1] [.int (hm_I s0 28), .ref m0] [.int x2, .int (hm_I s0 28), .ref m0] (wk_m_digits e_x2) cs_X4_220 rfl ⟨Nat.le_of_ble_eq_true rfl, Nat.le_of_ble_eq_true rfl⟩ rfl (Nat.le_of_ble_eq_true rfl) rfl dX4_holds_11 ?_
  refine hv_iadd dX4_holds_14 ?_
  obtain ⟨s3, e_s3, h⟩ := hq_nm h
  refine hm_putI (f := 28) KM (fp_X4_223) e_s3 dX4_holds_15 ?_
  refine hv_aload_n 1 dX4_holds_18 rfl rfl ?_
  refine hv_iconst (v := 0) dX4_holds_19 (by decide) ?_
  obtain ⟨s4, e_s4, h⟩ := hq_nm h
  refine hm_putI (f := 29) KM (fp_X4_226) e_s4 dX4_holds_20 ?_
  refine hv_aload_n 1 dX4_holds_23 rfl rfl ?_
  refine hv_iconst (v := 2) dX4_holds_24 (by decide) ?_
  refine hv_iload_n 0 dX4_holds_25 rfl rfl ?_
  refine hv_iconst (v := 0) dX4_holds_26 (by decide) ?_
  refine hv_iconst (v := 0) dX4_holds_27 (by decide) ?_
  obtain ⟨s5, e_s5, h⟩ := hq_ob h
  refine hv_callV [.int (2 : Int32), .int x1, .int (0 : Int32), .int (0 : Int32)] [] [] (wk_m_acts KM e_s5) cs_X4_229 KM.recv rfl ⟨Nat.le_of_ble_eq_true rfl, Nat.le_of_ble_eq_true rfl⟩ rfl (Nat.le_of_ble_eq_true rfl) rfl dX4_holds_28 ?_
  have h := Option.some.inj h
  subst h
  exact hv_vret rfl dX4_holds_31
def m_goRight_L5b (p1 : Int32) (p2 : Int32) (e0 : Int32 → hk_Ms → Option hk_Ms) (rc : Int32 → Int32 → hk_Ms → Option hk_Ms) (v1 : Int32) (v2 : Int32) (s3 : hk_Ms) : Option hk_Ms :=
  (m_digits p2).bind fun x6 =>
  if x6 ≤ v2 then
    e0 v1 s3
  else
  (m_figure p2 v2).bind fun x8 =>
  if x8 ≤ 0 then
    hk_nm (v2 + (1 : Int32)) fun x10 =>
    rc v1 x10 s3
  else
  (m_figure p2 v2).bind fun x11 =>
  (m_tens v2).bind fun x12 =>
  (m_goLeft p1 (x11 * x12) s3).bind fun s13 =>
  (hm_tI s13 17 4 v1 (hm_I s13 29)).bind fun s14 =>
  hk_nm (v1 + (1 : Int32)) fun x15 =>
  (m_holds  s14).bind fun s16 =>
  hk_nm (v2 + (1 : Int32)) fun x17 =>
  rc x15 x17 s16
def m_goRight_L5 (p1 : Int32) (p2 : Int32) (e0 : Int32 → hk_Ms → Option hk_Ms) : Nat → Int32 → Int32 → hk_Ms → Option hk_Ms
  | 0 => fun _ _ _ => none
  | n + 1 => m_goRight_L5b p1 p2 e0 (m_goRight_L5 p1 p2 e0 n)
def m_goRight_L98b (p1 : Int32) (p2 : Int32) (v23 : Int32) (e0 : hk_Ms → Option hk_Ms) (rc : Int32 → hk_Ms → Option hk_Ms) (v24 : Int32) (s25 : hk_Ms) : Option hk_Ms :=
  if v23 ≤ v24 then
    e0 s25
  else
  (hm_lI s25 17 4 v24).bind fun x28 =>
  hk_nm (hm_sI s25 29 ((hm_I s25 29) + x28)) fun s29 =>
  (hm_lI s29 17 4 v24).bind fun x30 =>
  (m_digits x30).bind fun x31 =>
  hk_nm (hm_sI s29 28 ((hm_I s29 28) - x31)) fun s32 =>
  (m_acts (1 : Int32) (hm_I s32 29) (0 : Int32) (0 : Int32) s32).bind fun s33 =>
  hk_nm (v24 + (1 : Int32)) fun x34 =>
  rc x34 s33
def m_goRight_L98 (p1 : Int32) (p2 : Int32) (v23 : Int32) (e0 : hk_Ms → Option hk_Ms) : Nat → Int32 → hk_Ms → Option hk_Ms
  | 0 => fun _ _ => none
  | n + 1 => m_goRight_L98b p1 p2 v23 e0 (m_goRight_L98 p1 p2 v23 e0 n)
def m_goRight (p1 : Int32) (p2 : Int32) (s0 : hk_Ms) : Option hk_Ms :=
  m_goRight_L5 p1 p2  (fun (v4 : Int32) (s5 : hk_Ms) =>
    if (2 : Int32) ≤ v4 then
      (hm_lI s5 17 4 (0 : Int32)).bind fun x19 =>
      hk_nm (hm_sI s5 29 x19) fun s20 =>
      (m_digits (hm_I s20 29)).bind fun x21 =>
      hk_nm (hm_sI s20 28 ((hm_I s20 28) - x21)) fun s22 =>
      m_goRight_L98 p1 p2 v4 (fun (s26 : hk_Ms) =>
        some s26) hk_F (1 : Int32) s22
    else
    some s5) hk_F (0 : Int32) (0 : Int32) s0
abbrev N_m_goRight (l : Launch) : hk_N := (l, cX4_goRight, "HeadReckonsModel", 5, none, 4, 99, false)
set_option maxHeartbeats 4000000 in
theorem wk_m_goRight_L5b {l : Launch} {Gd : hk_G} {m0 : Nat} {st : hk_St} (KM : hk_KM m0 st) {p1 : Int32} {p2 : Int32} {s0 : hk_Ms} {fin : hk_Ms} {e0 : Int32 → hk_Ms → Option hk_Ms} {rc : Int32 → Int32 → hk_Ms → Option hk_Ms} (hrc : ∀ (v1 : Int32) (v2 : Int32) (s3 : hk_Ms), rc v1 v2 s3 = some fin → hk_V Gd (N_m_goRight l) (hk_end Gd (hk_mU m0 st s0) none (hk_mU m0 st fin)) 5 [(0, .ref m0), (1, .int p1), (2, .int p2), (3, .int v1), (4, .int v2)] [] (hk_mU m0 st s3)) (he0 : ∀ (v4 : Int32) (s5 : hk_Ms), e0 v4 s5 = some fin → hk_V Gd (N_m_goRight l) (hk_end Gd (hk_mU m0 st s0) none (hk_mU m0 st fin)) 63 [(0, .ref m0), (3, .int v4)] [] (hk_mU m0 st s5)) {v1 : Int32} {v2 : Int32} {s3 : hk_Ms} (h : m_goRight_L5b p1 p2 e0 rc v1 v2 s3 = some fin) : hk_V Gd (N_m_goRight l) (hk_end Gd (hk_mU m0 st s0) none (hk_mU m0 st fin)) 5 [(0, .ref m0), (1, .int p1), (2, .int p2), (3, .int v1), (4, .int v2)] [] (hk_mU m0 st s3) := by
  unfold m_goRight_L5b at h
  refine hv_iload 4 dX4_goRight_5 rfl ?_
  refine hv_iload_n 2 dX4_goRight_7 rfl rfl ?_
  obtain ⟨x6, e_x6, h⟩ := hq_ob h
  refine hv_callS [.int p2] [.int v2] [.int x6, .int v2] (wk_m_digits e_x6) cs_X4_220 rfl ⟨Nat.le_of_ble_eq_true rfl, Nat.le_of_ble_eq_true rfl⟩ rfl (Nat.le_of_ble_eq_true rfl) rfl dX4_goRight_8 ?_
  refine hv_icmp_ge (tgt := 63) dX4_goRight_11 (by decide) (fun c7 => ?_) (fun c7 => ?_)
  · replace h := hq_ip c7 h
    refine hv_sub [0, 3] rfl ?_
    exact he0 _ _ h
  · replace h := hq_in c7 h
    refine hv_iload_n 2 dX4_goRight_14 rfl rfl ?_
    refine hv_iload 4 dX4_goRight_15 rfl ?_
    obtain ⟨x8, e_x8, h⟩ := hq_ob h
    refine hv_callS [.int p2, .int v2] [] [.int x8] (wk_m_figure e_x8) cs_X4_236 rfl ⟨Nat.le_of_ble_eq_true rfl, Nat.le_of_ble_eq_true rfl⟩ rfl (Nat.le_of_ble_eq_true rfl) rfl dX4_goRight_17 ?_
    refine hv_if_le (tgt := 57) dX4_goRight_20 (by decide) (fun c9 => ?_) (fun c9 => ?_)
    · replace h := hq_ip c9 h
      obtain ⟨x10, e_x10, h⟩ := hq_nm h
      refine hv_iinc (v := x10) (L' := [(4, .int x10), (0, .ref m0), (1, .int p1), (2, .int p2), (3, .int v1)]) 4 dX4_goRight_57 rfl (by rw [e_x10]; rfl) (Nat.le_of_ble_eq_true rfl) rfl ?_
      refine hv_goto (tgt := 5) dX4_goRight_60 (by decide) ?_
      refine hv_sub [1, 2, 3, 4, 0] rfl ?_
      exact hrc _ _ _ h
    · replace h := hq_in c9 h
      refine hv_aload_n 0 dX4_goRight_23 rfl rfl ?_
      refine hv_iload_n 1 dX4_goRight_24 rfl rfl ?_
      refine hv_iload_n 2 dX4_goRight_25 rfl rfl ?_
      refine hv_iload 4 dX4_goRight_26 rfl ?_
      obtain ⟨x11, e_x11, h⟩ := hq_ob h
      refine hv_callS [.int p2, .int v2] [.int p1, .ref m0] [.int x11, .int p1, .ref m0] (wk_m_figure e_x11) cs_X4_236 rfl ⟨Nat.le_of_ble_eq_true rfl, Nat.le_of_ble_eq_true rfl⟩ rfl (Nat.le_of_ble_eq_true rfl) rfl dX4_goRight_28 ?_
      refine hv_iload 4 dX4_goRight_31 rfl ?_
      obtain ⟨x12, e_x12, h⟩ := hq_ob h
      refine hv_callS [.int v2] [.int x11, .int p1, .ref m0] [.int x12, .int x11, .int p1, .ref m0] (wk_m_tens e_x12) cs_X4_233 rfl ⟨Nat.le_of_ble_eq_true rfl, Nat.le_of_ble_eq_true rfl⟩ rfl (Nat.le_of_ble_eq_true rfl) rfl dX4_goRight_33 ?_
      refine hv_imul dX4_goRight_36 ?_
      obtain ⟨s13, e_s13, h⟩ := hq_ob h
      refine hv_callV [.int p1, .int (x11 * x12)] [] [] (wk_m_goLeft KM e_s13) cs_X4_243 KM.recv rfl ⟨Nat.le_of_ble_eq_true rfl, Nat.le_of_ble_eq_true rfl⟩ rfl (Nat.le_of_ble_eq_true rfl) rfl dX4_goRight_37 ?_
      refine hv_aload_n 0 dX4_goRight_40 rfl rfl ?_
      refine hm_getA (j := 17) KM (fl_X4_61) rfl (Nat.le_of_ble_eq_true rfl) dX4_goRight_41 ?_
      refine hv_iload_n 3 dX4_goRight_44 rfl rfl ?_
      refine hv_aload_n 0 dX4_goRight_45 rfl rfl ?_
      refine hm_getI (f := 29) KM (fl_X4_226) dX4_goRight_46 ?_
      obtain ⟨s14, e_s14, h⟩ := hq_ob h
      refine hm_iastore KM e_s14 (Nat.le_of_ble_eq_true rfl) rfl dX4_goRight_49 ?_
      obtain ⟨x15, e_x15, h⟩ := hq_nm h
      refine hv_iinc (v := x15) (L' := [(3, .int x15), (0, .ref m0), (1, .int p1), (2, .int p2), (4, .int v2)]) 3 dX4_goRight_50 rfl (by rw [e_x15]; rfl) (Nat.le_of_ble_eq_true rfl) rfl ?_
      refine hv_aload_n 1 dX4_goRight_53 rfl rfl ?_
      obtain ⟨s16, e_s16, h⟩ := hq_ob h
      refine hv_callV [] [] [] (wk_m_holds KM e_s16) cs_X4_247 KM.recv rfl ⟨Nat.le_of_ble_eq_true rfl, Nat.le_of_ble_eq_true rfl⟩ rfl (Nat.le_of_ble_eq_true rfl) rfl dX4_goRight_54 ?_
      obtain ⟨x17, e_x17, h⟩ := hq_nm h
      refine hv_iinc (v := x17) (L' := [(4, .int x17), (3, .int x15), (0, .ref m0), (1, .int p1), (2, .int p2)]) 4 dX4_goRight_57 rfl (by rw [e_x17]; rfl) (Nat.le_of_ble_eq_true rfl) rfl ?_
      refine hv_goto (tgt := 5) dX4_goRight_60 (by decide) ?_
      refine hv_sub [2, 3, 4, 1, 0] rfl ?_
      exact hrc _ _ _ h
theorem wk_m_goRight_L5 {l : Launch} {Gd : hk_G} {m0 : Nat} {st : hk_St} (KM : hk_KM m0 st) {p1 : Int32} {p2 : Int32} {s0 : hk_Ms} {fin : hk_Ms} {e0 : Int32 → hk_Ms → Option hk_Ms} (he0 : ∀ (v4 : Int32) (s5 : hk_Ms), e0 v4 s5 = some fin → hk_V Gd (N_m_goRight l) (hk_end Gd (hk_mU m0 st s0) none (hk_mU m0 st fin)) 63 [(0, .ref m0), (3, .int v4)] [] (hk_mU m0 st s5)) : ∀ (n : Nat) (v1 : Int32) (v2 : Int32) (s3 : hk_Ms), m_goRight_L5 p1 p2 e0 n v1 v2 s3 = some fin → hk_V Gd (N_m_goRight l) (hk_end Gd (hk_mU m0 st s0) none (hk_mU m0 st fin)) 5 [(0, .ref m0), (1, .int p1), (2, .int p2), (3, .int v1), (4, .int v2)] [] (hk_mU m0 st s3) := by
  intro n
  induction n with
  | zero => intro v1 v2 s3 h; cases h
  | succ n ih => intro v1 v2 s3 h; exact wk_m_goRight_L5b KM ih he0 h
set_option maxHeartbeats 4000000 in
theorem wk_m_goRight_L98b {l : Launch} {Gd : hk_G} {m0 : Nat} {st : hk_St} (KM : hk_KM m0 st) {p1 : Int32} {p2 : Int32} {s0 : hk_Ms} {fin : hk_Ms} {v23 : Int32} {e0 : hk_Ms → Option hk_Ms} {rc : Int32 → hk_Ms → Option hk_Ms} (hrc : ∀ (v24 : Int32) (s25 : hk_Ms), rc v24 s25 = some fin → hk_V Gd (N_m_goRight l) (hk_end Gd (hk_mU m0 st s0) none (hk_mU m0 st fin)) 98 [(0, .ref m0), (3, .int v23), (4, .int v24)] [] (hk_mU m0 st s25)) (he0 : ∀ (s26 : hk_Ms), e0 s26 = some fin → hk_V Gd (N_m_goRight l) (hk_end Gd (hk_mU m0 st s0) none (hk_mU m0 st fin)) 156 [] [] (hk_mU m0 st s26)) {v24 : Int32} {s25 : hk_Ms} (h : m_goRight_L98b p1 p2 v23 e0 rc v24 s25 = some fin) : hk_V Gd (N_m_goRight l) (hk_end Gd (hk_mU m0 st s0) none (hk_mU m0 st fin)) 98 [(0, .ref m0), (3, .int v23), (4, .int v24)] [] (hk_mU m0 st s25) := by
  unfold m_goRight_L98b at h
  refine hv_iload 2 dX4_goRight_98 rfl ?_
  refine hv_iload_n 1 dX4_goRight_100 rfl rfl ?_
  refine hv_icmp_ge (tgt := 156) dX4_goRight_101 (by decide) (fun c27 => ?_) (fun c27 => ?_)
  · replace h := hq_ip c27 h
    refine hv_sub [] rfl ?_
    exact he0 _ h
  · replace h := hq_in c27 h
    refine hv_aload_n 0 dX4_goRight_104 rfl rfl ?_
    refine hv_dup dX4_goRight_105 rfl ?_
    refine hm_getI (f := 29) KM (fl_X4_226) dX4_goRight_106 ?_
    refine hv_aload_n 0 dX4_goRight_109 rfl rfl ?_
    refine hm_getA (j := 17) KM (fl_X4_61) rfl (Nat.le_of_ble_eq_true rfl) dX4_goRight_110 ?_
    refine hv_iload 2 dX4_goRight_113 rfl ?_
    obtain ⟨x28, e_x28, h⟩ := hq_ob h
    refine hm_iaload KM e_x28 (Nat.le_of_ble_eq_true rfl) rfl dX4_goRight_115 ?_
    refine hv_iadd dX4_goRight_116 ?_
    obtain ⟨s29, e_s29, h⟩ := hq_nm h
    refine hm_putI (f := 29) KM (fp_X4_226) e_s29 dX4_goRight_117 ?_
    refine hv_aload_n 0 dX4_goRight_120 rfl rfl ?_
    refine hv_dup dX4_goRight_121 rfl ?_
    refine hm_getI (f := 28) KM (fl_X4_223) dX4_goRight_122 ?_
    refine hv_aload_n 0 dX4_goRight_125 rfl rfl ?_
    refine hm_getA (j := 17) KM (fl_X4_61) rfl (Nat.le_of_ble_eq_true rfl) dX4_goRight_126 ?_
    refine hv_iload 2 dX4_goRight_129 rfl ?_
    obtain ⟨x30, e_x30, h⟩ := hq_ob h
    refine hm_iaload KM e_x30 (Nat.le_of_ble_eq_true rfl) rfl dX4_goRight_131 ?_
    obtain ⟨x31, e_x31, h⟩ := hq_ob h
    refine hv_callS [.int x30] [.int (hm_I s29 28), .ref m0] [.int x31, .int (hm_I s29 28), .ref m0] (wk_m_digits e_x31) cs_X4_220 rfl ⟨Nat.le_of_ble_eq_true rfl, Nat.le_of_ble_eq_true rfl⟩ rfl (Nat.le_of_ble_eq_true rfl) rfl dX4_goRight_132 ?_
    refine hv_isub dX4_goRight_135 ?_
    obtain ⟨s32, e_s32, h⟩ := hq_nm h
    refine hm_putI (f := 28) KM (fp_X4_223) e_s32 dX4_goRight_136 ?_
    refine hv_aload_n 0 dX4_goRight_139 rfl rfl ?_
    refine hv_iconst (v := 1) dX4_goRight_140 (by decide) ?_
    refine hv_aload_n 0 dX4_goRight_141 rfl rfl ?_
    refine hm_getI (f := 29) KM (fl_X4_226) dX4_goRight_142 ?_
    refine hv_iconst (v := 0) dX4_goRight_145 (by decide) ?_
    refine hv_iconst (v := 0) dX4_goRight_146 (by decide) ?_
    obtain ⟨s33, e_s33, h⟩ := hq_ob h
    refine hv_callV [.int (1 : Int32), .int (hm_I s32 29), .int (0 : Int32), .int (0 : Int32)] [] [] (wk_m_acts KM e_s33) cs_X4_229 KM.recv rfl ⟨Nat.le_of_ble_eq_true rfl, Nat.le_of_ble_eq_true rfl⟩ rfl (Nat.le_of_ble_eq_true rfl) rfl dX4_goRight_147 ?_
    obtain ⟨x34, e_x34, h⟩ := hq_nm h
    refine hv_iinc (v := x34) (L' := [(4, .int x34), (0, .ref m0), (3, .int v23)]) 2 dX4_goRight_150 rfl (by rw [e_x34]; rfl) (Nat.le_of_ble_eq_true rfl) rfl ?_
    refine hv_goto (tgt := 98) dX4_goRight_153 (by decide) ?_
    refine hv_sub [1, 2, 0] rfl ?_
    exact hrc _ _ h
theorem wk_m_goRight_L98 {l : Launch} {Gd : hk_G} {m0 : Nat} {st : hk_St} (KM : hk_KM m0 st) {p1 : Int32} {p2 : Int32} {s0 : hk_Ms} {fin : hk_Ms} {v23 : Int32} {e0 : hk_Ms → Option hk_Ms} (he0 : ∀ (s26 : hk_Ms), e0 s26 = some fin → hk_V Gd (N_m_goRight l) (hk_end Gd (hk_mU m0 st s0) none (hk_mU m0 st fin)) 156 [] [] (hk_mU m0 st s26)) : ∀ (n : Nat) (v24 : Int32) (s25 : hk_Ms), m_goRight_L98 p1 p2 v23 e0 n v24 s25 = some fin → hk_V Gd (N_m_goRight l) (hk_end Gd (hk_mU m0 st s0) none (hk_mU m0 st fin)) 98 [(0, .ref m0), (3, .int v23), (4, .int v24)] [] (hk_mU m0 st s25) := by
  intro n
  induction n with
  | zero => intro v24 s25 h; cases h
  | succ n ih => intro v24 s25 h; exact wk_m_goRight_L98b KM ih he0 h
set_option maxHeartbeats 4000000 in
theorem wk_m_goRight {l : Launch} {Gd : hk_G} {m0 : Nat} {st : hk_St} (KM : hk_KM m0 st) {p1 : Int32} {p2 : Int32} {s0 : hk_Ms} {fin : hk_Ms} (h : m_goRight p1 p2 s0 = some fin) : hk_Met Gd l yX4_goRight cX4_goRight 5 none 4 99 [.ref m0, .int p1, .int p2] (hk_mU m0 st s0) none (hk_mU m0 st fin) := by
  refine hk_start "HeadReckonsModel" false (by decide +kernel) rfl (by decide) (Nat.le_of_ble_eq_true rfl) ?_
  show hk_V Gd (N_m_goRight l) (hk_end Gd (hk_mU m0 st s0) none (hk_mU m0 st fin)) 0 [(0, .ref m0), (1, .int p1), (2, .int p2)] [] (hk_mU m0 st s0)
  unfold m_goRight at h
  refine hv_iconst (v := 0) dX4_goRight_0 (by decide) ?_
  refine hv_istore_n (L' := [(3, .int (0 : Int32)), (0, .ref m0), (1, .int p1), (2, .int p2)]) dX4_goRight_1 rfl (Nat.le_of_ble_eq_true rfl) rfl ?_
  refine hv_iconst (v := 0) dX4_goRight_2 (by decide) ?_
  refine hv_istore (L' := [(4, .int (0 : Int32)), (3, .int (0 : Int32)), (0, .ref m0), (1, .int p1), (2, .int p2)]) dX4_goRight_3 (Nat.le_of_ble_eq_true rfl) rfl ?_
  refine hv_sub [2, 3, 4, 1, 0] rfl ?_
  refine wk_m_goRight_L5 KM ?_ hk_F _ _ _ h
  · intro v4 s5 h
    refine hv_iload_n 1 dX4_goRight_63 rfl rfl ?_
    refine hv_iconst (v := 2) dX4_goRight_64 (by decide) ?_
    refine hv_icmp_ge (tgt := 69) dX4_goRight_65 (by decide) (fun c18 => ?_) (fun c18 => ?_)
    · replace h := hq_ip c18 h
      refine hv_aload_n 0 dX4_goRight_69 rfl rfl ?_
      refine hv_aload_n 0 dX4_goRight_70 rfl rfl ?_
      refine hm_getA (j := 17) KM (fl_X4_61) rfl (Nat.le_of_ble_eq_true rfl) dX4_goRight_71 ?_
      refine hv_iconst (v := 0) dX4_goRight_74 (by decide) ?_
      obtain ⟨x19, e_x19, h⟩ := hq_ob h
      refine hm_iaload KM e_x19 (Nat.le_of_ble_eq_true rfl) rfl dX4_goRight_75 ?_
      obtain ⟨s20, e_s20, h⟩ := hq_nm h
      refine hm_putI (f := 29) KM (fp_X4_226) e_s20 dX4_goRight_76 ?_
      refine hv_aload_n 0 dX4_goRight_79 rfl rfl ?_
      refine hv_dup dX4_goRight_80 rfl ?_
      refine hm_getI (f := 28) KM (fl_X4_223) dX4_goRight_81 ?_
      refine hv_aload_n 0 dX4_goRight_84 rfl rfl ?_
      refine hm_getI (f := 29) KM (fl_X4_226) dX4_goRight_85 ?_
      obtain ⟨x21, e_x21, h⟩ := hq_ob h
      refine hv_callS [.int (hm_I s20 29)] [.int (hm_I s20 28), .ref m0] [.int x21, .int (hm_I s20 28), .ref m0] (wk_m_digits e_x21) cs_X4_220 rfl ⟨Nat.le_of_ble_eq_true rfl, Nat.le_of_ble_eq_true rfl⟩ rfl (Nat.le_of_ble_eq_true rfl) rfl dX4_goRight_88 ?_
      refine hv_isub dX4_goRight_91 ?_
      obtain ⟨s22, e_s22, h⟩ := hq_nm h
      refine hm_putI (f := 28) KM (fp_X4_223) e_s22 dX4_goRight_92 ?_
      refine hv_iconst (v := 1) dX4_goRight_95 (by decide) ?_
      refine hv_istore (L' := [(4, .int (1 : Int32)), (0, .ref m0), (3, .int v4)]) dX4_goRight_96 (Nat.le_of_ble_eq_true rfl) rfl ?_
      refine hv_sub [1, 2, 0] rfl ?_
      refine wk_m_goRight_L98 KM ?_ hk_F _ _ h
      · intro s26 h
        have h := Option.some.inj h
        subst h
        exact hv_vret rfl dX4_goRight_156
    · replace h := hq_in c18 h
      have h := Option.some.inj h
      subst h
      exact hv_vret rfl dX4_goRight_68
def m_goCrossed_L24b (p1 : Int32) (p2 : Int32) (v9 : Int32) (e0 : Int32 → hk_Ms → Option hk_Ms) (rc : Int32 → Int32 → hk_Ms → Option hk_Ms) (v8 : Int32) (v10 : Int32) (s11 : hk_Ms) : Option hk_Ms :=
  hk_nm (fun (v14 : Int32) (v15 : Int32) (v16 : Int32) (v17 : Int32) (s18 : hk_Ms) =>
    (m_tens v9).bind fun x19 =>
    (m_acts (0 : Int32) v16 (v17 * x19) (0 : Int32) s18).bind fun s20 =>
    if v14 = 0 then
      hk_nm (hm_sI s20 29 ((hm_I s20 29) + v16)) fun s23 =>
    (m_acts (1 : Int32) (hm_I s23 29) (0 : Int32) v9 s23).bind fun s24 =>
    hk_nm (v15 + (1 : Int32)) fun x25 =>
    rc (0 : Int32) x25 s24
    else
    hk_nm (v15 + (1 : Int32)) fun x22 =>
      rc (0 : Int32) x22 s20) fun k121 =>
  hk_nm (fun (v26 : Int32) (v27 : Int32) (v28 : Int32) (v29 : Int32) (s30 : hk_Ms) =>
    if v26 = 0 then
      k121 v26 v27 v28 v29 s30
    else
    hk_nm (hm_sI s30 29 v28) fun s32 =>
    k121 v26 v27 v28 v29 s32) fun k109 =>
  if v9 < v10 then
    e0 v8 s11
  else
  (m_figure p1 v10).bind fun x34 =>
  if x34 = 0 then
    hk_nm (v10 + (1 : Int32)) fun x36 =>
    rc v8 x36 s11
  else
  (m_figure p2 (v9 - v10)).bind fun x37 =>
  if x37 = 0 then
    hk_nm (v10 + (1 : Int32)) fun x47 =>
  rc v8 x47 s11
  else
  (m_figure p1 v10).bind fun x39 =>
    (m_figure p2 (v9 - v10)).bind fun x40 =>
    hk_nm (x39 * x40) fun x41 =>
    (m_figure p1 v10).bind fun x42 =>
    (m_figure p2 (v9 - v10)).bind fun x43 =>
    if x43 ≤ x42 then
      (m_figure p2 (v9 - v10)).bind fun x45 =>
      k109 v8 v10 x41 x45 s11
    else
    (m_figure p1 v10).bind fun x46 =>
    k109 v8 v10 x41 x46 s11
def m_goCrossed_L24 (p1 : Int32) (p2 : Int32) (v9 : Int32) (e0 : Int32 → hk_Ms → Option hk_Ms) : Nat → Int32 → Int32 → hk_Ms → Option hk_Ms
  | 0 => fun _ _ _ => none
  | n + 1 => m_goCrossed_L24b p1 p2 v9 e0 (m_goCrossed_L24 p1 p2 v9 e0 n)
def m_goCrossed_L5b (p1 : Int32) (p2 : Int32) (e0 : hk_Ms → Option hk_Ms) (rc : Int32 → Int32 → hk_Ms → Option hk_Ms) (v1 : Int32) (v2 : Int32) (s3 : hk_Ms) : Option hk_Ms :=
  (m_digits p1).bind fun x5 =>
  (m_digits p2).bind fun x6 =>
  if ((x5 + x6) - (2 : Int32)) < v2 then
    e0 s3
  else
  m_goCrossed_L24 p1 p2 v2 (fun (v12 : Int32) (s13 : hk_Ms) =>
    hk_nm ((hm_I s13 29) - (hm_I s13 29) / (10 : Int32) * (10 : Int32)) fun x48 =>
    hk_nm (hm_sI s13 28 ((hm_I s13 28) + (1 : Int32))) fun s49 =>
    hk_nm (hm_sI s49 29 ((hm_I s49 29) / (10 : Int32))) fun s50 =>
    (m_acts (2 : Int32) x48 (0 : Int32) (0 : Int32) s50).bind fun s51 =>
    hk_nm (v2 + (1 : Int32)) fun x52 =>
    rc v12 x52 s51) hk_F v1 (0 : Int32) s3
def m_goCrossed_L5 (p1 : Int32) (p2 : Int32) (e0 : hk_Ms → Option hk_Ms) : Nat → Int32 → Int32 → hk_Ms → Option hk_Ms
  | 0 => fun _ _ _ => none
  | n + 1 => m_goCrossed_L5b p1 p2 e0 (m_goCrossed_L5 p1 p2 e0 n)
def m_goCrossed (p1 : Int32) (p2 : Int32) (s0 : hk_Ms) : Option hk_Ms :=
  m_goCrossed_L5 p1 p2  (fun (s4 : hk_Ms) =>
    some s4) hk_F (1 : Int32) (0 : Int32) s0
abbrev N_m_goCrossed (l : Launch) : hk_N := (l, cX4_goCrossed, "HeadReckonsModel", 8, none, 2, 48, false)
set_option maxHeartbeats 4000000 in
theorem wk_m_goCrossed_L24b {l : Launch} {Gd : hk_G} {m0 : Nat} {st : hk_St} (KM : hk_KM m0 st) {p1 : Int32} {p2 : Int32} {s0 : hk_Ms} {fin : hk_Ms} {v9 : Int32} {e0 : Int32 → hk_Ms → Option hk_Ms} {rc : Int32 → Int32 → hk_Ms → Option hk_Ms} (hrc : ∀ (v8 : Int32) (v10 : Int32) (s11 : hk_Ms), rc v8 v10 s11 = some fin → hk_V Gd (N_m_goCrossed l) (hk_end Gd (hk_mU m0 st s0) none (hk_mU m0 st fin)) 24 [(0, .ref m0), (1, .int p1), (2, .int p2), (3, .int v8), (4, .int v9), (5, .int v10)] [] (hk_mU m0 st s11)) (he0 : ∀ (v12 : Int32) (s13 : hk_Ms), e0 v12 s13 = some fin → hk_V Gd (N_m_goCrossed l) (hk_end Gd (hk_mU m0 st s0) none (hk_mU m0 st fin)) 172 [(0, .ref m0), (1, .int p1), (2, .int p2), (3, .int v12), (4, .int v9)] [] (hk_mU m0 st s13)) {v8 : Int32} {v10 : Int32} {s11 : hk_Ms} (h : m_goCrossed_L24b p1 p2 v9 e0 rc v8 v10 s11 = some fin) : hk_V Gd (N_m_goCrossed l) (hk_end Gd (hk_mU m0 st s0) none (hk_mU m0 st fin)) 24 [(0, .ref m0), (1, .int p1), (2, .int p2), (3, .int v8), (4, .int v9), (5, .int v10)] [] (hk_mU m0 st s11) := by
  unfold m_goCrossed_L24b at h
  obtain ⟨k121, e_k121, h⟩ := hq_nm h
  have wk121 : ∀ (v14 : Int32) (v15 : Int32) (v16 : Int32) (v17 : Int32) (s18 : hk_Ms), k121 v14 v15 v16 v17 s18 = some fin → hk_V Gd (N_m_goCrossed l) (hk_end Gd (hk_mU m0 st s0) none (hk_mU m0 st fin)) 121 [(0, .ref m0), (1, .int p1), (2, .int p2), (3, .int v14), (4, .int v9), (5, .int v15), (6, .int v16), (7, .int v17)] [] (hk_mU m0 st s18) := by
    intro v14 v15 v16 v17 s18 h
    rw [e_k121] at h
    refine hv_aload_n 0 dX4_goCrossed_121 rfl rfl ?_
    refine hv_iconst (v := 0) dX4_goCrossed_122 (by decide) ?_
    refine hv_iload 6 dX4_goCrossed_123 rfl ?_
    refine hv_iload 7 dX4_goCrossed_125 rfl ?_
    refine hv_iload 4 dX4_goCrossed_127 rfl ?_
    obtain ⟨x19, e_x19, h⟩ := hq_ob h
    refine hv_callS [.int v9] [.int v17, .int v16, .int (0 : Int32), .ref m0] [.int x19, .int v17, .int v16, .int (0 : Int32), .ref m0] (wk_m_tens e_x19) cs_X4_233 rfl ⟨Nat.le_of_ble_eq_true rfl, Nat.le_of_ble_eq_true rfl⟩ rfl (Nat.le_of_ble_eq_true rfl) rfl dX4_goCrossed_129 ?_
    refine hv_imul dX4_goCrossed_132 ?_
    refine hv_iconst (v := 0) dX4_goCrossed_133 (by decide) ?_
    obtain ⟨s20, e_s20, h⟩ := hq_ob h
    refine hv_callV [.int (0 : Int32), .int v16, .int (v17 * x19), .int (0 : Int32)] [] [] (wk_m_acts KM e_s20) cs_X4_229 KM.recv rfl ⟨Nat.le_of_ble_eq_true rfl, Nat.le_of_ble_eq_true rfl⟩ rfl (Nat.le_of_ble_eq_true rfl) rfl dX4_goCrossed_134 ?_
    refine hv_iload_n 3 dX4_goCrossed_137 rfl rfl ?_
    refine hv_if_ne (tgt := 164) dX4_goCrossed_138 (by decide) (fun c21 => ?_) (fun c21 => ?_)
    · replace h := hq_in c21 h
      refine hv_iconst (v := 0) dX4_goCrossed_164 (by decide) ?_
      refine hv_istore_n (L' := [(3, .int (0 : Int32)), (0, .ref m0), (1, .int p1), (2, .int p2), (4, .int v9), (5, .int v15), (6, .int v16), (7, .int v17)]) dX4_goCrossed_165 rfl (Nat.le_of_ble_eq_true rfl) rfl ?_
      obtain ⟨x22, e_x22, h⟩ := hq_nm h
      refine hv_iinc (v := x22) (L' := [(5, .int x22), (3, .int (0 : Int32)), (0, .ref m0), (1, .int p1), (2, .int p2), (4, .int v9), (6, .int v16), (7, .int v17)]) 5 dX4_goCrossed_166 rfl (by rw [e_x22]; rfl) (Nat.le_of_ble_eq_true rfl) rfl ?_
      refine hv_goto (tgt := 24) dX4_goCrossed_169 (by decide) ?_
      refine hv_sub [2, 3, 4, 1, 5, 0] rfl ?_
      exact hrc _ _ _ h
    · replace h := hq_ip c21 h
      refine hv_aload_n 0 dX4_goCrossed_141 rfl rfl ?_
      refine hv_dup dX4_goCrossed_142 rfl ?_
      refine hm_getI (f := 29) KM (fl_X4_226) dX4_goCrossed_143 ?_
      refine hv_iload 6 dX4_goCrossed_146 rfl ?_
      refine hv_iadd dX4_goCrossed_148 ?_
      obtain ⟨s23, e_s23, h⟩ := hq_nm h
      refine hm_putI (f := 29) KM (fp_X4_226) e_s23 dX4_goCrossed_149 ?_
      refine hv_aload_n 0 dX4_goCrossed_152 rfl rfl ?_
      refine hv_iconst (v := 1) dX4_goCrossed_153 (by decide) ?_
      refine hv_aload_n 0 dX4_goCrossed_154 rfl rfl ?_
      refine hm_getI (f := 29) KM (fl_X4_226) dX4_goCrossed_155 ?_
      refine hv_iconst (v := 0) dX4_goCrossed_158 (by decide) ?_
      refine hv_iload 4 dX4_goCrossed_159 rfl ?_
      obtain ⟨s24, e_s24, h⟩ := hq_ob h
      refine hv_callV [.int (1 : Int32), .int (hm_I s23 29), .int (0 : Int32), .int v9] [] [] (wk_m_acts KM e_s24) cs_X4_229 KM.recv rfl ⟨Nat.le_of_ble_eq_true rfl, Nat.le_of_ble_eq_true rfl⟩ rfl (Nat.le_of_ble_eq_true rfl) rfl dX4_goCrossed_161 ?_
      refine hv_iconst (v := 0) dX4_goCrossed_164 (by decide) ?_
      refine hv_istore_n (L' := [(3, .int (0 : Int32)), (0, .ref m0), (1, .int p1), (2, .int p2), (4, .int v9), (5, .int v15), (6, .int v16), (7, .int v17)]) dX4_goCrossed_165 rfl (Nat.le_of_ble_eq_true rfl) rfl ?_
      obtain ⟨x25, e_x25, h⟩ := hq_nm h
      refine hv_iinc (v := x25) (L' := [(5, .int x25), (3, .int (0 : Int32)), (0, .ref m0), (1, .int p1), (2, .int p2), (4, .int v9), (6, .int v16), (7, .int v17)]) 5 dX4_goCrossed_166 rfl (by rw [e_x25]; rfl) (Nat.le_of_ble_eq_true rfl) rfl ?_
      refine hv_goto (tgt := 24) dX4_goCrossed_169 (by decide) ?_
      refine hv_sub [2, 3, 4, 1, 5, 0] rfl ?_
      exact hrc _ _ _ h
  clear e_k121
  obtain ⟨k109, e_k109, h⟩ := hq_nm h
  have wk109 : ∀ (v26 : Int32) (v27 : Int32) (v28 : Int32) (v29 : Int32) (s30 : hk_Ms), k109 v26 v27 v28 v29 s30 = some fin → hk_V Gd (N_m_goCrossed l) (hk_end Gd (hk_mU m0 st s0) none (hk_mU m0 st fin)) 109 [(0, .ref m0), (1, .int p1), (2, .int p2), (3, .int v26), (4, .int v9), (5, .int v27), (6, .int v28)] [.int v29] (hk_mU m0 st s30) := by
    intro v26 v27 v28 v29 s30 h
    rw [e_k109] at h
    refine hv_istore (L' := [(7, .int v29), (0, .ref m0), (1, .int p1), (2, .int p2), (3, .int v26), (4, .int v9), (5, .int v27), (6, .int v28)]) dX4_goCrossed_109 (Nat.le_of_ble_eq_true rfl) rfl ?_
    refine hv_iload_n 4 dX4_goCrossed_111 rfl rfl ?_
    refine hv_if_eq (tgt := 121) dX4_goCrossed_112 (by decide) (fun c31 => ?_) (fun c31 => ?_)
    · replace h := hq_ip c31 h
      refine hv_sub [1, 2, 3, 4, 5, 6, 7, 0] rfl ?_
      exact wk121 _ _ _ _ _ h
    · replace h := hq_in c31 h
      refine hv_aload_n 1 dX4_goCrossed_115 rfl rfl ?_
      refine hv_iload 7 dX4_goCrossed_116 rfl ?_
      obtain ⟨s32, e_s32, h⟩ := hq_nm h
      refine hm_putI (f := 29) KM (fp_X4_226) e_s32 dX4_goCrossed_118 ?_
      refine hv_sub [1, 2, 3, 4, 5, 6, 7, 0] rfl ?_
      exact wk121 _ _ _ _ _ h
  clear e_k109
  refine hv_iload 5 dX4_goCrossed_24 rfl ?_
  refine hv_iload 4 dX4_goCrossed_26 rfl ?_
  refine hv_icmp_gt (tgt := 172) dX4_goCrossed_28 (by decide) (fun c33 => ?_) (fun c33 => ?_)
  · replace h := hq_ip c33 h
    refine hv_sub [0, 1, 2, 3, 4] rfl ?_
    exact he0 _ _ h
  · replace h := hq_in c33 h
    refine hv_iload_n 1 dX4_goCrossed_31 rfl rfl ?_
    refine hv_iload 5 dX4_goCrossed_32 rfl ?_
    obtain ⟨x34, e_x34, h⟩ := hq_ob h
    refine hv_callS [.int p1, .int v10] [] [.int x34] (wk_m_figure e_x34) cs_X4_236 rfl ⟨Nat.le_of_ble_eq_true rfl, Nat.le_of_ble_eq_true rfl⟩ rfl (Nat.le_of_ble_eq_true rfl) rfl dX4_goCrossed_34 ?_
    refine hv_if_eq (tgt := 166) dX4_goCrossed_37 (by decide) (fun c35 => ?_) (fun c35 => ?_)
    · replace h := hq_ip c35 h
      obtain ⟨x36, e_x36, h⟩ := hq_nm h
      refine hv_iinc (v := x36) (L' := [(5, .int x36), (0, .ref m0), (1, .int p1), (2, .int p2), (3, .int v8), (4, .int v9)]) 5 dX4_goCrossed_166 rfl (by rw [e_x36]; rfl) (Nat.le_of_ble_eq_true rfl) rfl ?_
      refine hv_goto (tgt := 24) dX4_goCrossed_169 (by decide) ?_
      refine hv_sub [1, 2, 3, 4, 5, 0] rfl ?_
      exact hrc _ _ _ h
    · replace h := hq_in c35 h
      refine hv_iload_n 2 dX4_goCrossed_40 rfl rfl ?_
      refine hv_iload 4 dX4_goCrossed_41 rfl ?_
      refine hv_iload 5 dX4_goCrossed_43 rfl ?_
      refine hv_isub dX4_goCrossed_45 ?_
      obtain ⟨x37, e_x37, h⟩ := hq_ob h
      refine hv_callS [.int p2, .int (v9 - v10)] [] [.int x37] (wk_m_figure e_x37) cs_X4_236 rfl ⟨Nat.le_of_ble_eq_true rfl, Nat.le_of_ble_eq_true rfl⟩ rfl (Nat.le_of_ble_eq_true rfl) rfl dX4_goCrossed_46 ?_
      refine hv_if_ne (tgt := 55) dX4_goCrossed_49 (by decide) (fun c38 => ?_) (fun c38 => ?_)
      · replace h := hq_in c38 h
        refine hv_iload_n 1 dX4_goCrossed_55 rfl rfl ?_
        refine hv_iload 5 dX4_goCrossed_56 rfl ?_
        obtain ⟨x39, e_x39, h⟩ := hq_ob h
        refine hv_callS [.int p1, .int v10] [] [.int x39] (wk_m_figure e_x39) cs_X4_236 rfl ⟨Nat.le_of_ble_eq_true rfl, Nat.le_of_ble_eq_true rfl⟩ rfl (Nat.le_of_ble_eq_true rfl) rfl dX4_goCrossed_58 ?_
        refine hv_iload_n 2 dX4_goCrossed_61 rfl rfl ?_
        refine hv_iload 4 dX4_goCrossed_62 rfl ?_
        refine hv_iload 5 dX4_goCrossed_64 rfl ?_
        refine hv_isub dX4_goCrossed_66 ?_
        obtain ⟨x40, e_x40, h⟩ := hq_ob h
        refine hv_callS [.int p2, .int (v9 - v10)] [.int x39] [.int x40, .int x39] (wk_m_figure e_x40) cs_X4_236 rfl ⟨Nat.le_of_ble_eq_true rfl, Nat.le_of_ble_eq_true rfl⟩ rfl (Nat.le_of_ble_eq_true rfl) rfl dX4_goCrossed_67 ?_
        refine hv_imul dX4_goCrossed_70 ?_
        obtain ⟨x41, e_x41, h⟩ := hq_nm h
        rw [← e_x41]
        refine hv_istore (L' := [(6, .int x41), (0, .ref m0), (1, .int p1), (2, .int p2), (3, .int v8), (4, .int v9), (5, .int v10)]) dX4_goCrossed_71 (Nat.le_of_ble_eq_true rfl) rfl ?_
        refine hv_iload_n 2 dX4_goCrossed_73 rfl rfl ?_
        refine hv_iload 6 dX4_goCrossed_74 rfl ?_
        obtain ⟨x42, e_x42, h⟩ := hq_ob h
        refine hv_callS [.int p1, .int v10] [] [.int x42] (wk_m_figure e_x42) cs_X4_236 rfl ⟨Nat.le_of_ble_eq_true rfl, Nat.le_of_ble_eq_true rfl⟩ rfl (Nat.le_of_ble_eq_true rfl) rfl dX4_goCrossed_76 ?_
        refine hv_iload_n 3 dX4_goCrossed_79 rfl rfl ?_
        refine hv_iload 5 dX4_goCrossed_80 rfl ?_
        refine hv_iload 6 dX4_goCrossed_82 rfl ?_
        refine hv_isub dX4_goCrossed_84 ?_
        obtain ⟨x43, e_x43, h⟩ := hq_ob h
        refine hv_callS [.int p2, .int (v9 - v10)] [.int x42] [.int x43, .int x42] (wk_m_figure e_x43) cs_X4_236 rfl ⟨Nat.le_of_ble_eq_true rfl, Nat.le_of_ble_eq_true rfl⟩ rfl (Nat.le_of_ble_eq_true rfl) rfl dX4_goCrossed_85 ?_
        refine hv_icmp_ge (tgt := 100) dX4_goCrossed_88 (by decide) (fun c44 => ?_) (fun c44 => ?_)
        · replace h := hq_ip c44 h
          refine hv_iload_n 3 dX4_goCrossed_100 rfl rfl ?_
          refine hv_iload 5 dX4_goCrossed_101 rfl ?_
          refine hv_iload 6 dX4_goCrossed_103 rfl ?_
          refine hv_isub dX4_goCrossed_105 ?_
          obtain ⟨x45, e_x45, h⟩ := hq_ob h
          refine hv_callS [.int p2, .int (v9 - v10)] [] [.int x45] (wk_m_figure e_x45) cs_X4_236 rfl ⟨Nat.le_of_ble_eq_true rfl, Nat.le_of_ble_eq_true rfl⟩ rfl (Nat.le_of_ble_eq_true rfl) rfl dX4_goCrossed_106 ?_
          refine hv_sub [1, 2, 3, 4, 5, 6, 0] rfl ?_
          exact wk109 _ _ _ _ _ h
        · replace h := hq_in c44 h
          refine hv_iload_n 2 dX4_goCrossed_91 rfl rfl ?_
          refine hv_iload 6 dX4_goCrossed_92 rfl ?_
          obtain ⟨x46, e_x46, h⟩ := hq_ob h
          refine hv_callS [.int p1, .int v10] [] [.int x46] (wk_m_figure e_x46) cs_X4_236 rfl ⟨Nat.le_of_ble_eq_true rfl, Nat.le_of_ble_eq_true rfl⟩ rfl (Nat.le_of_ble_eq_true rfl) rfl dX4_goCrossed_94 ?_
          refine hv_goto (tgt := 109) dX4_goCrossed_97 (by decide) ?_
          refine hv_sub [1, 2, 3, 4, 5, 6, 0] rfl ?_
          exact wk109 _ _ _ _ _ h
      · replace h := hq_ip c38 h
        refine hv_goto (tgt := 166) dX4_goCrossed_52 (by decide) ?_
        obtain ⟨x47, e_x47, h⟩ := hq_nm h
        refine hv_iinc (v := x47) (L' := [(5, .int x47), (0, .ref m0), (1, .int p1), (2, .int p2), (3, .int v8), (4, .int v9)]) 5 dX4_goCrossed_166 rfl (by rw [e_x47]; rfl) (Nat.le_of_ble_eq_true rfl) rfl ?_
        refine hv_goto (tgt := 24) dX4_goCrossed_169 (by decide) ?_
        refine hv_sub [1, 2, 3, 4, 5, 0] rfl ?_
        exact hrc _ _ _ h
theorem wk_m_goCrossed_L24 {l : Launch} {Gd : hk_G} {m0 : Nat} {st : hk_St} (KM : hk_KM m0 st) {p1 : Int32} {p2 : Int32} {s0 : hk_Ms} {fin : hk_Ms} {v9 : Int32} {e0 : Int32 → hk_Ms → Option hk_Ms} (he0 : ∀ (v12 : Int32) (s13 : hk_Ms), e0 v12 s13 = some fin → hk_V Gd (N_m_goCrossed l) (hk_end Gd (hk_mU m0 st s0) none (hk_mU m0 st fin)) 172 [(0, .ref m0), (1, .int p1), (2, .int p2), (3, .int v12), (4, .int v9)] [] (hk_mU m0 st s13)) : ∀ (n : Nat) (v8 : Int32) (v10 : Int32) (s11 : hk_Ms), m_goCrossed_L24 p1 p2 v9 e0 n v8 v10 s11 = some fin → hk_V Gd (N_m_goCrossed l) (hk_end Gd (hk_mU m0 st s0) none (hk_mU m0 st fin)) 24 [(0, .ref m0), (1, .int p1), (2, .int p2), (3, .int v8), (4, .int v9), (5, .int v10)] [] (hk_mU m0 st s11) := by
  intro n
  induction n with
  | zero => intro v8 v10 s11 h; cases h
  | succ n ih => intro v8 v10 s11 h; exact wk_m_goCrossed_L24b KM ih he0 h
set_option maxHeartbeats 4000000 in
theorem wk_m_goCrossed_L5b {l : Launch} {Gd : hk_G} {m0 : Nat} {st : hk_St} (KM : hk_KM m0 st) {p1 : Int32} {p2 : Int32} {s0 : hk_Ms} {fin : hk_Ms} {e0 : hk_Ms → Option hk_Ms} {rc : Int32 → Int32 → hk_Ms → Option hk_Ms} (hrc : ∀ (v1 : Int32) (v2 : Int32) (s3 : hk_Ms), rc v1 v2 s3 = some fin → hk_V Gd (N_m_goCrossed l) (hk_end Gd (hk_mU m0 st s0) none (hk_mU m0 st fin)) 5 [(0, .ref m0), (1, .int p1), (2, .int p2), (3, .int v1), (4, .int v2)] [] (hk_mU m0 st s3)) (he0 : ∀ (s4 : hk_Ms), e0 s4 = some fin → hk_V Gd (N_m_goCrossed l) (hk_end Gd (hk_mU m0 st s0) none (hk_mU m0 st fin)) 217 [] [] (hk_mU m0 st s4)) {v1 : Int32} {v2 : Int32} {s3 : hk_Ms} (h : m_goCrossed_L5b p1 p2 e0 rc v1 v2 s3 = some fin) : hk_V Gd (N_m_goCrossed l) (hk_end Gd (hk_mU m0 st s0) none (hk_mU m0 st fin)) 5 [(0, .ref m0), (1, .int p1), (2, .int p2), (3, .int v1), (4, .int v2)] [] (hk_mU m0 st s3) := by
  unfold m_goCrossed_L5b at h
  refine hv_iload 4 dX4_goCrossed_5 rfl ?_
  refine hv_iload_n 1 dX4_goCrossed_7 rfl rfl ?_
  obtain ⟨x5, e_x5, h⟩ := hq_ob h
  refine hv_callS [.int p1] [.int v2] [.int x5, .int v2] (wk_m_digits e_x5) cs_X4_220 rfl ⟨Nat.le_of_ble_eq_true rfl, Nat.le_of_ble_eq_true rfl⟩ rfl (Nat.le_of_ble_eq_true rfl) rfl dX4_goCrossed_8 ?_
  refine hv_iload_n 2 dX4_goCrossed_11 rfl rfl ?_
  obtain ⟨x6, e_x6, h⟩ := hq_ob h
  refine hv_callS [.int p2] [.int x5, .int v2] [.int x6, .int x5, .int v2] (wk_m_digits e_x6) cs_X4_220 rfl ⟨Nat.le_of_ble_eq_true rfl, Nat.le_of_ble_eq_true rfl⟩ rfl (Nat.le_of_ble_eq_true rfl) rfl dX4_goCrossed_12 ?_
  refine hv_iadd dX4_goCrossed_15 ?_
  refine hv_iconst (v := 2) dX4_goCrossed_16 (by decide) ?_
  refine hv_isub dX4_goCrossed_17 ?_
  refine hv_icmp_gt (tgt := 217) dX4_goCrossed_18 (by decide) (fun c7 => ?_) (fun c7 => ?_)
  · replace h := hq_ip c7 h
    refine hv_sub [] rfl ?_
    exact he0 _ h
  · replace h := hq_in c7 h
    refine hv_iconst (v := 0) dX4_goCrossed_21 (by decide) ?_
    refine hv_istore (L' := [(5, .int (0 : Int32)), (0, .ref m0), (1, .int p1), (2, .int p2), (3, .int v1), (4, .int v2)]) dX4_goCrossed_22 (Nat.le_of_ble_eq_true rfl) rfl ?_
    refine hv_sub [1, 2, 3, 4, 5, 0] rfl ?_
    refine wk_m_goCrossed_L24 KM ?_ hk_F _ _ _ h
    · intro v12 s13 h
      refine hv_aload_n 0 dX4_goCrossed_172 rfl rfl ?_
      refine hm_getI (f := 29) KM (fl_X4_226) dX4_goCrossed_173 ?_
      refine hv_bipush (v := 10) dX4_goCrossed_176 (by decide) ?_
      refine hv_irem (by decide) dX4_goCrossed_178 ?_
      obtain ⟨x48, e_x48, h⟩ := hq_nm h
      rw [← e_x48]
      refine hv_istore (L' := [(5, .int x48), (0, .ref m0), (1, .int p1), (2, .int p2), (3, .int v12), (4, .int v2)]) dX4_goCrossed_179 (Nat.le_of_ble_eq_true rfl) rfl ?_
      refine hv_aload_n 1 dX4_goCrossed_181 rfl rfl ?_
      refine hv_dup dX4_goCrossed_182 rfl ?_
      refine hm_getI (f := 28) KM (fl_X4_223) dX4_goCrossed_183 ?_
      refine hv_iconst (v := 1) dX4_goCrossed_186 (by decide) ?_
      refine hv_iadd dX4_goCrossed_187 ?_
      obtain ⟨s49, e_s49, h⟩ := hq_nm h
      refine hm_putI (f := 28) KM (fp_X4_223) e_s49 dX4_goCrossed_188 ?_
      refine hv_aload_n 1 dX4_goCrossed_191 rfl rfl ?_
      refine hv_dup dX4_goCrossed_192 rfl ?_
      refine hm_getI (f := 29) KM (fl_X4_226) dX4_goCrossed_193 ?_
      refine hv_bipush (v := 10) dX4_goCrossed_196 (by decide) ?_
      refine hv_idiv (by decide) dX4_goCrossed_198 ?_
      obtain ⟨s50, e_s50, h⟩ := hq_nm h
      refine hm_putI (f := 29) KM (fp_X4_226) e_s50 dX4_goCrossed_199 ?_
      refine hv_aload_n 1 dX4_goCrossed_202 rfl rfl ?_
      refine hv_iconst (v := 2) dX4_goCrossed_203 (by decide) ?_
      refine hv_iload 0 dX4_goCrossed_204 rfl ?_
      refine hv_iconst (v := 0) dX4_goCrossed_206 (by decide) ?_
      refine hv_iconst (v := 0) dX4_goCrossed_207 (by decide) ?_
      obtain ⟨s51, e_s51, h⟩ := hq_ob h
      refine hv_callV [.int (2 : Int32), .int x48, .int (0 : Int32), .int (0 : Int32)] [] [] (wk_m_acts KM e_s51) cs_X4_229 KM.recv rfl ⟨Nat.le_of_ble_eq_true rfl, Nat.le_of_ble_eq_true rfl⟩ rfl (Nat.le_of_ble_eq_true rfl) rfl dX4_goCrossed_208 ?_
      obtain ⟨x52, e_x52, h⟩ := hq_nm h
      refine hv_iinc (v := x52) (L' := [(4, .int x52), (5, .int x48), (0, .ref m0), (1, .int p1), (2, .int p2), (3, .int v12)]) 5 dX4_goCrossed_211 rfl (by rw [e_x52]; rfl) (Nat.le_of_ble_eq_true rfl) rfl ?_
      refine hv_goto (tgt := 5) dX4_goCrossed_214 (by decide) ?_
      refine hv_sub [2, 3, 4, 5, 0] rfl ?_
      exact hrc _ _ _ h
theorem wk_m_goCrossed_L5 {l : Launch} {Gd : hk_G} {m0 : Nat} {st : hk_St} (KM : hk_KM m0 st) {p1 : Int32} {p2 : Int32} {s0 : hk_Ms} {fin : hk_Ms} {e0 : hk_Ms → Option hk_Ms} (he0 : ∀ (s4 : hk_Ms), e0 s4 = some fin → hk_V Gd (N_m_goCrossed l) (hk_end Gd (hk_mU m0 st s0) none (hk_mU m0 st fin)) 217 [] [] (hk_mU m0 st s4)) : ∀ (n : Nat) (v1 : Int32) (v2 : Int32) (s3 : hk_Ms), m_goCrossed_L5 p1 p2 e0 n v1 v2 s3 = some fin → hk_V Gd (N_m_goCrossed l) (hk_end Gd (hk_mU m0 st s0) none (hk_mU m0 st fin)) 5 [(0, .ref m0), (1, .int p1), (2, .int p2), (3, .int v1), (4, .int v2)] [] (hk_mU m0 st s3) := by
  intro n
  induction n with
  | zero => intro v1 v2 s3 h; cases h
  | succ n ih => intro v1 v2 s3 h; exact wk_m_goCrossed_L5b KM ih he0 h
set_option maxHeartbeats 4000000 in
theorem wk_m_goCrossed {l : Launch} {Gd : hk_G} {m0 : Nat} {st : hk_St} (KM : hk_KM m0 st) {p1 : Int32} {p2 : Int32} {s0 : hk_Ms} {fin : hk_Ms} (h : m_goCrossed p1 p2 s0 = some fin) : hk_Met Gd l yX4_goCrossed cX4_goCrossed 8 none 2 48 [.ref m0, .int p1, .int p2] (hk_mU m0 st s0) none (hk_mU m0 st fin) := by
  refine hk_start "HeadReckonsModel" false (by decide +kernel) rfl (by decide) (Nat.le_of_ble_eq_true rfl) ?_
  show hk_V Gd (N_m_goCrossed l) (hk_end Gd (hk_mU m0 st s0) none (hk_mU m0 st fin)) 0 [(0, .ref m0), (1, .int p1), (2, .int p2)] [] (hk_mU m0 st s0)
  unfold m_goCrossed at h
  refine hv_iconst (v := 1) dX4_goCrossed_0 (by decide) ?_
  refine hv_istore_n (L' := [(3, .int (1 : Int32)), (0, .ref m0), (1, .int p1), (2, .int p2)]) dX4_goCrossed_1 rfl (Nat.le_of_ble_eq_true rfl) rfl ?_
  refine hv_iconst (v := 0) dX4_goCrossed_2 (by decide) ?_
  refine hv_istore (L' := [(4, .int (0 : Int32)), (3, .int (1 : Int32)), (0, .ref m0), (1, .int p1), (2, .int p2)]) dX4_goCrossed_3 (Nat.le_of_ble_eq_true rfl) rfl ?_
  refine hv_sub [2, 3, 4, 1, 0] rfl ?_
  refine wk_m_goCrossed_L5 KM ?_ hk_F _ _ _ h
  · intro s4 h
    have h := Option.some.inj h
    subst h
    exact hv_vret rfl dX4_goCrossed_217
