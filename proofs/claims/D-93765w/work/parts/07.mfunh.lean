set_option maxRecDepth 100000
def m_body (p1 : Int32) (s0 : hk_Ms) : Option (Int32 × hk_Ms) :=
  if (m_within p1.toInt64 (0 : Int64) (7 : Int64)) = 0 then
    some ((-1 : Int32), s0)
  else
  if (hm_I s0 45) = (50 : Int32) then
      some ((-3 : Int32), s0)
    else
    (hm_tI s0 24 50 (hm_I s0 45) p1).bind fun s3 =>
      hk_nm (hm_sI s3 45 ((hm_I s3 45) + (1 : Int32))) fun s4 =>
      some ((hm_I s4 45) - (1 : Int32), s4)
abbrev N_m_body (l : Launch) : hk_N := (l, cX4_body, "HeadReckonsModel", 2, (some .int), 1, 25, false)
set_option maxHeartbeats 4000000 in
theorem wk_m_body {l : Launch} {Gd : hk_G} {m0 : Nat} {st : hk_St} (KM : hk_KM m0 st) {p1 : Int32} {s0 : hk_Ms} {r : Int32} {fin : hk_Ms} (h : m_body p1 s0 = some (r, fin)) : hk_Met Gd l yX4_body cX4_body 2 (some .int) 1 25 [.ref m0, .int p1] (hk_mU m0 st s0) (some (.int r)) (hk_mU m0 st fin) := by
  refine hk_start "HeadReckonsModel" false (by decide +kernel) rfl (by decide) (Nat.le_of_ble_eq_true rfl) ?_
  show hk_V Gd (N_m_body l) (hk_end Gd (hk_mU m0 st s0) (some (.int r)) (hk_mU m0 st fin)) 0 [(0, .ref m0), (1, .int p1)] [] (hk_mU m0 st s0)
  unfold m_body at h
  refine hv_iload_n 1 dX4_body_0 rfl rfl ?_
  refine hv_i2l dX4_body_1 ?_
  refine hv_lconst (v := 0) dX4_body_2 (by decide) ?_
  refine hv_ldc2 q2138 dX4_body_3 ?_
  refine hv_callS [.long p1.toInt64, .long (0 : Int64), .long (7 : Int64)] [] [.int (m_within p1.toInt64 (0 : Int64) (7 : Int64))] (wk_m_within rfl) cs_X4_113 rfl ⟨Nat.le_of_ble_eq_true rfl, Nat.le_of_ble_eq_true rfl⟩ rfl (Nat.le_of_ble_eq_true rfl) rfl dX4_body_6 ?_
  refine hv_if_ne (tgt := 14) dX4_body_9 (by decide) (fun c1 => ?_) (fun c1 => ?_)
  · replace h := hq_in c1 h
    refine hv_aload_n 0 dX4_body_14 rfl rfl ?_
    refine hm_getI (f := 45) KM (fl_X4_411) dX4_body_15 ?_
    refine hv_bipush (v := 50) dX4_body_18 (by decide) ?_
    refine hv_icmp_ne (tgt := 26) dX4_body_20 (by decide) (fun c2 => ?_) (fun c2 => ?_)
    · replace h := hq_in c2 h
      refine hv_aload_n 0 dX4_body_26 rfl rfl ?_
      refine hm_getA (j := 24) KM (fl_X4_82) rfl (Nat.le_of_ble_eq_true rfl) dX4_body_27 ?_
      refine hv_aload_n 0 dX4_body_30 rfl rfl ?_
      refine hm_getI (f := 45) KM (fl_X4_411) dX4_body_31 ?_
      refine hv_iload_n 1 dX4_body_34 rfl rfl ?_
      obtain ⟨s3, e_s3, h⟩ := hq_ob h
      refine hm_iastore KM e_s3 (Nat.le_of_ble_eq_true rfl) rfl dX4_body_35 ?_
      refine hv_aload_n 0 dX4_body_36 rfl rfl ?_
      refine hv_dup dX4_body_37 rfl ?_
      refine hm_getI (f := 45) KM (fl_X4_411) dX4_body_38 ?_
      refine hv_iconst (v := 1) dX4_body_41 (by decide) ?_
      refine hv_iadd dX4_body_42 ?_
      obtain ⟨s4, e_s4, h⟩ := hq_nm h
      refine hm_putI (f := 45) KM (fp_X4_411) e_s4 dX4_body_43 ?_
      refine hv_aload_n 0 dX4_body_46 rfl rfl ?_
      refine hm_getI (f := 45) KM (fl_X4_411) dX4_body_47 ?_
      refine hv_iconst (v := 1) dX4_body_50 (by decide) ?_
      refine hv_isub dX4_body_51 ?_
      obtain ⟨h1, h2⟩ := hq_ret h
      subst h1
      subst h2
      exact hv_iret rfl dX4_body_52
    · replace h := hq_ip c2 h
      refine hv_bipush (v := -3) dX4_body_23 (by decide) ?_
      obtain ⟨h1, h2⟩ := hq_ret h
      subst h1
      subst h2
      exact hv_iret rfl dX4_body_25
  · replace h := hq_ip c1 h
    refine hv_iconst (v := -1) dX4_body_12 (by decide) ?_
    obtain ⟨h1, h2⟩ := hq_ret h
    subst h1
    subst h2
    exact hv_iret rfl dX4_body_13
def m_isBody (p1 : Int32) (s0 : hk_Ms) : Option (Int32) :=
  some (m_within p1.toInt64 (0 : Int64) (((hm_I s0 45) - (1 : Int32)).toInt64))
abbrev N_m_isBody (l : Launch) : hk_N := (l, cX4_isBody, "HeadReckonsModel", 2, (some .boolean), 1, 25, false)
set_option maxHeartbeats 4000000 in
theorem wk_m_isBody {l : Launch} {Gd : hk_G} {m0 : Nat} {st : hk_St} (KM : hk_KM m0 st) {p1 : Int32} {s0 : hk_Ms} {r : Int32} (h : m_isBody p1 s0 = some r) : hk_Met Gd l yX4_isBody cX4_isBody 2 (some .boolean) 1 25 [.ref m0, .int p1] (hk_mU m0 st s0) (some (.int r)) (hk_mU m0 st s0) := by
  refine hk_start "HeadReckonsModel" false (by decide +kernel) rfl (by decide) (Nat.le_of_ble_eq_true rfl) ?_
  show hk_V Gd (N_m_isBody l) (hk_end Gd (hk_mU m0 st s0) (some (.int r)) (hk_mU m0 st s0)) 0 [(0, .ref m0), (1, .int p1)] [] (hk_mU m0 st s0)
  unfold m_isBody at h
  refine hv_iload_n 1 dX4_isBody_0 rfl rfl ?_
  refine hv_i2l dX4_isBody_1 ?_
  refine hv_lconst (v := 0) dX4_isBody_2 (by decide) ?_
  refine hv_aload_n 0 dX4_isBody_3 rfl rfl ?_
  refine hm_getI (f := 45) KM (fl_X4_411) dX4_isBody_4 ?_
  refine hv_iconst (v := 1) dX4_isBody_7 (by decide) ?_
  refine hv_isub dX4_isBody_8 ?_
  refine hv_i2l dX4_isBody_9 ?_
  refine hv_callS [.long p1.toInt64, .long (0 : Int64), .long (((hm_I s0 45) - (1 : Int32)).toInt64)] [] [.int (m_within p1.toInt64 (0 : Int64) (((hm_I s0 45) - (1 : Int32)).toInt64))] (wk_m_within rfl) cs_X4_113 rfl ⟨Nat.le_of_ble_eq_true rfl, Nat.le_of_ble_eq_true rfl⟩ rfl (Nat.le_of_ble_eq_true rfl) rfl dX4_isBody_10 ?_
  have h := Option.some.inj h
  subst h
  exact hv_zret (ty := .boolean) rfl (hk_nz bz_m_within) dX4_isBody_13
def m_begins (p1 : Int32) (s0 : hk_Ms) : Option hk_Ms :=
  if (24 : Int32) ≤ (hm_I s0 48) then
    hk_nm (hm_sI s0 48 ((hm_I s0 48) + (1 : Int32))) fun s2 =>
    some s2
  else
  (hm_tI s0 25 24 (hm_I s0 48) p1).bind fun s3 =>
  hk_nm (hm_sI s3 48 ((hm_I s3 48) + (1 : Int32))) fun s4 =>
  some s4
abbrev N_m_begins (l : Launch) : hk_N := (l, cX4_begins, "HeadReckonsModel", 2, none, 0, 0, false)
set_option maxHeartbeats 4000000 in
theorem wk_m_begins {l : Launch} {Gd : hk_G} {m0 : Nat} {st : hk_St} (KM : hk_KM m0 st) {p1 : Int32} {s0 : hk_Ms} {fin : hk_Ms} (h : m_begins p1 s0 = some fin) : hk_Met Gd l yX4_begins cX4_begins 2 none 0 0 [.ref m0, .int p1] (hk_mU m0 st s0) none (hk_mU m0 st fin) := by
  refine hk_start "HeadReckonsModel" false (by decide +kernel) rfl (by decide) (Nat.le_of_ble_eq_true rfl) ?_
  show hk_V Gd (N_m_begins l) (hk_end Gd (hk_mU m0 st s0) none (hk_mU m0 st fin)) 0 [(0, .ref m0), (1, .int p1)] [] (hk_mU m0 st s0)
  unfold m_begins at h
  refine hv_aload_n 0 dX4_begins_0 rfl rfl ?_
  refine hm_getI (f := 48) KM (fl_X4_416) dX4_begins_1 ?_
  refine hv_bipush (v := 24) dX4_begins_4 (by decide) ?_
  refine hv_icmp_ge (tgt := 19) dX4_begins_6 (by decide) (fun c1 => ?_) (fun c1 => ?_)
  · replace h := hq_ip c1 h
    refine hv_aload_n 0 dX4_begins_19 rfl rfl ?_
    refine hv_dup dX4_begins_20 rfl ?_
    refine hm_getI (f := 48) KM (fl_X4_416) dX4_begins_21 ?_
    refine hv_iconst (v := 1) dX4_begins_24 (by decide) ?_
    refine hv_iadd dX4_begins_25 ?_
    obtain ⟨s2, e_s2, h⟩ := hq_nm h
    refine hm_putI (f := 48) KM (fp_X4_416) e_s2 dX4_begins_26 ?_
    have h := Option.some.inj h
    subst h
    exact hv_vret rfl dX4_begins_29
  · replace h := hq_in c1 h
    refine hv_aload_n 0 dX4_begins_9 rfl rfl ?_
    refine hm_getA (j := 25) KM (fl_X4_85) rfl (Nat.le_of_ble_eq_true rfl) dX4_begins_10 ?_
    refine hv_aload_n 0 dX4_begins_13 rfl rfl ?_
    refine hm_getI (f := 48) KM (fl_X4_416) dX4_begins_14 ?_
    refine hv_iload_n 1 dX4_begins_17 rfl rfl ?_
    obtain ⟨s3, e_s3, h⟩ := hq_ob h
    refine hm_iastore KM e_s3 (Nat.le_of_ble_eq_true rfl) rfl dX4_begins_18 ?_
    refine hv_aload_n 0 dX4_begins_19 rfl rfl ?_
    refine hv_dup dX4_begins_20 rfl ?_
    refine hm_getI (f := 48) KM (fl_X4_416) dX4_begins_21 ?_
    refine hv_iconst (v := 1) dX4_begins_24 (by decide) ?_
    refine hv_iadd dX4_begins_25 ?_
    obtain ⟨s4, e_s4, h⟩ := hq_nm h
    refine hm_putI (f := 48) KM (fp_X4_416) e_s4 dX4_begins_26 ?_
    have h := Option.some.inj h
    subst h
    exact hv_vret rfl dX4_begins_29
def m_costsAs (rc_costsAs : Int32 → Int32 → hk_Ms → Option (Int32 × hk_Ms)) (p1 : Int32) (p2 : Int32) (s0 : hk_Ms) : Option (Int32 × hk_Ms) :=
  if p1 = (5 : Int32) then
    (m_begins (60 : Int32) s0).bind fun s6 =>
  (rc_costsAs (1 : Int32) (p2 + (1 : Int32)) s6).bind fun q7 =>
  some (q7.1, q7.2)
  else
  if p1 = (1 : Int32) then
      (m_begins (20 : Int32) s0).bind fun s4 =>
    (rc_costsAs (0 : Int32) p2 s4).bind fun q5 =>
    some (q5.1 + (3 : Int32), q5.2)
    else
    (m_begins (1 : Int32) s0).bind fun s3 =>
      some (p2 + (hm_I s3 50), s3)
abbrev N_m_costsAs (l : Launch) (fr lo : Nat) : hk_N := (l, cX4_costsAs, "HeadReckonsModel", 3, (some .int), fr, lo, false)
set_option maxHeartbeats 4000000 in
theorem wk_m_costsAs {l : Launch} {Gd : hk_G} {m0 : Nat} {st : hk_St} (KM : hk_KM m0 st) {fr lo fr' lo' : Nat} (hroom : fr' + 1 ≤ fr ∧ lo' + 60 ≤ lo ∧ 10 ≤ fr ∧ 300 ≤ lo) {rc_costsAs : Int32 → Int32 → hk_Ms → Option (Int32 × hk_Ms)} (h_costsAs : ∀ (b0 : Int32) (b1 : Int32) (z : hk_Ms) (r : Int32) (z2 : hk_Ms), rc_costsAs b0 b1 z = some (r, z2) → hk_Met Gd l yX4_costsAs cX4_costsAs 3 (some .int) fr' lo' [.ref m0, .int b0, .int b1] (hk_mU m0 st z) (some (.int r)) (hk_mU m0 st z2)) {p1 : Int32} {p2 : Int32} {s0 : hk_Ms} {r : Int32} {fin : hk_Ms} (h : m_costsAs rc_costsAs p1 p2 s0 = some (r, fin)) : hk_Met Gd l yX4_costsAs cX4_costsAs 3 (some .int) fr lo [.ref m0, .int p1, .int p2] (hk_mU m0 st s0) (some (.int r)) (hk_mU m0 st fin) := by
  refine hk_start "HeadReckonsModel" false (by decide +kernel) rfl (by decide) (Nat.le_of_ble_eq_true rfl) ?_
  show hk_V Gd (N_m_costsAs l fr lo) (hk_end Gd (hk_mU m0 st s0) (some (.int r)) (hk_mU m0 st fin)) 0 [(0, .ref m0), (1, .int p1), (2, .int p2)] [] (hk_mU m0 st s0)
  unfold m_costsAs at h
  refine hv_iload_n 1 dX4_costsAs_0 rfl rfl ?_
  refine hv_iconst (v := 5) dX4_costsAs_1 (by decide) ?_
  refine hv_icmp_ne (tgt := 20) dX4_costsAs_2 (by decide) (fun c1 => ?_) (fun c1 => ?_)
  · replace h := hq_in c1 h
    refine hv_iload_n 1 dX4_costsAs_20 rfl rfl ?_
    refine hv_iconst (v := 1) dX4_costsAs_21 (by decide) ?_
    refine hv_icmp_ne (tgt := 40) dX4_costsAs_22 (by decide) (fun c2 => ?_) (fun c2 => ?_)
    · replace h := hq_in c2 h
      refine hv_aload_n 0 dX4_costsAs_40 rfl rfl ?_
      refine hv_iconst (v := 1) dX4_costsAs_41 (by decide) ?_
      obtain ⟨s3, e_s3, h⟩ := hq_ob h
      refine hv_callV [.int (1 : Int32)] [] [] (wk_m_begins KM e_s3) cs_X4_419 KM.recv rfl ⟨by show _ ≤ fr; omega, by show _ ≤ lo; omega⟩ rfl (Nat.le_of_ble_eq_true rfl) rfl dX4_costsAs_42 ?_
      refine hv_iload_n 2 dX4_costsAs_45 rfl rfl ?_
      refine hv_aload_n 0 dX4_costsAs_46 rfl rfl ?_
      refine hm_getI (f := 50) KM (fl_X4_425) dX4_costsAs_47 ?_
      refine hv_iadd dX4_costsAs_50 ?_
      obtain ⟨h1, h2⟩ := hq_ret h
      subst h1
      subst h2
      exact hv_iret rfl dX4_costsAs_51
    · replace h := hq_ip c2 h
      refine hv_aload_n 0 dX4_costsAs_25 rfl rfl ?_
      refine hv_bipush (v := 20) dX4_costsAs_26 (by decide) ?_
      obtain ⟨s4, e_s4, h⟩ := hq_ob h
      refine hv_callV [.int (20 : Int32)] [] [] (wk_m_begins KM e_s4) cs_X4_419 KM.recv rfl ⟨by show _ ≤ fr; omega, by show _ ≤ lo; omega⟩ rfl (Nat.le_of_ble_eq_true rfl) rfl dX4_costsAs_28 ?_
      refine hv_aload_n 0 dX4_costsAs_31 rfl rfl ?_
      refine hv_iconst (v := 0) dX4_costsAs_32 (by decide) ?_
      refine hv_iload_n 2 dX4_costsAs_33 rfl rfl ?_
      obtain ⟨q5, e_q5, h⟩ := hq_ob h
      refine hv_callV [.int (0 : Int32), .int p2] [] [.int q5.1] (h_costsAs _ _ _ _ _ e_q5) cs_X4_422 KM.recv rfl ⟨by show _ ≤ fr; omega, by show _ ≤ lo; omega⟩ rfl (Nat.le_of_ble_eq_true rfl) rfl dX4_costsAs_34 ?_
      refine hv_iconst (v := 3) dX4_costsAs_37 (by decide) ?_
      refine hv_iadd dX4_costsAs_38 ?_
      obtain ⟨h1, h2⟩ := hq_ret h
      subst h1
      subst h2
      exact hv_iret rfl dX4_costsAs_39
  · replace h := hq_ip c1 h
    refine hv_aload_n 0 dX4_costsAs_5 rfl rfl ?_
    refine hv_bipush (v := 60) dX4_costsAs_6 (by decide) ?_
    obtain ⟨s6, e_s6, h⟩ := hq_ob h
    refine hv_callV [.int (60 : Int32)] [] [] (wk_m_begins KM e_s6) cs_X4_419 KM.recv rfl ⟨by show _ ≤ fr; omega, by show _ ≤ lo; omega⟩ rfl (Nat.le_of_ble_eq_true rfl) rfl dX4_costsAs_8 ?_
    refine hv_aload_n 0 dX4_costsAs_11 rfl rfl ?_
    refine hv_iconst (v := 1) dX4_costsAs_12 (by decide) ?_
    refine hv_iload_n 2 dX4_costsAs_13 rfl rfl ?_
    refine hv_iconst (v := 1) dX4_costsAs_14 (by decide) ?_
    refine hv_iadd dX4_costsAs_15 ?_
    obtain ⟨q7, e_q7, h⟩ := hq_ob h
    refine hv_callV [.int (1 : Int32), .int (p2 + (1 : Int32))] [] [.int q7.1] (h_costsAs _ _ _ _ _ e_q7) cs_X4_422 KM.recv rfl ⟨by show _ ≤ fr; omega, by show _ ≤ lo; omega⟩ rfl (Nat.le_of_ble_eq_true rfl) rfl dX4_costsAs_16 ?_
    obtain ⟨h1, h2⟩ := hq_ret h
    subst h1
    subst h2
    exact hv_iret rfl dX4_costsAs_19
def g_costsAs : Nat → Int32 → Int32 → hk_Ms → Option (Int32 × hk_Ms)
  | 0 => fun _ _ _ => none
  | d + 1 => m_costsAs (g_costsAs d)
theorem wk_gA_costsAs {l : Launch} {Gd : hk_G} {m0 : Nat} {st : hk_St} (KM : hk_KM m0 st) : ∀ d : Nat, (∀ (b0 : Int32) (b1 : Int32) (z : hk_Ms) (r : Int32) (z2 : hk_Ms), g_costsAs d b0 b1 z = some (r, z2) → hk_Met Gd l yX4_costsAs cX4_costsAs 3 (some .int) (10 + d) (300 + 60 * d) [.ref m0, .int b0, .int b1] (hk_mU m0 st z) (some (.int r)) (hk_mU m0 st z2)) := by
  intro d
  induction d with
  | zero => skip; (intros; rename_i h; cases h)
  | succ d ih =>
    exact fun _ _ _ _ _ h => wk_m_costsAs KM ⟨by omega, by omega, by omega, by omega⟩ ih h
theorem wk_g_costsAs_costsAs {l : Launch} {Gd : hk_G} {m0 : Nat} {st : hk_St} (KM : hk_KM m0 st) {b0 : Int32} {b1 : Int32} {z : hk_Ms} {r : Int32} {z2 : hk_Ms} (h : g_costsAs 4 b0 b1 z = some (r, z2)) : hk_Met Gd l yX4_costsAs cX4_costsAs 3 (some .int) 14 540 [.ref m0, .int b0, .int b1] (hk_mU m0 st z) (some (.int r)) (hk_mU m0 st z2) :=
  (wk_gA_costsAs KM 4) _ _ _ _ _ h
def m_keepsAs (rc_keepsAs : Int32 → Int32 → hk_Ms → Option (Int32 × hk_Ms)) (p1 : Int32) (p2 : Int32) (s0 : hk_Ms) : Option (Int32 × hk_Ms) :=
  hk_nm (fun (s1 : hk_Ms) =>
    (m_begins (30 : Int32) s1).bind fun s2 =>
    (rc_keepsAs (0 : Int32) p2 s2).bind fun q3 =>
    some (-q3.1, q3.2)) fun k10 =>
  if p1 = (2 : Int32) then
    k10 s0
  else
  if p1 = (3 : Int32) then
    k10 s0
  else
  if p1 = (7 : Int32) then
      (m_begins (80 : Int32) s0).bind fun s9 =>
    (rc_keepsAs (6 : Int32) p2 s9).bind fun q10 =>
    some (q10.1 * (2 : Int32), q10.2)
    else
    (m_begins (10 : Int32) s0).bind fun s7 =>
      ((g_costsAs 4) (hm_I s7 49) p2 s7).bind fun q8 =>
      some (q8.1 * (2 : Int32), q8.2)
abbrev N_m_keepsAs (l : Launch) (fr lo : Nat) : hk_N := (l, cX4_keepsAs, "HeadReckonsModel", 3, (some .int), fr, lo, false)
set_option maxHeartbeats 4000000 in
theorem wk_m_keepsAs {l : Launch} {Gd : hk_G} {m0 : Nat} {st : hk_St} (KM : hk_KM m0 st) {fr lo fr' lo' : Nat} (hroom : fr' + 1 ≤ fr ∧ lo' + 60 ≤ lo ∧ 40 ≤ fr ∧ 900 ≤ lo) {rc_keepsAs : Int32 → Int32 → hk_Ms → Option (Int32 × hk_Ms)} (h_keepsAs : ∀ (b0 : Int32) (b1 : Int32) (z : hk_Ms) (r : Int32) (z2 : hk_Ms), rc_keepsAs b0 b1 z = some (r, z2) → hk_Met Gd l yX4_keepsAs cX4_keepsAs 3 (some .int) fr' lo' [.ref m0, .int b0, .int b1] (hk_mU m0 st z) (some (.int r)) (hk_mU m0 st z2)) {p1 : Int32} {p2 : Int32} {s0 : hk_Ms} {r : Int32} {fin : hk_Ms} (h : m_keepsAs rc_keepsAs p1 p2 s0 = some (r, fin)) : hk_Met Gd l yX4_keepsAs cX4_keepsAs 3 (some .int) fr lo [.ref m0, .int p1, .int p2] (hk_mU m0 st s0) (some (.int r)) (hk_mU m0 st fin) := by
  refine hk_start "HeadReckonsModel" false (by decide +kernel) rfl (by decide) (Nat.le_of_ble_eq_true rfl) ?_
  show hk_V Gd (N_m_keepsAs l fr lo) (hk_end Gd (hk_mU m0 st s0) (some (.int r)) (hk_mU m0 st fin)) 0 [(0, .ref m0), (1, .int p1), (2, .int p2)] [] (hk_mU m0 st s0)
  unfold m_keepsAs at h
  obtain ⟨k10, e_k10, h⟩ := hq_nm h
  have wk10 : ∀ (s1 : hk_Ms), k10 s1 = some (r, fin) → hk_V Gd (N_m_keepsAs l fr lo) (hk_end Gd (hk_mU m0 st s0) (some (.int r)) (hk_mU m0 st fin)) 10 [(0, .ref m0), (2, .int p2)] [] (hk_mU m0 st s1) := by
    intro s1 h
    rw [e_k10] at h
    refine hv_aload_n 0 dX4_keepsAs_10 rfl rfl ?_
    refine hv_bipush (v := 30) dX4_keepsAs_11 (by decide) ?_
    obtain ⟨s2, e_s2, h⟩ := hq_ob h
    refine hv_callV [.int (30 : Int32)] [] [] (wk_m_begins KM e_s2) cs_X4_419 KM.recv rfl ⟨by show _ ≤ fr; omega, by show _ ≤ lo; omega⟩ rfl (Nat.le_of_ble_eq_true rfl) rfl dX4_keepsAs_13 ?_
    refine hv_aload_n 0 dX4_keepsAs_16 rfl rfl ?_
    refine hv_iconst (v := 0) dX4_keepsAs_17 (by decide) ?_
    refine hv_iload_n 1 dX4_keepsAs_18 rfl rfl ?_
    obtain ⟨q3, e_q3, h⟩ := hq_ob h
    refine hv_callV [.int (0 : Int32), .int p2] [] [.int q3.1] (h_keepsAs _ _ _ _ _ e_q3) cs_X4_428 KM.recv rfl ⟨by show _ ≤ fr; omega, by show _ ≤ lo; omega⟩ rfl (Nat.le_of_ble_eq_true rfl) rfl dX4_keepsAs_19 ?_
    refine hv_ineg dX4_keepsAs_22 ?_
    obtain ⟨h1, h2⟩ := hq_ret h
    subst h1
    subst h2
    exact hv_iret rfl dX4_keepsAs_23
  clear e_k10
  refine hv_iload_n 1 dX4_keepsAs_0 rfl rfl ?_
  refine hv_iconst (v := 2) dX4_keepsAs_1 (by decide) ?_
  refine hv_icmp_eq (tgt := 10) dX4_keepsAs_2 (by decide) (fun c4 => ?_) (fun c4 => ?_)
  · replace h := hq_ip c4 h
    refine hv_sub [0, 2] rfl ?_
    exact wk10 _ h
  · replace h := hq_in c4 h
    refine hv_iload_n 1 dX4_keepsAs_5 rfl rfl ?_
    refine hv_iconst (v := 3) dX4_keepsAs_6 (by decide) ?_
    refine hv_icmp_ne (tgt := 24) dX4_keepsAs_7 (by decide) (fun c5 => ?_) (fun c5 => ?_)
    · replace h := hq_in c5 h
      refine hv_iload_n 1 dX4_keepsAs_24 rfl rfl ?_
      refine hv_bipush (v := 7) dX4_keepsAs_25 (by decide) ?_
      refine hv_icmp_ne (tgt := 46) dX4_keepsAs_27 (by decide) (fun c6 => ?_) (fun c6 => ?_)
      · replace h := hq_in c6 h
        refine hv_aload_n 0 dX4_keepsAs_46 rfl rfl ?_
        refine hv_bipush (v := 10) dX4_keepsAs_47 (by decide) ?_
        obtain ⟨s7, e_s7, h⟩ := hq_ob h
        refine hv_callV [.int (10 : Int32)] [] [] (wk_m_begins KM e_s7) cs_X4_419 KM.recv rfl ⟨by show _ ≤ fr; omega, by show _ ≤ lo; omega⟩ rfl (Nat.le_of_ble_eq_true rfl) rfl dX4_keepsAs_49 ?_
        refine hv_aload_n 0 dX4_keepsAs_52 rfl rfl ?_
        refine hv_aload_n 0 dX4_keepsAs_53 rfl rfl ?_
        refine hm_getI (f := 49) KM (fl_X4_431) dX4_keepsAs_54 ?_
        refine hv_iload_n 2 dX4_keepsAs_57 rfl rfl ?_
        obtain ⟨q8, e_q8, h⟩ := hq_ob h
        refine hv_callV [.int (hm_I s7 49), .int p2] [] [.int q8.1] (wk_g_costsAs_costsAs KM e_q8) cs_X4_422 KM.recv rfl ⟨by show _ ≤ fr; omega, by show _ ≤ lo; omega⟩ rfl (Nat.le_of_ble_eq_true rfl) rfl dX4_keepsAs_58 ?_
        refine hv_iconst (v := 2) dX4_keepsAs_61 (by decide) ?_
        refine hv_imul dX4_keepsAs_62 ?_
        obtain ⟨h1, h2⟩ := hq_ret h
        subst h1
        subst h2
        exact hv_iret rfl dX4_keepsAs_63
      · replace h := hq_ip c6 h
        refine hv_aload_n 0 dX4_keepsAs_30 rfl rfl ?_
        refine hv_bipush (v := 80) dX4_keepsAs_31 (by decide) ?_
        obtain ⟨s9, e_s9, h⟩ := hq_ob h
        refine hv_callV [.int (80 : Int32)] [] [] (wk_m_begins KM e_s9) cs_X4_419 KM.recv rfl ⟨by show _ ≤ fr; omega, by show _ ≤ lo; omega⟩ rfl (Nat.le_of_ble_eq_true rfl) rfl dX4_keepsAs_33 ?_
        refine hv_aload_n 0 dX4_keepsAs_36 rfl rfl ?_
        refine hv_bipush (v := 6) dX4_keepsAs_37 (by decide) ?_
        refine hv_iload_n 2 dX4_keepsAs_39 rfl rfl ?_
        obtain ⟨q10, e_q10, h⟩ := hq_ob h
        refine hv_callV [.int (6 : Int32), .int p2] [] [.int q10.1] (h_keepsAs _ _ _ _ _ e_q10) cs_X4_428 KM.recv rfl ⟨by show _ ≤ fr; omega, by show _ ≤ lo; omega⟩ rfl (Nat.le_of_ble_eq_true rfl) rfl dX4_keepsAs_40 ?_
        refine hv_iconst (v := 2) dX4_keepsAs_43 (by decide) ?_
        refine hv_imul dX4_keepsAs_44 ?_
        obtain ⟨h1, h2⟩ := hq_ret h
        subst h1
        subst h2
        exact hv_iret rfl dX4_keepsAs_45
    · replace h := hq_ip c5 h
      refine hv_sub [0, 2] rfl ?_
      exact wk10 _ h
def g_keepsAs : Nat → Int32 → Int32 → hk_Ms → Option (Int32 × hk_Ms)
  | 0 => fun _ _ _ => none
  | d + 1 => m_keepsAs (g_keepsAs d)
theorem wk_gA_keepsAs {l : Launch} {Gd : hk_G} {m0 : Nat} {st : hk_St} (KM : hk_KM m0 st) : ∀ d : Nat, (∀ (b0 : Int32) (b1 : Int32) (z : hk_Ms) (r : Int32) (z2 : hk_Ms), g_keepsAs d b0 b1 z = some (r, z2) → hk_Met Gd l yX4_keepsAs cX4_keepsAs 3 (some .int) (40 + d) (900 + 60 * d) [.ref m0, .int b0, .int b1] (hk_mU m0 st z) (some (.int r)) (hk_mU m0 st z2)) := by
  intro d
  induction d with
  | zero => skip; (intros; rename_i h; cases h)
  | succ d ih =>
    exact fun _ _ _ _ _ h => wk_m_keepsAs KM ⟨by omega, by omega, by omega, by omega⟩ ih h
theorem wk_g_keepsAs_keepsAs {l : Launch} {Gd : hk_G} {m0 : Nat} {st : hk_St} (KM : hk_KM m0 st) {b0 : Int32} {b1 : Int32} {z : hk_Ms} {r : Int32} {z2 : hk_Ms} (h : g_keepsAs 4 b0 b1 z = some (r, z2)) : hk_Met Gd l yX4_keepsAs cX4_keepsAs 3 (some .int) 44 1140 [.ref m0, .int b0, .int b1] (hk_mU m0 st z) (some (.int r)) (hk_mU m0 st z2) :=
  (wk_gA_keepsAs KM 4) _ _ _ _ _ h
def m_slipsAs (rc_slipsAs : Int32 → Int32 → hk_Ms → Option (Int32 × hk_Ms)) (p1 : Int32) (p2 : Int32) (s0 : hk_Ms) : Option (Int32 × hk_Ms) :=
  hk_nm (fun (s1 : hk_Ms) =>
    (m_begins (70 : Int32) s1).bind fun s2 =>
    (rc_slipsAs (0 : Int32) p2 s2).bind fun q3 =>
    some (q3.1 - (1 : Int32), q3.2)) fun k62 =>
  if p1 = (3 : Int32) then
    (m_begins (40 : Int32) s0).bind fun s12 =>
  (rc_slipsAs (2 : Int32) p2 s12).bind fun q13 =>
  some (q13.1 * (3 : Int32), q13.2)
  else
  if p1 = (5 : Int32) then
      (m_begins (61 : Int32) s0).bind fun s9 =>
    (rc_slipsAs (1 : Int32) p2 s9).bind fun q10 =>
    ((g_costsAs 4) (hm_I q10.2 49) (2 : Int32) q10.2).bind fun q11 =>
    some (q10.1 + q11.1, q11.2)
    else
    if p1 = (6 : Int32) then
        k62 s0
      else
      if p1 = (7 : Int32) then
        k62 s0
      else
      (m_begins (11 : Int32) s0).bind fun s8 =>
        some (p2 ^^^ (hm_I s8 50), s8)
abbrev N_m_slipsAs (l : Launch) (fr lo : Nat) : hk_N := (l, cX4_slipsAs, "HeadReckonsModel", 4, (some .int), fr, lo, false)
set_option maxHeartbeats 4000000 in
theorem wk_m_slipsAs {l : Launch} {Gd : hk_G} {m0 : Nat} {st : hk_St} (KM : hk_KM m0 st) {fr lo fr' lo' : Nat} (hroom : fr' + 1 ≤ fr ∧ lo' + 60 ≤ lo ∧ 40 ≤ fr ∧ 900 ≤ lo) {rc_slipsAs : Int32 → Int32 → hk_Ms → Option (Int32 × hk_Ms)} (h_slipsAs : ∀ (b0 : Int32) (b1 : Int32) (z : hk_Ms) (r : Int32) (z2 : hk_Ms), rc_slipsAs b0 b1 z = some (r, z2) → hk_Met Gd l yX4_slipsAs cX4_slipsAs 4 (some .int) fr' lo' [.ref m0, .int b0, .int b1] (hk_mU m0 st z) (some (.int r)) (hk_mU m0 st z2)) {p1 : Int32} {p2 : Int32} {s0 : hk_Ms} {r : Int32} {fin : hk_Ms} (h : m_slipsAs rc_slipsAs p1 p2 s0 = some (r, fin)) : hk_Met Gd l yX4_slipsAs cX4_slipsAs 4 (some .int) fr lo [.ref m0, .int p1, .int p2] (hk_mU m0 st s0) (some (.int r)) (hk_mU m0 st fin) := by
  refine hk_start "HeadReckonsModel" false (by decide +kernel) rfl (by decide) (Nat.le_of_ble_eq_true rfl) ?_
  show hk_V Gd (N_m_slipsAs l fr lo) (hk_end Gd (hk_mU m0 st s0) (some (.int r)) (hk_mU m0 st fin)) 0 [(0, .ref m0), (1, .int p1), (2, .int p2)] [] (hk_mU m0 st s0)
  unfold m_slipsAs at h
  obtain ⟨k62, e_k62, h⟩ := hq_nm h
  have wk62 : ∀ (s1 : hk_Ms), k62 s1 = some (r, fin) → hk_V Gd (N_m_slipsAs l fr lo) (hk_end Gd (hk_mU m0 st s0) (some (.int r)) (hk_mU m0 st fin)) 62 [(0, .ref m0), (2, .int p2)] [] (hk_mU m0 st s1) := by
    intro s1 h
    rw [e_k62] at h
    refine hv_aload_n 0 dX4_slipsAs_62 rfl rfl ?_
    refine hv_bipush (v := 70) dX4_slipsAs_63 (by decide) ?_
    obtain ⟨s2, e_s2, h⟩ := hq_ob h
    refine hv_callV [.int (70 : Int32)] [] [] (wk_m_begins KM e_s2) cs_X4_419 KM.recv rfl ⟨by show _ ≤ fr; omega, by show _ ≤ lo; omega⟩ rfl (Nat.le_of_ble_eq_true rfl) rfl dX4_slipsAs_65 ?_
    refine hv_aload_n 0 dX4_slipsAs_68 rfl rfl ?_
    refine hv_iconst (v := 0) dX4_slipsAs_69 (by decide) ?_
    refine hv_iload_n 1 dX4_slipsAs_70 rfl rfl ?_
    obtain ⟨q3, e_q3, h⟩ := hq_ob h
    refine hv_callV [.int (0 : Int32), .int p2] [] [.int q3.1] (h_slipsAs _ _ _ _ _ e_q3) cs_X4_434 KM.recv rfl ⟨by show _ ≤ fr; omega, by show _ ≤ lo; omega⟩ rfl (Nat.le_of_ble_eq_true rfl) rfl dX4_slipsAs_71 ?_
    refine hv_iconst (v := 1) dX4_slipsAs_74 (by decide) ?_
    refine hv_isub dX4_slipsAs_75 ?_
    obtain ⟨h1, h2⟩ := hq_ret h
    subst h1
    subst h2
    exact hv_iret rfl dX4_slipsAs_76
  clear e_k62
  refine hv_iload_n 1 dX4_slipsAs_0 rfl rfl ?_
  refine hv_iconst (v := 3) dX4_slipsAs_1 (by decide) ?_
  refine hv_icmp_ne (tgt := 20) dX4_slipsAs_2 (by decide) (fun c4 => ?_) (fun c4 => ?_)
  · replace h := hq_in c4 h
    refine hv_iload_n 1 dX4_slipsAs_20 rfl rfl ?_
    refine hv_iconst (v := 5) dX4_slipsAs_21 (by decide) ?_
    refine hv_icmp_ne (tgt := 50) dX4_slipsAs_22 (by decide) (fun c5 => ?_) (fun c5 => ?_)
    · replace h := hq_in c5 h
      refine hv_iload_n 1 dX4_slipsAs_50 rfl rfl ?_
      refine hv_bipush (v := 6) dX4_slipsAs_51 (by decide) ?_
      refine hv_icmp_eq (tgt := 62) dX4_slipsAs_53 (by decide) (fun c6 => ?_) (fun c6 => ?_)
      · replace h := hq_ip c6 h
        refine hv_sub [0, 2] rfl ?_
        exact wk62 _ h
      · replace h := hq_in c6 h
        refine hv_iload_n 1 dX4_slipsAs_56 rfl rfl ?_
        refine hv_bipush (v := 7) dX4_slipsAs_57 (by decide) ?_
        refine hv_icmp_ne (tgt := 77) dX4_slipsAs_59 (by decide) (fun c7 => ?_) (fun c7 => ?_)
        · replace h := hq_in c7 h
          refine hv_aload_n 0 dX4_slipsAs_77 rfl rfl ?_
          refine hv_bipush (v := 11) dX4_slipsAs_78 (by decide) ?_
          obtain ⟨s8, e_s8, h⟩ := hq_ob h
          refine hv_callV [.int (11 : Int32)] [] [] (wk_m_begins KM e_s8) cs_X4_419 KM.recv rfl ⟨by show _ ≤ fr; omega, by show _ ≤ lo; omega⟩ rfl (Nat.le_of_ble_eq_true rfl) rfl dX4_slipsAs_80 ?_
          refine hv_iload_n 2 dX4_slipsAs_83 rfl rfl ?_
          refine hv_aload_n 0 dX4_slipsAs_84 rfl rfl ?_
          refine hm_getI (f := 50) KM (fl_X4_425) dX4_slipsAs_85 ?_
          refine hv_ixor dX4_slipsAs_88 ?_
          obtain ⟨h1, h2⟩ := hq_ret h
          subst h1
          subst h2
          exact hv_iret rfl dX4_slipsAs_89
        · replace h := hq_ip c7 h
          refine hv_sub [0, 2] rfl ?_
          exact wk62 _ h
    · replace h := hq_ip c5 h
      refine hv_aload_n 0 dX4_slipsAs_25 rfl rfl ?_
      refine hv_bipush (v := 61) dX4_slipsAs_26 (by decide) ?_
      obtain ⟨s9, e_s9, h⟩ := hq_ob h
      refine hv_callV [.int (61 : Int32)] [] [] (wk_m_begins KM e_s9) cs_X4_419 KM.recv rfl ⟨by show _ ≤ fr; omega, by show _ ≤ lo; omega⟩ rfl (Nat.le_of_ble_eq_true rfl) rfl dX4_slipsAs_28 ?_
      refine hv_aload_n 0 dX4_slipsAs_31 rfl rfl ?_
      refine hv_iconst (v := 1) dX4_slipsAs_32 (by decide) ?_
      refine hv_iload_n 2 dX4_slipsAs_33 rfl rfl ?_
      obtain ⟨q10, e_q10, h⟩ := hq_ob h
      refine hv_callV [.int (1 : Int32), .int p2] [] [.int q10.1] (h_slipsAs _ _ _ _ _ e_q10) cs_X4_434 KM.recv rfl ⟨by show _ ≤ fr; omega, by show _ ≤ lo; omega⟩ rfl (Nat.le_of_ble_eq_true rfl) rfl dX4_slipsAs_34 ?_
      refine hv_istore_n (L' := [(3, .int q10.1), (0, .ref m0), (1, .int p1), (2, .int p2)]) dX4_slipsAs_37 rfl (Nat.le_of_ble_eq_true rfl) rfl ?_
      refine hv_iload_n 0 dX4_slipsAs_38 rfl rfl ?_
      refine hv_aload_n 1 dX4_slipsAs_39 rfl rfl ?_
      refine hv_aload_n 1 dX4_slipsAs_40 rfl rfl ?_
      refine hm_getI (f := 49) KM (fl_X4_431) dX4_slipsAs_41 ?_
      refine hv_iconst (v := 2) dX4_slipsAs_44 (by decide) ?_
      obtain ⟨q11, e_q11, h⟩ := hq_ob h
      refine hv_callV [.int (hm_I q10.2 49), .int (2 : Int32)] [.int q10.1] [.int q11.1, .int q10.1] (wk_g_costsAs_costsAs KM e_q11) cs_X4_422 KM.recv rfl ⟨by show _ ≤ fr; omega, by show _ ≤ lo; omega⟩ rfl (Nat.le_of_ble_eq_true rfl) rfl dX4_slipsAs_45 ?_
      refine hv_iadd dX4_slipsAs_48 ?_
      obtain ⟨h1, h2⟩ := hq_ret h
      subst h1
      subst h2
      exact hv_iret rfl dX4_slipsAs_49
  · replace h := hq_ip c4 h
    refine hv_aload_n 0 dX4_slipsAs_5 rfl rfl ?_
    refine hv_bipush (v := 40) dX4_slipsAs_6 (by decide) ?_
    obtain ⟨s12, e_s12, h⟩ := hq_ob h
    refine hv_callV [.int (40 : Int32)] [] [] (wk_m_begins KM e_s12) cs_X4_419 KM.recv rfl ⟨by show _ ≤ fr; omega, by show _ ≤ lo; omega⟩ rfl (Nat.le_of_ble_eq_true rfl) rfl dX4_slipsAs_8 ?_
    refine hv_aload_n 0 dX4_slipsAs_11 rfl rfl ?_
    refine hv_iconst (v := 2) dX4_slipsAs_12 (by decide) ?_
    refine hv_iload_n 2 dX4_slipsAs_13 rfl rfl ?_
    obtain ⟨q13, e_q13, h⟩ := hq_ob h
    refine hv_callV [.int (2 : Int32), .int p2] [] [.int q13.1] (h_slipsAs _ _ _ _ _ e_q13) cs_X4_434 KM.recv rfl ⟨by show _ ≤ fr; omega, by show _ ≤ lo; omega⟩ rfl (Nat.le_of_ble_eq_true rfl) rfl dX4_slipsAs_14 ?_
    refine hv_iconst (v := 3) dX4_slipsAs_17 (by decide) ?_
    refine hv_imul dX4_slipsAs_18 ?_
    obtain ⟨h1, h2⟩ := hq_ret h
    subst h1
    subst h2
    exact hv_iret rfl dX4_slipsAs_19
def g_slipsAs : Nat → Int32 → Int32 → hk_Ms → Option (Int32 × hk_Ms)
  | 0 => fun _ _ _ => none
  | d + 1 => m_slipsAs (g_slipsAs d)
theorem wk_gA_slipsAs {l : Launch} {Gd : hk_G} {m0 : Nat} {st : hk_St} (KM : hk_KM m0 st) : ∀ d : Nat, (∀ (b0 : Int32) (b1 : Int32) (z : hk_Ms) (r : Int32) (z2 : hk_Ms), g_slipsAs d b0 b1 z = some (r, z2) → hk_Met Gd l yX4_slipsAs cX4_slipsAs 4 (some .int) (40 + d) (900 + 60 * d) [.ref m0, .int b0, .int b1] (hk_mU m0 st z) (some (.int r)) (hk_mU m0 st z2)) := by
  intro d
  induction d with
  | zero => skip; (intros; rename_i h; cases h)
  | succ d ih =>
    exact fun _ _ _ _ _ h => wk_m_slipsAs KM ⟨by omega, by omega, by omega, by omega⟩ ih h
theorem wk_g_slipsAs_slipsAs {l : Launch} {Gd : hk_G} {m0 : Nat} {st : hk_St} (KM : hk_KM m0 st) {b0 : Int32} {b1 : Int32} {z : hk_Ms} {r : Int32} {z2 : hk_Ms} (h : g_slipsAs 4 b0 b1 z = some (r, z2)) : hk_Met Gd l yX4_slipsAs cX4_slipsAs 4 (some .int) 44 1140 [.ref m0, .int b0, .int b1] (hk_mU m0 st z) (some (.int r)) (hk_mU m0 st z2) :=
  (wk_gA_slipsAs KM 4) _ _ _ _ _ h
def m_tellsAs (rc_tellsAs : Int32 → Int32 → hk_Ms → Option (Int32 × hk_Ms)) (p1 : Int32) (p2 : Int32) (s0 : hk_Ms) : Option (Int32 × hk_Ms) :=
  if p1 = (4 : Int32) then
    (m_begins (50 : Int32) s0).bind fun s9 =>
  (rc_tellsAs (0 : Int32) p2 s9).bind fun q10 =>
  some (q10.1 ^^^ (5 : Int32), q10.2)
  else
  if p1 = (7 : Int32) then
      (m_begins (81 : Int32) s0).bind fun s6 =>
    (rc_tellsAs (6 : Int32) p2 s6).bind fun q7 =>
    ((g_slipsAs 4) (hm_I q7.2 49) (2 : Int32) q7.2).bind fun q8 =>
    some (q7.1 - q8.1, q8.2)
    else
    (m_begins (2 : Int32) s0).bind fun s3 =>
      ((g_keepsAs 4) (hm_I s3 49) p2 s3).bind fun q4 =>
      ((g_slipsAs 4) (hm_I q4.2 49) (1 : Int32) q4.2).bind fun q5 =>
      some (q4.1 - q5.1, q5.2)
abbrev N_m_tellsAs (l : Launch) (fr lo : Nat) : hk_N := (l, cX4_tellsAs, "HeadReckonsModel", 4, (some .int), fr, lo, false)
set_option maxHeartbeats 4000000 in
theorem wk_m_tellsAs {l : Launch} {Gd : hk_G} {m0 : Nat} {st : hk_St} (KM : hk_KM m0 st) {fr lo fr' lo' : Nat} (hroom : fr' + 1 ≤ fr ∧ lo' + 60 ≤ lo ∧ 120 ≤ fr ∧ 3000 ≤ lo) {rc_tellsAs : Int32 → Int32 → hk_Ms → Option (Int32 × hk_Ms)} (h_tellsAs : ∀ (b0 : Int32) (b1 : Int32) (z : hk_Ms) (r : Int32) (z2 : hk_Ms), rc_tellsAs b0 b1 z = some (r, z2) → hk_Met Gd l yX4_tellsAs cX4_tellsAs 4 (some .int) fr' lo' [.ref m0, .int b0, .int b1] (hk_mU m0 st z) (some (.int r)) (hk_mU m0 st z2)) {p1 : Int32} {p2 : Int32} {s0 : hk_Ms} {r : Int32} {fin : hk_Ms} (h : m_tellsAs rc_tellsAs p1 p2 s0 = some (r, fin)) : hk_Met Gd l yX4_tellsAs cX4_tellsAs 4 (some .int) fr lo [.ref m0, .int p1, .int p2] (hk_mU m0 st s0) (some (.int r)) (hk_mU m0 st fin) := by
  refine hk_start "HeadReckonsModel" false (by decide +kernel) rfl (by decide) (Nat.le_of_ble_eq_true rfl) ?_
  show hk_V Gd (N_m_tellsAs l fr lo) (hk_end Gd (hk_mU m0 st s0) (some (.int r)) (hk_mU m0 st fin)) 0 [(0, .ref m0), (1, .int p1), (2, .int p2)] [] (hk_mU m0 st s0)
  unfold m_tellsAs at h
  refine hv_iload_n 1 dX4_tellsAs_0 rfl rfl ?_
  refine hv_iconst (v := 4) dX4_tellsAs_1 (by decide) ?_
  refine hv_icmp_ne (tgt := 20) dX4_tellsAs_2 (by decide) (fun c1 => ?_) (fun c1 => ?_)
  · replace h := hq_in c1 h
    refine hv_iload_n 1 dX4_tellsAs_20 rfl rfl ?_
    refine hv_bipush (v := 7) dX4_tellsAs_21 (by decide) ?_
    refine hv_icmp_ne (tgt := 52) dX4_tellsAs_23 (by decide) (fun c2 => ?_) (fun c2 => ?_)
    · replace h := hq_in c2 h
      refine hv_aload_n 0 dX4_tellsAs_52 rfl rfl ?_
      refine hv_iconst (v := 2) dX4_tellsAs_53 (by decide) ?_
      obtain ⟨s3, e_s3, h⟩ := hq_ob h
      refine hv_callV [.int (2 : Int32)] [] [] (wk_m_begins KM e_s3) cs_X4_419 KM.recv rfl ⟨by show _ ≤ fr; omega, by show _ ≤ lo; omega⟩ rfl (Nat.le_of_ble_eq_true rfl) rfl dX4_tellsAs_54 ?_
      refine hv_aload_n 0 dX4_tellsAs_57 rfl rfl ?_
      refine hv_aload_n 0 dX4_tellsAs_58 rfl rfl ?_
      refine hm_getI (f := 49) KM (fl_X4_431) dX4_tellsAs_59 ?_
      refine hv_iload_n 2 dX4_tellsAs_62 rfl rfl ?_
      obtain ⟨q4, e_q4, h⟩ := hq_ob h
      refine hv_callV [.int (hm_I s3 49), .int p2] [] [.int q4.1] (wk_g_keepsAs_keepsAs KM e_q4) cs_X4_428 KM.recv rfl ⟨by show _ ≤ fr; omega, by show _ ≤ lo; omega⟩ rfl (Nat.le_of_ble_eq_true rfl) rfl dX4_tellsAs_63 ?_
      refine hv_istore_n (L' := [(3, .int q4.1), (0, .ref m0), (1, .int p1), (2, .int p2)]) dX4_tellsAs_66 rfl (Nat.le_of_ble_eq_true rfl) rfl ?_
      refine hv_iload_n 0 dX4_tellsAs_67 rfl rfl ?_
      refine hv_aload_n 1 dX4_tellsAs_68 rfl rfl ?_
      refine hv_aload_n 1 dX4_tellsAs_69 rfl rfl ?_
      refine hm_getI (f := 49) KM (fl_X4_431) dX4_tellsAs_70 ?_
      refine hv_iconst (v := 1) dX4_tellsAs_73 (by decide) ?_
      obtain ⟨q5, e_q5, h⟩ := hq_ob h
      refine hv_callV [.int (hm_I q4.2 49), .int (1 : Int32)] [.int q4.1] [.int q5.1, .int q4.1] (wk_g_slipsAs_slipsAs KM e_q5) cs_X4_434 KM.recv rfl ⟨by show _ ≤ fr; omega, by show _ ≤ lo; omega⟩ rfl (Nat.le_of_ble_eq_true rfl) rfl dX4_tellsAs_74 ?_
      refine hv_isub dX4_tellsAs_77 ?_
      obtain ⟨h1, h2⟩ := hq_ret h
      subst h1
      subst h2
      exact hv_iret rfl dX4_tellsAs_78
    · replace h := hq_ip c2 h
      refine hv_aload_n 0 dX4_tellsAs_26 rfl rfl ?_
      refine hv_bipush (v := 81) dX4_tellsAs_27 (by decide) ?_
      obtain ⟨s6, e_s6, h⟩ := hq_ob h
      refine hv_callV [.int (81 : Int32)] [] [] (wk_m_begins KM e_s6) cs_X4_419 KM.recv rfl ⟨by show _ ≤ fr; omega, by show _ ≤ lo; omega⟩ rfl (Nat.le_of_ble_eq_true rfl) rfl dX4_tellsAs_29 ?_
      refine hv_aload_n 0 dX4_tellsAs_32 rfl rfl ?_
      refine hv_bipush (v := 6) dX4_tellsAs_33 (by decide) ?_
      refine hv_iload_n 2 dX4_tellsAs_35 rfl rfl ?_
      obtain ⟨q7, e_q7, h⟩ := hq_ob h
      refine hv_callV [.int (6 : Int32), .int p2] [] [.int q7.1] (h_tellsAs _ _ _ _ _ e_q7) cs_X4_437 KM.recv rfl ⟨by show _ ≤ fr; omega, by show _ ≤ lo; omega⟩ rfl (Nat.le_of_ble_eq_true rfl) rfl dX4_tellsAs_36 ?_
      refine hv_istore_n (L' := [(3, .int q7.1), (0, .ref m0), (1, .int p1), (2, .int p2)]) dX4_tellsAs_39 rfl (Nat.le_of_ble_eq_true rfl) rfl ?_
      refine hv_iload_n 0 dX4_tellsAs_40 rfl rfl ?_
      refine hv_aload_n 1 dX4_tellsAs_41 rfl rfl ?_
      refine hv_aload_n 1 dX4_tellsAs_42 rfl rfl ?_
      refine hm_getI (f := 49) KM (fl_X4_431) dX4_tellsAs_43 ?_
      refine hv_iconst (v := 2) dX4_tellsAs_46 (by decide) ?_
      obtain ⟨q8, e_q8, h⟩ := hq_ob h
      refine hv_callV [.int (hm_I q7.2 49), .int (2 : Int32)] [.int q7.1] [.int q8.1, .int q7.1] (wk_g_slipsAs_slipsAs KM e_q8) cs_X4_434 KM.recv rfl ⟨by show _ ≤ fr; omega, by show _ ≤ lo; omega⟩ rfl (Nat.le_of_ble_eq_true rfl) rfl dX4_tellsAs_47 ?_
      refine hv_isub dX4_tellsAs_50 ?_
      obtain ⟨h1, h2⟩ := hq_ret h
      subst h1
      subst h2
      exact hv_iret rfl dX4_tellsAs_51
  · replace h := hq_ip c1 h
    refine hv_aload_n 0 dX4_tellsAs_5 rfl rfl ?_
    refine hv_bipush (v := 50) dX4_tellsAs_6 (by decide) ?_
    obtain ⟨s9, e_s9, h⟩ := hq_ob h
    refine hv_callV [.int (50 : Int32)] [] [] (wk_m_begins KM e_s9) cs_X4_419 KM.recv rfl ⟨by show _ ≤ fr; omega, by show _ ≤ lo; omega⟩ rfl (Nat.le_of_ble_eq_true rfl) rfl dX4_tellsAs_8 ?_
    refine hv_aload_n 0 dX4_tellsAs_11 rfl rfl ?_
    refine hv_iconst (v := 0) dX4_tellsAs_12 (by decide) ?_
    refine hv_iload_n 2 dX4_tellsAs_13 rfl rfl ?_
    obtain ⟨q10, e_q10, h⟩ := hq_ob h
    refine hv_callV [.int (0 : Int32), .int p2] [] [.int q10.1] (h_tellsAs _ _ _ _ _ e_q10) cs_X4_437 KM.recv rfl ⟨by show _ ≤ fr; omega, by show _ ≤ lo; omega⟩ rfl (Nat.le_of_ble_eq_true rfl) rfl dX4_tellsAs_14 ?_
    refine hv_iconst (v := 5) dX4_tellsAs_17 (by decide) ?_
    refine hv_ixor dX4_tellsAs_18 ?_
    obtain ⟨h1, h2⟩ := hq_ret h
    subst h1
    subst h2
    exact hv_iret rfl dX4_tellsAs_19
def g_tellsAs : Nat → Int32 → Int32 → hk_Ms → Option (Int32 × hk_Ms)
  | 0 => fun _ _ _ => none
  | d + 1 => m_tellsAs (g_tellsAs d)
theorem wk_gA_tellsAs {l : Launch} {Gd : hk_G} {m0 : Nat} {st : hk_St} (KM : hk_KM m0 st) : ∀ d : Nat, (∀ (b0 : Int32) (b1 : Int32) (z : hk_Ms) (r : Int32) (z2 : hk_Ms), g_tellsAs d b0 b1 z = some (r, z2) → hk_Met Gd l yX4_tellsAs cX4_tellsAs 4 (some .int) (120 + d) (3000 + 60 * d) [.ref m0, .int b0, .int b1] (hk_mU m0 st z) (some (.int r)) (hk_mU m0 st z2)) := by
  intro d
  induction d with
  | zero => skip; (intros; rename_i h; cases h)
  | succ d ih =>
    exact fun _ _ _ _ _ h => wk_m_tellsAs KM ⟨by omega, by omega, by omega, by omega⟩ ih h
theorem wk_g_tellsAs_tellsAs {l : Launch} {Gd : hk_G} {m0 : Nat} {st : hk_St} (KM : hk_KM m0 st) {b0 : Int32} {b1 : Int32} {z : hk_Ms} {r : Int32} {z2 : hk_Ms} (h : g_tellsAs 4 b0 b1 z = some (r, z2)) : hk_Met Gd l yX4_tellsAs cX4_tellsAs 4 (some .int) 124 3240 [.ref m0, .int b0, .int b1] (hk_mU m0 st z) (some (.int r)) (hk_mU m0 st z2) :=
  (wk_gA_tellsAs KM 4) _ _ _ _ _ h
def m_act (p1 : Int32) (p2 : Int32) (p3 : Int32) (s0 : hk_Ms) : Option (Int32 × hk_Ms) :=
  hk_nm (hm_sI s0 48 (0 : Int32)) fun s1 =>
  (m_isBody p1 s1).bind fun x2 =>
  if x2 = 0 then
    some ((0 : Int32), s1)
  else
  (hm_lI s1 24 50 p1).bind fun x4 =>
    hk_nm (hm_sI s1 49 x4) fun s5 =>
    hk_nm (hm_sI s5 50 p1) fun s6 =>
    if p2 = 0 then
      ((g_costsAs 4) (hm_I s6 49) p3 s6).bind fun q7 =>
      some (q7.1, q7.2)
    else
    if p2 = 1 then
      ((g_keepsAs 4) (hm_I s6 49) p3 s6).bind fun q9 =>
      some (q9.1, q9.2)
    else
    if p2 = 2 then
      ((g_slipsAs 4) (hm_I s6 49) p3 s6).bind fun q11 =>
      some (q11.1, q11.2)
    else
    if p2 = 3 then
      ((g_tellsAs 4) (hm_I s6 49) p3 s6).bind fun q13 =>
      some (q13.1, q13.2)
    else
    some ((0 : Int32), s6)
abbrev N_m_act (l : Launch) : hk_N := (l, cX4_act, "HeadReckonsModel", 4, (some .int), 125, 3263, false)
set_option maxHeartbeats 4000000 in
theorem wk_m_act {l : Launch} {Gd : hk_G} {m0 : Nat} {st : hk_St} (KM : hk_KM m0 st) {p1 : Int32} {p2 : Int32} {p3 : Int32} {s0 : hk_Ms} {r : Int32} {fin : hk_Ms} (h : m_act p1 p2 p3 s0 = some (r, fin)) : hk_Met Gd l yX4_act cX4_act 4 (some .int) 125 3263 [.ref m0, .int p1, .int p2, .int p3] (hk_mU m0 st s0) (some (.int r)) (hk_mU m0 st fin) := by
  refine hk_start "HeadReckonsModel" false (by decide +kernel) rfl (by decide) (Nat.le_of_ble_eq_true rfl) ?_
  show hk_V Gd (N_m_act l) (hk_end Gd (hk_mU m0 st s0) (some (.int r)) (hk_mU m0 st fin)) 0 [(0, .ref m0), (1, .int p1), (2, .int p2), (3, .int p3)] [] (hk_mU m0 st s0)
  unfold m_act at h
  refine hv_aload_n 0 dX4_act_0 rfl rfl ?_
  refine hv_iconst (v := 0) dX4_act_1 (by decide) ?_
  obtain ⟨s1, e_s1, h⟩ := hq_nm h
  refine hm_putI (f := 48) KM (fp_X4_416) e_s1 dX4_act_2 ?_
  refine hv_aload_n 0 dX4_act_5 rfl rfl ?_
  refine hv_iload_n 1 dX4_act_6 rfl rfl ?_
  obtain ⟨x2, e_x2, h⟩ := hq_ob h
  refine hv_callV [.int p1] [] [.int x2] (wk_m_isBody KM e_x2) cs_X4_440 KM.recv rfl ⟨Nat.le_of_ble_eq_true rfl, Nat.le_of_ble_eq_true rfl⟩ rfl (Nat.le_of_ble_eq_true rfl) rfl dX4_act_7 ?_
  refine hv_if_ne (tgt := 15) dX4_act_10 (by decide) (fun c3 => ?_) (fun c3 => ?_)
  · replace h := hq_in c3 h
    refine hv_aload_n 0 dX4_act_15 rfl rfl ?_
    refine hv_aload_n 0 dX4_act_16 rfl rfl ?_
    refine hm_getA (j := 24) KM (fl_X4_82) rfl (Nat.le_of_ble_eq_true rfl) dX4_act_17 ?_
    refine hv_iload_n 1 dX4_act_20 rfl rfl ?_
    obtain ⟨x4, e_x4, h⟩ := hq_ob h
    refine hm_iaload KM e_x4 (Nat.le_of_ble_eq_true rfl) rfl dX4_act_21 ?_
    obtain ⟨s5, e_s5, h⟩ := hq_nm h
    refine hm_putI (f := 49) KM (fp_X4_431) e_s5 dX4_act_22 ?_
    refine hv_aload_n 0 dX4_act_25 rfl rfl ?_
    refine hv_iload_n 1 dX4_act_26 rfl rfl ?_
    obtain ⟨s6, e_s6, h⟩ := hq_nm h
    refine hm_putI (f := 50) KM (fp_X4_425) e_s6 dX4_act_27 ?_
    refine hv_iload_n 2 dX4_act_30 rfl rfl ?_
    by_cases c8 : p2 = 0
    · replace h := hq_ip c8 h
      refine hv_tableIn (tgt := 60) (off := 29) dX4_act_31 (by rw [c8]; decide) (by rw [c8]; decide) (by rw [c8]; rfl) (by decide) ?_
      refine hv_aload_n 0 dX4_act_60 rfl rfl ?_
      refine hv_aload_n 0 dX4_act_61 rfl rfl ?_
      refine hm_getI (f := 49) KM (fl_X4_431) dX4_act_62 ?_
      refine hv_iload_n 3 dX4_act_65 rfl rfl ?_
      obtain ⟨q7, e_q7, h⟩ := hq_ob h
      refine hv_callV [.int (hm_I s6 49), .int p3] [] [.int q7.1] (wk_g_costsAs_costsAs KM e_q7) cs_X4_422 KM.recv rfl ⟨Nat.le_of_ble_eq_true rfl, Nat.le_of_ble_eq_true rfl⟩ rfl (Nat.le_of_ble_eq_true rfl) rfl dX4_act_66 ?_
      obtain ⟨h1, h2⟩ := hq_ret h
      subst h1
      subst h2
      exact hv_iret rfl dX4_act_69
    replace h := hq_in c8 h
    by_cases c10 : p2 = 1
    · replace h := hq_ip c10 h
      refine hv_tableIn (tgt := 70) (off := 39) dX4_act_31 (by rw [c10]; decide) (by rw [c10]; decide) (by rw [c10]; rfl) (by decide) ?_
      refine hv_aload_n 0 dX4_act_70 rfl rfl ?_
      refine hv_aload_n 0 dX4_act_71 rfl rfl ?_
      refine hm_getI (f := 49) KM (fl_X4_431) dX4_act_72 ?_
      refine hv_iload_n 3 dX4_act_75 rfl rfl ?_
      obtain ⟨q9, e_q9, h⟩ := hq_ob h
      refine hv_callV [.int (hm_I s6 49), .int p3] [] [.int q9.1] (wk_g_keepsAs_keepsAs KM e_q9) cs_X4_428 KM.recv rfl ⟨Nat.le_of_ble_eq_true rfl, Nat.le_of_ble_eq_true rfl⟩ rfl (Nat.le_of_ble_eq_true rfl) rfl dX4_act_76 ?_
      obtain ⟨h1, h2⟩ := hq_ret h
      subst h1
      subst h2
      exact hv_iret rfl dX4_act_79
    replace h := hq_in c10 h
    by_cases c12 : p2 = 2
    · replace h := hq_ip c12 h
      refine hv_tableIn (tgt := 80) (off := 49) dX4_act_31 (by rw [c12]; decide) (by rw [c12]; decide) (by rw [c12]; rfl) (by decide) ?_
      refine hv_aload_n 0 dX4_act_80 rfl rfl ?_
      refine hv_aload_n 0 dX4_act_81 rfl rfl ?_
      refine hm_getI (f := 49) KM (fl_X4_431) dX4_act_82 ?_
      refine hv_iload_n 3 dX4_act_85 rfl rfl ?_
      obtain ⟨q11, e_q11, h⟩ := hq_ob h
      refine hv_callV [.int (hm_I s6 49), .int p3] [] [.int q11.1] (wk_g_slipsAs_slipsAs KM e_q11) cs_X4_434 KM.recv rfl ⟨Nat.le_of_ble_eq_true rfl, Nat.le_of_ble_eq_true rfl⟩ rfl (Nat.le_of_ble_eq_true rfl) rfl dX4_act_86 ?_
      obtain ⟨h1, h2⟩ := hq_ret h
      subst h1
      subst h2
      exact hv_iret rfl dX4_act_89
    replace h := hq_in c12 h
    by_cases c14 : p2 = 3
    · replace h := hq_ip c14 h
      refine hv_tableIn (tgt := 90) (off := 59) dX4_act_31 (by rw [c14]; decide) (by rw [c14]; decide) (by rw [c14]; rfl) (by decide) ?_
      refine hv_aload_n 0 dX4_act_90 rfl rfl ?_
      refine hv_aload_n 0 dX4_act_91 rfl rfl ?_
      refine hm_getI (f := 49) KM (fl_X4_431) dX4_act_92 ?_
      refine hv_iload_n 3 dX4_act_95 rfl rfl ?_
      obtain ⟨q13, e_q13, h⟩ := hq_ob h
      refine hv_callV [.int (hm_I s6 49), .int p3] [] [.int q13.1] (wk_g_tellsAs_tellsAs KM e_q13) cs_X4_437 KM.recv rfl ⟨Nat.le_of_ble_eq_true rfl, Nat.le_of_ble_eq_true rfl⟩ rfl (Nat.le_of_ble_eq_true rfl) rfl dX4_act_96 ?_
      obtain ⟨h1, h2⟩ := hq_ret h
      subst h1
      subst h2
      exact hv_iret rfl dX4_act_99
    replace h := hq_in c14 h
    refine hv_tableD (tgt := 100) [0, 1, 2, 3] dX4_act_31 (by decide) (by decide) (List.forall_mem_cons.mpr ⟨lv_neT c8 (by decide), (List.forall_mem_cons.mpr ⟨lv_neT c10 (by decide), (List.forall_mem_cons.mpr ⟨lv_neT c12 (by decide), (List.forall_mem_cons.mpr ⟨lv_neT c14 (by decide), (fun _ q => absurd q List.not_mem_nil)⟩)⟩)⟩)⟩) (by decide) ?_
    refine hv_iconst (v := 0) dX4_act_100 (by decide) ?_
    obtain ⟨h1, h2⟩ := hq_ret h
    subst h1
    subst h2
    exact hv_iret rfl dX4_act_101
  · replace h := hq_ip c3 h
    refine hv_iconst (v := 0) dX4_act_13 (by decide) ?_
    obtain ⟨h1, h2⟩ := hq_ret h
    subst h1
    subst h2
    exact hv_iret rfl dX4_act_14
def m_trace (p1 : Int32) (s0 : hk_Ms) : Option (Int32) :=
  if p1 < 0 then
    some (-1 : Int32)
  else
  if (hm_I s0 48) ≤ p1 then
    some (-1 : Int32)
  else
  if (24 : Int32) ≤ p1 then
    some (-1 : Int32)
  else
  (hm_lI s0 25 24 p1).bind fun x4 =>
  some x4
abbrev N_m_trace (l : Launch) : hk_N := (l, cX4_trace, "HeadReckonsModel", 2, (some .int), 0, 0, false)
set_option maxHeartbeats 4000000 in
theorem wk_m_trace {l : Launch} {Gd : hk_G} {m0 : Nat} {st : hk_St} (KM : hk_KM m0 st) {p1 : Int32} {s0 : hk_Ms} {r : Int32} (h : m_trace p1 s0 = some r) : hk_Met Gd l yX4_trace cX4_trace 2 (some .int) 0 0 [.ref m0, .int p1] (hk_mU m0 st s0) (some (.int r)) (hk_mU m0 st s0) := by
  refine hk_start "HeadReckonsModel" false (by decide +kernel) rfl (by decide) (Nat.le_of_ble_eq_true rfl) ?_
  show hk_V Gd (N_m_trace l) (hk_end Gd (hk_mU m0 st s0) (some (.int r)) (hk_mU m0 st s0)) 0 [(0, .ref m0), (1, .int p1)] [] (hk_mU m0 st s0)
  unfold m_trace at h
  refine hv_iload_n 1 dX4_trace_0 rfl rfl ?_
  refine hv_if_lt (tgt := 27) dX4_trace_1 (by decide) (fun c1 => ?_) (fun c1 => ?_)
  · replace h := hq_ip c1 h
    refine hv_iconst (v := -1) dX4_trace_27 (by decide) ?_
    have h := Option.some.inj h
    subst h
    exact hv_iret rfl dX4_trace_28
  · replace h := hq_in c1 h
    refine hv_iload_n 1 dX4_trace_4 rfl rfl ?_
    refine hv_aload_n 0 dX4_trace_5 rfl rfl ?_
    refine hm_getI (f := 48) KM (fl_X4_416) dX4_trace_6 ?_
    refine hv_icmp_ge (tgt := 27) dX4_trace_9 (by decide) (fun c2 => ?_) (fun c2 => ?_)
    · replace h := hq_ip c2 h
      refine hv_iconst (v := -1) dX4_trace_27 (by decide) ?_
      have h := Option.some.inj h
      subst h
      exact hv_iret rfl dX4_trace_28
    · replace h := hq_in c2 h
      refine hv_iload_n 1 dX4_trace_12 rfl rfl ?_
      refine hv_bipush (v := 24) dX4_trace_13 (by decide) ?_
      refine hv_icmp_ge (tgt := 27) dX4_trace_15 (by decide) (fun c3 => ?_) (fun c3 => ?_)
      · replace h := hq_ip c3 h
        refine hv_iconst (v := -1) dX4_trace_27 (by decide) ?_
        have h := Option.some.inj h
        subst h
        exact hv_iret rfl dX4_trace_28
      · replace h := hq_in c3 h
        refine hv_aload_n 0 dX4_trace_18 rfl rfl ?_
        refine hm_getA (j := 25) KM (fl_X4_85) rfl (Nat.le_of_ble_eq_true rfl) dX4_trace_19 ?_
        refine hv_iload_n 1 dX4_trace_22 rfl rfl ?_
        obtain ⟨x4, e_x4, h⟩ := hq_ob h
        refine hm_iaload KM e_x4 (Nat.le_of_ble_eq_true rfl) rfl dX4_trace_23 ?_
        refine hv_goto (tgt := 28) dX4_trace_24 (by decide) ?_
        have h := Option.some.inj h
        subst h
        exact hv_iret rfl dX4_trace_28
def m_keep (p1 : Int32) (p2 : Int32) (s0 : hk_Ms) : Option (Int32 × hk_Ms) :=
  hk_nm (fun (s1 : hk_Ms) =>
    (hm_tI s1 26 6 p1 p2).bind fun s2 =>
    (hm_tI s2 27 6 p1 (0 : Int32)).bind fun s3 =>
    some ((1 : Int32), s3)) fun k22 =>
  if (m_isShelf p1) = 0 then
    some ((-1 : Int32), s0)
  else
  if p2 = (-1 : Int32) then
    k22 s0
  else
  (m_isBody p2 s0).bind fun x6 =>
  if x6 = 0 then
    some ((-1 : Int32), s0)
  else
  k22 s0
abbrev N_m_keep (l : Launch) : hk_N := (l, cX4_keep, "HeadReckonsModel", 3, (some .int), 2, 46, false)
set_option maxHeartbeats 4000000 in
theorem wk_m_keep {l : Launch} {Gd : hk_G} {m0 : Nat} {st : hk_St} (KM : hk_KM m0 st) {p1 : Int32} {p2 : Int32} {s0 : hk_Ms} {r : Int32} {fin : hk_Ms} (h : m_keep p1 p2 s0 = some (r, fin)) : hk_Met Gd l yX4_keep cX4_keep 3 (some .int) 2 46 [.ref m0, .int p1, .int p2] (hk_mU m0 st s0) (some (.int r)) (hk_mU m0 st fin) := by
  refine hk_start "HeadReckonsModel" false (by decide +kernel) rfl (by decide) (Nat.le_of_ble_eq_true rfl) ?_
  show hk_V Gd (N_m_keep l) (hk_end Gd (hk_mU m0 st s0) (some (.int r)) (hk_mU m0 st fin)) 0 [(0, .ref m0), (1, .int p1), (2, .int p2)] [] (hk_mU m0 st s0)
  unfold m_keep at h
  obtain ⟨k22, e_k22, h⟩ := hq_nm h
  have wk22 : ∀ (s1 : hk_Ms), k22 s1 = some (r, fin) → hk_V Gd (N_m_keep l) (hk_end Gd (hk_mU m0 st s0) (some (.int r)) (hk_mU m0 st fin)) 22 [(0, .ref m0), (1, .int p1), (2, .int p2)] [] (hk_mU m0 st s1) := by
    intro s1 h
    rw [e_k22] at h
    refine hv_aload_n 0 dX4_keep_22 rfl rfl ?_
    refine hm_getA (j := 26) KM (fl_X4_88) rfl (Nat.le_of_ble_eq_true rfl) dX4_keep_23 ?_
    refine hv_iload_n 1 dX4_keep_26 rfl rfl ?_
    refine hv_iload_n 2 dX4_keep_27 rfl rfl ?_
    obtain ⟨s2, e_s2, h⟩ := hq_ob h
    refine hm_iastore KM e_s2 (Nat.le_of_ble_eq_true rfl) rfl dX4_keep_28 ?_
    refine hv_aload_n 0 dX4_keep_29 rfl rfl ?_
    refine hm_getA (j := 27) KM (fl_X4_91) rfl (Nat.le_of_ble_eq_true rfl) dX4_keep_30 ?_
    refine hv_iload_n 1 dX4_keep_33 rfl rfl ?_
    refine hv_iconst (v := 0) dX4_keep_34 (by decide) ?_
    obtain ⟨s3, e_s3, h⟩ := hq_ob h
    refine hm_iastore KM e_s3 (Nat.le_of_ble_eq_true rfl) rfl dX4_keep_35 ?_
    refine hv_iconst (v := 1) dX4_keep_36 (by decide) ?_
    obtain ⟨h1, h2⟩ := hq_ret h
    subst h1
    subst h2
    exact hv_iret rfl dX4_keep_37
  clear e_k22
  refine hv_iload_n 1 dX4_keep_0 rfl rfl ?_
  refine hv_callS [.int p1] [] [.int (m_isShelf p1)] (wk_m_isShelf rfl) cs_X4_309 rfl ⟨Nat.le_of_ble_eq_true rfl, Nat.le_of_ble_eq_true rfl⟩ rfl (Nat.le_of_ble_eq_true rfl) rfl dX4_keep_1 ?_
  refine hv_if_eq (tgt := 20) dX4_keep_4 (by decide) (fun c4 => ?_) (fun c4 => ?_)
  · replace h := hq_ip c4 h
    refine hv_iconst (v := -1) dX4_keep_20 (by decide) ?_
    obtain ⟨h1, h2⟩ := hq_ret h
    subst h1
    subst h2
    exact hv_iret rfl dX4_keep_21
  · replace h := hq_in c4 h
    refine hv_iload_n 2 dX4_keep_7 rfl rfl ?_
    refine hv_iconst (v := -1) dX4_keep_8 (by decide) ?_
    refine hv_icmp_eq (tgt := 22) dX4_keep_9 (by decide) (fun c5 => ?_) (fun c5 => ?_)
    · replace h := hq_ip c5 h
      exact wk22 _ h
    · replace h := hq_in c5 h
      refine hv_aload_n 0 dX4_keep_12 rfl rfl ?_
      refine hv_iload_n 2 dX4_keep_13 rfl rfl ?_
      obtain ⟨x6, e_x6, h⟩ := hq_ob h
      refine hv_callV [.int p2] [] [.int x6] (wk_m_isBody KM e_x6) cs_X4_440 KM.recv rfl ⟨Nat.le_of_ble_eq_true rfl, Nat.le_of_ble_eq_true rfl⟩ rfl (Nat.le_of_ble_eq_true rfl) rfl dX4_keep_14 ?_
      refine hv_if_ne (tgt := 22) dX4_keep_17 (by decide) (fun c7 => ?_) (fun c7 => ?_)
      · replace h := hq_in c7 h
        exact wk22 _ h
      · replace h := hq_ip c7 h
        refine hv_iconst (v := -1) dX4_keep_20 (by decide) ?_
        obtain ⟨h1, h2⟩ := hq_ret h
        subst h1
        subst h2
        exact hv_iret rfl dX4_keep_21
def m_row_L57b (p1 : Int32) (p2 : Int32) (p3 : Int32) (e0 : hk_Ms → Option (Int32 × hk_Ms)) (rc : Int32 → hk_Ms → Option (Int32 × hk_Ms)) (v8 : Int32) (s9 : hk_Ms) : Option (Int32 × hk_Ms) :=
  if (((60 : Int32) * p1) + (60 : Int32)) ≤ v8 then
    e0 s9
  else
  (hm_tL s9 28 360 v8 (0 : Int64)).bind fun s12 =>
  hk_nm (v8 + (1 : Int32)) fun x13 =>
  rc x13 s12
def m_row_L57 (p1 : Int32) (p2 : Int32) (p3 : Int32) (e0 : hk_Ms → Option (Int32 × hk_Ms)) : Nat → Int32 → hk_Ms → Option (Int32 × hk_Ms)
  | 0 => fun _ _ => none
  | n + 1 => m_row_L57b p1 p2 p3 e0 (m_row_L57 p1 p2 p3 e0 n)
def m_row (p1 : Int32) (p2 : Int32) (p3 : Int32) (s0 : hk_Ms) : Option (Int32 × hk_Ms) :=
  if (m_isShelf p1) = 0 then
    some ((-1 : Int32), s0)
  else
  if (m_within p2.toInt64 (0 : Int64) (4 : Int64)) = 0 then
    some ((-1 : Int32), s0)
  else
  if p3 ≤ (60 : Int32) then
    if 0 ≤ p3 then
      (hm_tI s0 26 6 p1 ((50 : Int32) + p2)).bind fun s5 =>
      (hm_tI s5 27 6 p1 p3).bind fun s6 =>
      hk_nm ((60 : Int32) * p1) fun x7 =>
      m_row_L57 p1 p2 p3  (fun (s10 : hk_Ms) =>
        some ((1 : Int32), s10)) hk_F x7 s6
    else
    some ((-14 : Int32), s0)
  else
  some ((-1 : Int32), s0)
abbrev N_m_row (l : Launch) : hk_N := (l, cX4_row, "HeadReckonsModel", 5, (some .int), 2, 45, false)
set_option maxHeartbeats 4000000 in
theorem wk_m_row_L57b {l : Launch} {Gd : hk_G} {m0 : Nat} {st : hk_St} (KM : hk_KM m0 st) {p1 : Int32} {p2 : Int32} {p3 : Int32} {s0 : hk_Ms} {r : Int32} {fin : hk_Ms} {e0 : hk_Ms → Option (Int32 × hk_Ms)} {rc : Int32 → hk_Ms → Option (Int32 × hk_Ms)} (hrc : ∀ (v8 : Int32) (s9 : hk_Ms), rc v8 s9 = some (r, fin) → hk_V Gd (N_m_row l) (hk_end Gd (hk_mU m0 st s0) (some (.int r)) (hk_mU m0 st fin)) 57 [(0, .ref m0), (1, .int p1), (4, .int v8)] [] (hk_mU m0 st s9)) (he0 : ∀ (s10 : hk_Ms), e0 s10 = some (r, fin) → hk_V Gd (N_m_row l) (hk_end Gd (hk_mU m0 st s0) (some (.int r)) (hk_mU m0 st fin)) 83 [] [] (hk_mU m0 st s10)) {v8 : Int32} {s9 : hk_Ms} (h : m_row_L57b p1 p2 p3 e0 rc v8 s9 = some (r, fin)) : hk_V Gd (N_m_row l) (hk_end Gd (hk_mU m0 st s0) (some (.int r)) (hk_mU m0 st fin)) 57 [(0, .ref m0), (1, .int p1), (4, .int v8)] [] (hk_mU m0 st s9) := by
  unfold m_row_L57b at h
  refine hv_iload 2 dX4_row_57 rfl ?_
  refine hv_bipush (v := 60) dX4_row_59 (by decide) ?_
  refine hv_iload_n 1 dX4_row_61 rfl rfl ?_
  refine hv_imul dX4_row_62 ?_
  refine hv_bipush (v := 60) dX4_row_63 (by decide) ?_
  refine hv_iadd dX4_row_65 ?_
  refine hv_icmp_ge (tgt := 83) dX4_row_66 (by decide) (fun c11 => ?_) (fun c11 => ?_)
  · replace h := hq_ip c11 h
    refine hv_sub [] rfl ?_
    exact he0 _ h
  · replace h := hq_in c11 h
    refine hv_aload_n 0 dX4_row_69 rfl rfl ?_
    refine hm_getA (j := 28) KM (fl_X4_94) rfl (Nat.le_of_ble_eq_true rfl) dX4_row_70 ?_
    refine hv_iload 2 dX4_row_73 rfl ?_
    refine hv_lconst (v := 0) dX4_row_75 (by decide) ?_
    obtain ⟨s12, e_s12, h⟩ := hq_ob h
    refine hm_lastore KM e_s12 ⟨Nat.le_of_ble_eq_true rfl, Nat.le_of_ble_eq_true rfl⟩ rfl dX4_row_76 ?_
    obtain ⟨x13, e_x13, h⟩ := hq_nm h
    refine hv_iinc (v := x13) (L' := [(4, .int x13), (0, .ref m0), (1, .int p1)]) 2 dX4_row_77 rfl (by rw [e_x13]; rfl) (Nat.le_of_ble_eq_true rfl) rfl ?_
    refine hv_goto (tgt := 57) dX4_row_80 (by decide) ?_
    refine hv_sub [1, 2, 0] rfl ?_
    exact hrc _ _ h
theorem wk_m_row_L57 {l : Launch} {Gd : hk_G} {m0 : Nat} {st : hk_St} (KM : hk_KM m0 st) {p1 : Int32} {p2 : Int32} {p3 : Int32} {s0 : hk_Ms} {r : Int32} {fin : hk_Ms} {e0 : hk_Ms → Option (Int32 × hk_Ms)} (he0 : ∀ (s10 : hk_Ms), e0 s10 = some (r, fin) → hk_V Gd (N_m_row l) (hk_end Gd (hk_mU m0 st s0) (some (.int r)) (hk_mU m0 st fin)) 83 [] [] (hk_mU m0 st s10)) : ∀ (n : Nat) (v8 : Int32) (s9 : hk_Ms), m_row_L57 p1 p2 p3 e0 n v8 s9 = some (r, fin) → hk_V Gd (N_m_row l) (hk_end Gd (hk_mU m0 st s0) (some (.int r)) (hk_mU m0 st fin)) 57 [(0, .ref m0), (1, .int p1), (4, .int v8)] [] (hk_mU m0 st s9) := by
  intro n
  induction n with
  | zero => intro v8 s9 h; cases h
  | succ n ih => intro v8 s9 h; exact wk_m_row_L57b KM ih he0 h
set_option maxHeartbeats 4000000 in
theorem wk_m_row {l : Launch} {Gd : hk_G} {m0 : Nat} {st : hk_St} (KM : hk_KM m0 st) {p1 : Int32} {p2 : Int32} {p3 : Int32} {s0 : hk_Ms} {r : Int32} {fin : hk_Ms} (h : m_row p1 p2 p3 s0 = some (r, fin)) : hk_Met Gd l yX4_row cX4_row 5 (some .int) 2 45 [.ref m0, .int p1, .int p2, .int p3] (hk_mU m0 st s0) (some (.int r)) (hk_mU m0 st fin) := by
  refine hk_start "HeadReckonsModel" false (by decide +kernel) rfl (by decide) (Nat.le_of_ble_eq_true rfl) ?_
  show hk_V Gd (N_m_row l) (hk_end Gd (hk_mU m0 st s0) (some (.int r)) (hk_mU m0 st fin)) 0 [(0, .ref m0), (1, .int p1), (2, .int p2), (3, .int p3)] [] (hk_mU m0 st s0)
  unfold m_row at h
  refine hv_iload_n 1 dX4_row_0 rfl rfl ?_
  refine hv_callS [.int p1] [] [.int (m_isShelf p1)] (wk_m_isShelf rfl) cs_X4_309 rfl ⟨Nat.le_of_ble_eq_true rfl, Nat.le_of_ble_eq_true rfl⟩ rfl (Nat.le_of_ble_eq_true rfl) rfl dX4_row_1 ?_
  refine hv_if_eq (tgt := 25) dX4_row_4 (by decide) (fun c1 => ?_) (fun c1 => ?_)
  · replace h := hq_ip c1 h
    refine hv_iconst (v := -1) dX4_row_25 (by decide) ?_
    obtain ⟨h1, h2⟩ := hq_ret h
    subst h1
    subst h2
    exact hv_iret rfl dX4_row_26
  · replace h := hq_in c1 h
    refine hv_iload_n 2 dX4_row_7 rfl rfl ?_
    refine hv_i2l dX4_row_8 ?_
    refine hv_lconst (v := 0) dX4_row_9 (by decide) ?_
    refine hv_ldc2 q1781 dX4_row_10 ?_
    refine hv_callS [.long p2.toInt64, .long (0 : Int64), .long (4 : Int64)] [] [.int (m_within p2.toInt64 (0 : Int64) (4 : Int64))] (wk_m_within rfl) cs_X4_113 rfl ⟨Nat.le_of_ble_eq_true rfl, Nat.le_of_ble_eq_true rfl⟩ rfl (Nat.le_of_ble_eq_true rfl) rfl dX4_row_13 ?_
    refine hv_if_eq (tgt := 25) dX4_row_16 (by decide) (fun c2 => ?_) (fun c2 => ?_)
    · replace h := hq_ip c2 h
      refine hv_iconst (v := -1) dX4_row_25 (by decide) ?_
      obtain ⟨h1, h2⟩ := hq_ret h
      subst h1
      subst h2
      exact hv_iret rfl dX4_row_26
    · replace h := hq_in c2 h
      refine hv_iload_n 3 dX4_row_19 rfl rfl ?_
      refine hv_bipush (v := 60) dX4_row_20 (by decide) ?_
      refine hv_icmp_le (tgt := 27) dX4_row_22 (by decide) (fun c3 => ?_) (fun c3 => ?_)
      · replace h := hq_ip c3 h
        refine hv_iload_n 3 dX4_row_27 rfl rfl ?_
        refine hv_if_ge (tgt := 34) dX4_row_28 (by decide) (fun c4 => ?_) (fun c4 => ?_)
        · replace h := hq_ip c4 h
          refine hv_aload_n 0 dX4_row_34 rfl rfl ?_
          refine hm_getA (j := 26) KM (fl_X4_88) rfl (Nat.le_of_ble_eq_true rfl) dX4_row_35 ?_
          refine hv_iload_n 1 dX4_row_38 rfl rfl ?_
          refine hv_bipush (v := 50) dX4_row_39 (by decide) ?_
          refine hv_iload_n 2 dX4_row_41 rfl rfl ?_
          refine hv_iadd dX4_row_42 ?_
          obtain ⟨s5, e_s5, h⟩ := hq_ob h
          refine hm_iastore KM e_s5 (Nat.le_of_ble_eq_true rfl) rfl dX4_row_43 ?_
          refine hv_aload_n 0 dX4_row_44 rfl rfl ?_
          refine hm_getA (j := 27) KM (fl_X4_91) rfl (Nat.le_of_ble_eq_true rfl) dX4_row_45 ?_
          refine hv_iload_n 1 dX4_row_48 rfl rfl ?_
          refine hv_iload_n 3 dX4_row_49 rfl rfl ?_
          obtain ⟨s6, e_s6, h⟩ := hq_ob h
          refine hm_iastore KM e_s6 (Nat.le_of_ble_eq_true rfl) rfl dX4_row_50 ?_
          refine hv_bipush (v := 60) dX4_row_51 (by decide) ?_
          refine hv_iload_n 1 dX4_row_53 rfl rfl ?_
          refine hv_imul dX4_row_54 ?_
          obtain ⟨x7, e_x7, h⟩ := hq_nm h
          rw [← e_x7]
          refine hv_istore (L' := [(4, .int x7), (0, .ref m0), (1, .int p1), (2, .int p2), (3, .int p3)]) dX4_row_55 (Nat.le_of_ble_eq_true rfl) rfl ?_
          refine hv_sub [1, 2, 0] rfl ?_
          refine wk_m_row_L57 KM ?_ hk_F _ _ h
          · intro s10 h
            refine hv_iconst (v := 1) dX4_row_83 (by decide) ?_
            obtain ⟨h1, h2⟩ := hq_ret h
            subst h1
            subst h2
            exact hv_iret rfl dX4_row_84
        · replace h := hq_in c4 h
          refine hv_bipush (v := -14) dX4_row_31 (by decide) ?_
          obtain ⟨h1, h2⟩ := hq_ret h
          subst h1
          subst h2
          exact hv_iret rfl dX4_row_33
      · replace h := hq_in c3 h
        refine hv_iconst (v := -1) dX4_row_25 (by decide) ?_
        obtain ⟨h1, h2⟩ := hq_ret h
        subst h1
        subst h2
        exact hv_iret rfl dX4_row_26
def m_refusal (p1 : Int32) (p2 : Int32) (s0 : hk_Ms) : Option (Int32) :=
  if (m_isShelf p1) = 0 then
    some (-1 : Int32)
  else
  (hm_lI s0 26 6 p1).bind fun x2 =>
    if 0 ≤ x2 then
      (hm_lI s0 26 6 p1).bind fun x4 =>
      if (50 : Int32) ≤ x4 then
        if p2 < 0 then
          some (-13 : Int32)
        else
        (hm_lI s0 27 6 p1).bind fun x7 =>
        if x7 ≤ p2 then
          some (-13 : Int32)
        else
        some (0 : Int32)
      else
      some (-12 : Int32)
    else
    some (-11 : Int32)
abbrev N_m_refusal (l : Launch) : hk_N := (l, cX4_refusal, "HeadReckonsModel", 3, (some .int), 2, 45, false)
set_option maxHeartbeats 4000000 in
theorem wk_m_refusal {l : Launch} {Gd : hk_G} {m0 : Nat} {st : hk_St} (KM : hk_KM m0 st) {p1 : Int32} {p2 : Int32} {s0 : hk_Ms} {r : Int32} (h : m_refusal p1 p2 s0 = some r) : hk_Met Gd l yX4_refusal cX4_refusal 3 (some .int) 2 45 [.ref m0, .int p1, .int p2] (hk_mU m0 st s0) (some (.int r)) (hk_mU m0 st s0) := by
  refine hk_start "HeadReckonsModel" false (by decide +kernel) rfl (by decide) (Nat.le_of_ble_eq_true rfl) ?_
  show hk_V Gd (N_m_refusal l) (hk_end Gd (hk_mU m0 st s0) (some (.int r)) (hk_mU m0 st s0)) 0 [(0, .ref m0), (1, .int p1), (2, .int p2)] [] (hk_mU m0 st s0)
  unfold m_refusal at h
  refine hv_iload_n 1 dX4_refusal_0 rfl rfl ?_
  refine hv_callS [.int p1] [] [.int (m_isShelf p1)] (wk_m_isShelf rfl) cs_X4_309 rfl ⟨Nat.le_of_ble_eq_true rfl, Nat.le_of_ble_eq_true rfl⟩ rfl (Nat.le_of_ble_eq_true rfl) rfl dX4_refusal_1 ?_
  refine hv_if_ne (tgt := 9) dX4_refusal_4 (by decide) (fun c1 => ?_) (fun c1 => ?_)
  · replace h := hq_in c1 h
    refine hv_aload_n 0 dX4_refusal_9 rfl rfl ?_
    refine hm_getA (j := 26) KM (fl_X4_88) rfl (Nat.le_of_ble_eq_true rfl) dX4_refusal_10 ?_
    refine hv_iload_n 1 dX4_refusal_13 rfl rfl ?_
    obtain ⟨x2, e_x2, h⟩ := hq_ob h
    refine hm_iaload KM e_x2 (Nat.le_of_ble_eq_true rfl) rfl dX4_refusal_14 ?_
    refine hv_if_ge (tgt := 21) dX4_refusal_15 (by decide) (fun c3 => ?_) (fun c3 => ?_)
    · replace h := hq_ip c3 h
      refine hv_aload_n 0 dX4_refusal_21 rfl rfl ?_
      refine hm_getA (j := 26) KM (fl_X4_88) rfl (Nat.le_of_ble_eq_true rfl) dX4_refusal_22 ?_
      refine hv_iload_n 1 dX4_refusal_25 rfl rfl ?_
      obtain ⟨x4, e_x4, h⟩ := hq_ob h
      refine hm_iaload KM e_x4 (Nat.le_of_ble_eq_true rfl) rfl dX4_refusal_26 ?_
      refine hv_bipush (v := 50) dX4_refusal_27 (by decide) ?_
      refine hv_icmp_ge (tgt := 35) dX4_refusal_29 (by decide) (fun c5 => ?_) (fun c5 => ?_)
      · replace h := hq_ip c5 h
        refine hv_iload_n 2 dX4_refusal_35 rfl rfl ?_
        refine hv_if_lt (tgt := 53) dX4_refusal_36 (by decide) (fun c6 => ?_) (fun c6 => ?_)
        · replace h := hq_ip c6 h
          refine hv_bipush (v := -13) dX4_refusal_53 (by decide) ?_
          have h := Option.some.inj h
          subst h
          exact hv_iret rfl dX4_refusal_55
        · replace h := hq_in c6 h
          refine hv_iload_n 2 dX4_refusal_39 rfl rfl ?_
          refine hv_aload_n 0 dX4_refusal_40 rfl rfl ?_
          refine hm_getA (j := 27) KM (fl_X4_91) rfl (Nat.le_of_ble_eq_true rfl) dX4_refusal_41 ?_
          refine hv_iload_n 1 dX4_refusal_44 rfl rfl ?_
          obtain ⟨x7, e_x7, h⟩ := hq_ob h
          refine hm_iaload KM e_x7 (Nat.le_of_ble_eq_true rfl) rfl dX4_refusal_45 ?_
          refine hv_icmp_ge (tgt := 53) dX4_refusal_46 (by decide) (fun c8 => ?_) (fun c8 => ?_)
          · replace h := hq_ip c8 h
            refine hv_bipush (v := -13) dX4_refusal_53 (by decide) ?_
            have h := Option.some.inj h
            subst h
            exact hv_iret rfl dX4_refusal_55
          · replace h := hq_in c8 h
            refine hv_iconst (v := 0) dX4_refusal_49 (by decide) ?_
            refine hv_goto (tgt := 55) dX4_refusal_50 (by decide) ?_
            have h := Option.some.inj h
            subst h
            exact hv_iret rfl dX4_refusal_55
      · replace h := hq_in c5 h
        refine hv_bipush (v := -12) dX4_refusal_32 (by decide) ?_
        have h := Option.some.inj h
        subst h
        exact hv_iret rfl dX4_refusal_34
    · replace h := hq_in c3 h
      refine hv_bipush (v := -11) dX4_refusal_18 (by decide) ?_
      have h := Option.some.inj h
      subst h
      exact hv_iret rfl dX4_refusal_20
  · replace h := hq_ip c1 h
    refine hv_iconst (v := -1) dX4_refusal_7 (by decide) ?_
    have h := Option.some.inj h
    subst h
    exact hv_iret rfl dX4_refusal_8
def m_asSort (p1 : Int32) (p2 : Int64) : Int64 :=
  if p1 = 0 then
    p2.toInt32.toInt8.toInt32.toInt64
  else
  if p1 = (1 : Int32) then
      p2.toInt32.toInt16.toInt32.toInt64
    else
    if p1 = (2 : Int32) then
        p2.toInt32.toInt64
      else
      if p1 = (4 : Int32) then
          if p2 = (0 : Int64) then
          (0 : Int64)
        else
        (1 : Int64)
        else
        p2
abbrev N_m_asSort (l : Launch) : hk_N := (l, cX4_asSort, "HeadReckonsModel", 3, (some .long), 0, 0, false)
set_option maxHeartbeats 4000000 in
theorem wk_m_asSort {l : Launch} {Gd : hk_G} {st : hk_St} {p1 : Int32} {p2 : Int64} {r : Int64} (h : m_asSort p1 p2 = r) : hk_Met Gd l yX4_asSort cX4_asSort 3 (some .long) 0 0 [.int p1, .long p2] st (some (.long r)) st := by
  refine hk_start "HeadReckonsModel" false (by decide +kernel) rfl (by decide) (Nat.le_of_ble_eq_true rfl) ?_
  show hk_V Gd (N_m_asSort l) (hk_end Gd st (some (.long r)) st) 0 [(0, .int p1), (1, .long p2)] [] st
  unfold m_asSort at h
  refine hv_iload_n 0 dX4_asSort_0 rfl rfl ?_
  refine hv_if_ne (tgt := 11) dX4_asSort_1 (by decide) (fun c1 => ?_) (fun c1 => ?_)
  · replace h := hq_in c1 h
    refine hv_iload_n 0 dX4_asSort_11 rfl rfl ?_
    refine hv_iconst (v := 1) dX4_asSort_12 (by decide) ?_
    refine hv_icmp_ne (tgt := 23) dX4_asSort_13 (by decide) (fun c2 => ?_) (fun c2 => ?_)
    · replace h := hq_in c2 h
      refine hv_iload_n 0 dX4_asSort_23 rfl rfl ?_
      refine hv_iconst (v := 2) dX4_asSort_24 (by decide) ?_
      refine hv_icmp_ne (tgt := 34) dX4_asSort_25 (by decide) (fun c3 => ?_) (fun c3 => ?_)
      · replace h := hq_in c3 h
        refine hv_iload_n 0 dX4_asSort_34 rfl rfl ?_
        refine hv_iconst (v := 4) dX4_asSort_35 (by decide) ?_
        refine hv_icmp_ne (tgt := 53) dX4_asSort_36 (by decide) (fun c4 => ?_) (fun c4 => ?_)
        · replace h := hq_in c4 h
          refine hv_lload_n 1 dX4_asSort_53 rfl rfl ?_
          subst h
          exact hv_lret rfl dX4_asSort_54
        · replace h := hq_ip c4 h
          refine hv_lload_n 1 dX4_asSort_39 rfl rfl ?_
          refine hv_lconst (v := 0) dX4_asSort_40 (by decide) ?_
          refine hv_lcmp_eq (tgt := 49) dX4_asSort_41 dX4_asSort_42 (by decide) (fun c5 => ?_) (fun c5 => ?_)
          · replace h := hq_ip c5 h
            refine hv_lconst (v := 0) dX4_asSort_49 (by decide) ?_
            refine hv_goto (tgt := 54) dX4_asSort_50 (by decide) ?_
            subst h
            exact hv_lret rfl dX4_asSort_54
          · replace h := hq_in c5 h
            refine hv_lconst (v := 1) dX4_asSort_45 (by decide) ?_
            refine hv_goto (tgt := 54) dX4_asSort_46 (by decide) ?_
            subst h
            exact hv_lret rfl dX4_asSort_54
      · replace h := hq_ip c3 h
        refine hv_lload_n 1 dX4_asSort_28 rfl rfl ?_
        refine hv_l2i dX4_asSort_29 ?_
        refine hv_i2l dX4_asSort_30 ?_
        refine hv_goto (tgt := 54) dX4_asSort_31 (by decide) ?_
        subst h
        exact hv_lret rfl dX4_asSort_54
    · replace h := hq_ip c2 h
      refine hv_lload_n 1 dX4_asSort_16 rfl rfl ?_
      refine hv_l2i dX4_asSort_17 ?_
      refine hv_i2s dX4_asSort_18 ?_
      refine hv_i2l dX4_asSort_19 ?_
      refine hv_goto (tgt := 54) dX4_asSort_20 (by decide) ?_
      subst h
      exact hv_lret rfl dX4_asSort_54
  · replace h := hq_ip c1 h
    refine hv_lload_n 1 dX4_asSort_4 rfl rfl ?_
    refine hv_l2i dX4_asSort_5 ?_
    refine hv_i2b dX4_asSort_6 ?_
    refine hv_i2l dX4_asSort_7 ?_
    refine hv_goto (tgt := 54) dX4_asSort_8 (by decide) ?_
    subst h
    exact hv_lret rfl dX4_asSort_54
def m_put (p1 : Int32) (p2 : Int32) (p3 : Int64) (s0 : hk_Ms) : Option (Int32 × hk_Ms) :=
  hk_nm (fun (v1 : Int32) (s2 : hk_Ms) =>
    if v1 = 0 then
      some ((1 : Int32), s2)
    else
    some (v1, s2)) fun k37 =>
  (m_refusal p1 p2 s0).bind fun x4 =>
  if x4 = 0 then
    (hm_lI s0 26 6 p1).bind fun x6 =>
  (hm_tL s0 28 360 (((60 : Int32) * p1) + p2) (m_asSort (x6 - (50 : Int32)) p3)).bind fun s7 =>
  k37 x4 s7
  else
  k37 x4 s0
abbrev N_m_put (l : Launch) : hk_N := (l, cX4_put, "HeadReckonsModel", 6, (some .int), 3, 67, false)
set_option maxHeartbeats 4000000 in
theorem wk_m_put {l : Launch} {Gd : hk_G} {m0 : Nat} {st : hk_St} (KM : hk_KM m0 st) {p1 : Int32} {p2 : Int32} {p3 : Int64} {s0 : hk_Ms} {r : Int32} {fin : hk_Ms} (h : m_put p1 p2 p3 s0 = some (r, fin)) : hk_Met Gd l yX4_put cX4_put 6 (some .int) 3 67 [.ref m0, .int p1, .int p2, .long p3] (hk_mU m0 st s0) (some (.int r)) (hk_mU m0 st fin) := by
  refine hk_start "HeadReckonsModel" false (by decide +kernel) rfl (by decide) (Nat.le_of_ble_eq_true rfl) ?_
  show hk_V Gd (N_m_put l) (hk_end Gd (hk_mU m0 st s0) (some (.int r)) (hk_mU m0 st fin)) 0 [(0, .ref m0), (1, .int p1), (2, .int p2), (3, .long p3)] [] (hk_mU m0 st s0)
  unfold m_put at h
  obtain ⟨k37, e_k37, h⟩ := hq_nm h
  have wk37 : ∀ (v1 : Int32) (s2 : hk_Ms), k37 v1 s2 = some (r, fin) → hk_V Gd (N_m_put l) (hk_end Gd (hk_mU m0 st s0) (some (.int r)) (hk_mU m0 st fin)) 37 [(5, .int v1)] [] (hk_mU m0 st s2) := by
    intro v1 s2 h
    rw [e_k37] at h
    refine hv_iload 0 dX4_put_37 rfl ?_
    refine hv_if_ne (tgt := 46) dX4_put_39 (by decide) (fun c3 => ?_) (fun c3 => ?_)
    · replace h := hq_in c3 h
      refine hv_iload 0 dX4_put_46 rfl ?_
      obtain ⟨h1, h2⟩ := hq_ret h
      subst h1
      subst h2
      exact hv_iret rfl dX4_put_48
    · replace h := hq_ip c3 h
      refine hv_iconst (v := 1) dX4_put_42 (by decide) ?_
      refine hv_goto (tgt := 48) dX4_put_43 (by decide) ?_
      obtain ⟨h1, h2⟩ := hq_ret h
      subst h1
      subst h2
      exact hv_iret rfl dX4_put_48
  clear e_k37
  refine hv_aload_n 0 dX4_put_0 rfl rfl ?_
  refine hv_iload_n 1 dX4_put_1 rfl rfl ?_
  refine hv_iload_n 2 dX4_put_2 rfl rfl ?_
  obtain ⟨x4, e_x4, h⟩ := hq_ob h
  refine hv_callV [.int p1, .int p2] [] [.int x4] (wk_m_refusal KM e_x4) cs_X4_445 KM.recv rfl ⟨Nat.le_of_ble_eq_true rfl, Nat.le_of_ble_eq_true rfl⟩ rfl (Nat.le_of_ble_eq_true rfl) rfl dX4_put_3 ?_
  refine hv_istore (L' := [(5, .int x4), (0, .ref m0), (1, .int p1), (2, .int p2), (3, .long p3)]) dX4_put_6 (Nat.le_of_ble_eq_true rfl) rfl ?_
  refine hv_iload 0 dX4_put_8 rfl ?_
  refine hv_if_ne (tgt := 37) dX4_put_10 (by decide) (fun c5 => ?_) (fun c5 => ?_)
  · replace h := hq_in c5 h
    refine hv_sub [0] rfl ?_
    exact wk37 _ _ h
  · replace h := hq_ip c5 h
    refine hv_aload_n 1 dX4_put_13 rfl rfl ?_
    refine hm_getA (j := 28) KM (fl_X4_94) rfl (Nat.le_of_ble_eq_true rfl) dX4_put_14 ?_
    refine hv_bipush (v := 60) dX4_put_17 (by decide) ?_
    refine hv_iload_n 2 dX4_put_19 rfl rfl ?_
    refine hv_imul dX4_put_20 ?_
    refine hv_iload_n 3 dX4_put_21 rfl rfl ?_
    refine hv_iadd dX4_put_22 ?_
    refine hv_aload_n 1 dX4_put_23 rfl rfl ?_
    refine hm_getA (j := 26) KM (fl_X4_88) rfl (Nat.le_of_ble_eq_true rfl) dX4_put_24 ?_
    refine hv_iload_n 2 dX4_put_27 rfl rfl ?_
    obtain ⟨x6, e_x6, h⟩ := hq_ob h
    refine hm_iaload KM e_x6 (Nat.le_of_ble_eq_true rfl) rfl dX4_put_28 ?_
    refine hv_bipush (v := 50) dX4_put_29 (by decide) ?_
    refine hv_isub dX4_put_31 ?_
    refine hv_lload_n 4 dX4_put_32 rfl rfl ?_
    refine hv_callS [.int (x6 - (50 : Int32)), .long p3] [.int (((60 : Int32) * p1) + p2), .ref (m0 + 29)] [.long (m_asSort (x6 - (50 : Int32)) p3), .int (((60 : Int32) * p1) + p2), .ref (m0 + 29)] (wk_m_asSort rfl) cs_X4_448 rfl ⟨Nat.le_of_ble_eq_true rfl, Nat.le_of_ble_eq_true rfl⟩ rfl (Nat.le_of_ble_eq_true rfl) rfl dX4_put_33 ?_
    obtain ⟨s7, e_s7, h⟩ := hq_ob h
    refine hm_lastore KM e_s7 ⟨Nat.le_of_ble_eq_true rfl, Nat.le_of_ble_eq_true rfl⟩ rfl dX4_put_36 ?_
    refine hv_sub [0] rfl ?_
    exact wk37 _ _ h
def m_element (p1 : Int32) (p2 : Int32) (s0 : hk_Ms) : Option (Int64) :=
  (m_refusal p1 p2 s0).bind fun x1 =>
  if x1 = 0 then
    (hm_lL s0 28 360 (((60 : Int32) * p1) + p2)).bind fun x3 =>
    some x3
  else
  some (-9223372036854775808 : Int64)
abbrev N_m_element (l : Launch) : hk_N := (l, cX4_element, "HeadReckonsModel", 3, (some .long), 3, 67, false)
set_option maxHeartbeats 4000000 in
theorem wk_m_element {l : Launch} {Gd : hk_G} {m0 : Nat} {st : hk_St} (KM : hk_KM m0 st) {p1 : Int32} {p2 : Int32} {s0 : hk_Ms} {r : Int64} (h : m_element p1 p2 s0 = some r) : hk_Met Gd l yX4_element cX4_element 3 (some .long) 3 67 [.ref m0, .int p1, .int p2] (hk_mU m0 st s0) (some (.long r)) (hk_mU m0 st s0) := by
  refine hk_start "HeadReckonsModel" false (by decide +kernel) rfl (by decide) (Nat.le_of_ble_eq_true rfl) ?_
  show hk_V Gd (N_m_element l) (hk_end Gd (hk_mU m0 st s0) (some (.long r)) (hk_mU m0 st s0)) 0 [(0, .ref m0), (1, .int p1), (2, .int p2)] [] (hk_mU m0 st s0)
  unfold m_element at h
  refine hv_aload_n 0 dX4_element_0 rfl rfl ?_
  refine hv_iload_n 1 dX4_element_1 rfl rfl ?_
  refine hv_iload_n 2 dX4_element_2 rfl rfl ?_
  obtain ⟨x1, e_x1, h⟩ := hq_ob h
  refine hv_callV [.int p1, .int p2] [] [.int x1] (wk_m_refusal KM e_x1) cs_X4_445 KM.recv rfl ⟨Nat.le_of_ble_eq_true rfl, Nat.le_of_ble_eq_true rfl⟩ rfl (Nat.le_of_ble_eq_true rfl) rfl dX4_element_3 ?_
  refine hv_if_eq (tgt := 15) dX4_element_6 (by decide) (fun c2 => ?_) (fun c2 => ?_)
  · replace h := hq_ip c2 h
    refine hv_aload_n 0 dX4_element_15 rfl rfl ?_
    refine hm_getA (j := 28) KM (fl_X4_94) rfl (Nat.le_of_ble_eq_true rfl) dX4_element_16 ?_
    refine hv_bipush (v := 60) dX4_element_19 (by decide) ?_
    refine hv_iload_n 1 dX4_element_21 rfl rfl ?_
    refine hv_imul dX4_element_22 ?_
    refine hv_iload_n 2 dX4_element_23 rfl rfl ?_
    refine hv_iadd dX4_element_24 ?_
    obtain ⟨x3, e_x3, h⟩ := hq_ob h
    refine hm_laload KM e_x3 ⟨Nat.le_of_ble_eq_true rfl, Nat.le_of_ble_eq_true rfl⟩ rfl dX4_element_25 ?_
    have h := Option.some.inj h
    subst h
    exact hv_lret rfl dX4_element_26
  · replace h := hq_in c2 h
    refine hv_ldc2 q2194 dX4_element_9 ?_
    refine hv_goto (tgt := 26) dX4_element_12 (by decide) ?_
    have h := Option.some.inj h
    subst h
    exact hv_lret rfl dX4_element_26
def m_shift_L113b (p1 : Int32) (p2 : Int32) (p3 : Int32) (p4 : Int32) (p5 : Int32) (e0 : hk_Ms → Option (Int32 × hk_Ms)) (rc : Int32 → hk_Ms → Option (Int32 × hk_Ms)) (v19 : Int32) (s20 : hk_Ms) : Option (Int32 × hk_Ms) :=
  if p5 ≤ v19 then
    e0 s20
  else
  (hm_lL s20 28 360 ((((60 : Int32) * p1) + p2) + v19)).bind fun x23 =>
  (hm_tL s20 29 60 v19 x23).bind fun s24 =>
  hk_nm (v19 + (1 : Int32)) fun x25 =>
  rc x25 s24
def m_shift_L113 (p1 : Int32) (p2 : Int32) (p3 : Int32) (p4 : Int32) (p5 : Int32) (e0 : hk_Ms → Option (Int32 × hk_Ms)) : Nat → Int32 → hk_Ms → Option (Int32 × hk_Ms)
  | 0 => fun _ _ => none
  | n + 1 => m_shift_L113b p1 p2 p3 p4 p5 e0 (m_shift_L113 p1 p2 p3 p4 p5 e0 n)
def m_shift_L150b (p1 : Int32) (p2 : Int32) (p3 : Int32) (p4 : Int32) (p5 : Int32) (e0 : hk_Ms → Option (Int32 × hk_Ms)) (rc : Int32 → hk_Ms → Option (Int32 × hk_Ms)) (v26 : Int32) (s27 : hk_Ms) : Option (Int32 × hk_Ms) :=
  if p5 ≤ v26 then
    e0 s27
  else
  (hm_lL s27 29 60 v26).bind fun x30 =>
  (hm_tL s27 28 360 ((((60 : Int32) * p3) + p4) + v26) x30).bind fun s31 =>
  hk_nm (v26 + (1 : Int32)) fun x32 =>
  rc x32 s31
def m_shift_L150 (p1 : Int32) (p2 : Int32) (p3 : Int32) (p4 : Int32) (p5 : Int32) (e0 : hk_Ms → Option (Int32 × hk_Ms)) : Nat → Int32 → hk_Ms → Option (Int32 × hk_Ms)
  | 0 => fun _ _ => none
  | n + 1 => m_shift_L150b p1 p2 p3 p4 p5 e0 (m_shift_L150 p1 p2 p3 p4 p5 e0 n)
def m_shift (p1 : Int32) (p2 : Int32) (p3 : Int32) (p4 : Int32) (p5 : Int32) (s0 : hk_Ms) : Option (Int32 × hk_Ms) :=
  if (m_isShelf p1) = 0 then
    some ((-1 : Int32), s0)
  else
  if (m_isShelf p3) = 0 then
    some ((-1 : Int32), s0)
  else
  (hm_lI s0 26 6 p1).bind fun x3 =>
    if x3 < 0 then
      some ((-11 : Int32), s0)
    else
    (hm_lI s0 26 6 p3).bind fun x5 =>
    if 0 ≤ x5 then
      (hm_lI s0 26 6 p1).bind fun x7 =>
      if x7 < (50 : Int32) then
        some ((-12 : Int32), s0)
      else
      (hm_lI s0 26 6 p1).bind fun x9 =>
      (hm_lI s0 26 6 p3).bind fun x10 =>
      if x9 = x10 then
        if p5 < 0 then
          some ((-13 : Int32), s0)
        else
        if p2 < 0 then
          some ((-13 : Int32), s0)
        else
        if p4 < 0 then
          some ((-13 : Int32), s0)
        else
        (hm_lI s0 27 6 p1).bind fun x15 =>
        if (x15 - p5) < p2 then
          some ((-13 : Int32), s0)
        else
        (hm_lI s0 27 6 p3).bind fun x17 =>
        if p4 ≤ (x17 - p5) then
          m_shift_L113 p1 p2 p3 p4 p5  (fun (s21 : hk_Ms) =>
            m_shift_L150 p1 p2 p3 p4 p5  (fun (s28 : hk_Ms) =>
              some (p5, s28)) hk_F (0 : Int32) s21) hk_F (0 : Int32) s0
        else
        some ((-13 : Int32), s0)
      else
      some ((-12 : Int32), s0)
    else
    some ((-11 : Int32), s0)
abbrev N_m_shift (l : Launch) : hk_N := (l, cX4_shift, "HeadReckonsModel", 7, (some .int), 2, 45, false)
set_option maxHeartbeats 4000000 in
theorem wk_m_shift_L113b {l : Launch} {Gd : hk_G} {m0 : Nat} {st : hk_St} (KM : hk_KM m0 st) {p1 : Int32} {p2 : Int32} {p3 : Int32} {p4 : Int32} {p5 : Int32} {s0 : hk_Ms} {r : Int32} {fin : hk_Ms} {e0 : hk_Ms → Option (Int32 × hk_Ms)} {rc : Int32 → hk_Ms → Option (Int32 × hk_Ms)} (hrc : ∀ (v19 : Int32) (s20 : hk_Ms), rc v19 s20 = some (r, fin) → hk_V Gd (N_m_shift l) (hk_end Gd (hk_mU m0 st s0) (some (.int r)) (hk_mU m0 st fin)) 113 [(0, .ref m0), (1, .int p1), (2, .int p2), (3, .int p3), (4, .int p4), (5, .int p5), (6, .int v19)] [] (hk_mU m0 st s20)) (he0 : ∀ (s21 : hk_Ms), e0 s21 = some (r, fin) → hk_V Gd (N_m_shift l) (hk_end Gd (hk_mU m0 st s0) (some (.int r)) (hk_mU m0 st fin)) 147 [(0, .ref m0), (3, .int p3), (4, .int p4), (5, .int p5)] [] (hk_mU m0 st s21)) {v19 : Int32} {s20 : hk_Ms} (h : m_shift_L113b p1 p2 p3 p4 p5 e0 rc v19 s20 = some (r, fin)) : hk_V Gd (N_m_shift l) (hk_end Gd (hk_mU m0 st s0) (some (.int r)) (hk_mU m0 st fin)) 113 [(0, .ref m0), (1, .int p1), (2, .int p2), (3, .int p3), (4, .int p4), (5, .int p5), (6, .int v19)] [] (hk_mU m0 st s20) := by
  unfold m_shift_L113b at h
  refine hv_iload 6 dX4_shift_113 rfl ?_
  refine hv_iload 5 dX4_shift_115 rfl ?_
  refine hv_icmp_ge (tgt := 147) dX4_shift_117 (by decide) (fun c22 => ?_) (fun c22 => ?_)
  · replace h := hq_ip c22 h
    refine hv_sub [0, 3, 4, 5] rfl ?_
    exact he0 _ h
  · replace h := hq_in c22 h
    refine hv_aload_n 0 dX4_shift_120 rfl rfl ?_
    refine hm_getA (j := 29) KM (fl_X4_98) rfl (Nat.le_of_ble_eq_true rfl) dX4_shift_121 ?_
    refine hv_iload 6 dX4_shift_124 rfl ?_
    refine hv_aload_n 0 dX4_shift_126 rfl rfl ?_
    refine hm_getA (j := 28) KM (fl_X4_94) rfl (Nat.le_of_ble_eq_true rfl) dX4_shift_127 ?_
    refine hv_bipush (v := 60) dX4_shift_130 (by decide) ?_
    refine hv_iload_n 1 dX4_shift_132 rfl rfl ?_
    refine hv_imul dX4_shift_133 ?_
    refine hv_iload_n 2 dX4_shift_134 rfl rfl ?_
    refine hv_iadd dX4_shift_135 ?_
    refine hv_iload 6 dX4_shift_136 rfl ?_
    refine hv_iadd dX4_shift_138 ?_
    obtain ⟨x23, e_x23, h⟩ := hq_ob h
    refine hm_laload KM e_x23 ⟨Nat.le_of_ble_eq_true rfl, Nat.le_of_ble_eq_true rfl⟩ rfl dX4_shift_139 ?_
    obtain ⟨s24, e_s24, h⟩ := hq_ob h
    refine hm_lastore KM e_s24 ⟨Nat.le_of_ble_eq_true rfl, Nat.le_of_ble_eq_true rfl⟩ rfl dX4_shift_140 ?_
    obtain ⟨x25, e_x25, h⟩ := hq_nm h
    refine hv_iinc (v := x25) (L' := [(6, .int x25), (0, .ref m0), (1, .int p1), (2, .int p2), (3, .int p3), (4, .int p4), (5, .int p5)]) 6 dX4_shift_141 rfl (by rw [e_x25]; rfl) (Nat.le_of_ble_eq_true rfl) rfl ?_
    refine hv_goto (tgt := 113) dX4_shift_144 (by decide) ?_
    refine hv_sub [1, 2, 3, 4, 5, 6, 0] rfl ?_
    exact hrc _ _ h
theorem wk_m_shift_L113 {l : Launch} {Gd : hk_G} {m0 : Nat} {st : hk_St} (KM : hk_KM m0 st) {p1 : Int32} {p2 : Int32} {p3 : Int32} {p4 : Int32} {p5 : Int32} {s0 : hk_Ms} {r : Int32} {fin : hk_Ms} {e0 : hk_Ms → Option (Int32 × hk_Ms)} (he0 : ∀ (s21 : hk_Ms), e0 s21 = some (r, fin) → hk_V Gd (N_m_shift l) (hk_end Gd (hk_mU m0 st s0) (some (.int r)) (hk_mU m0 st fin)) 147 [(0, .ref m0), (3, .int p3), (4, .int p4), (5, .int p5)] [] (hk_mU m0 st s21)) : ∀ (n : Nat) (v19 : Int32) (s20 : hk_Ms), m_shift_L113 p1 p2 p3 p4 p5 e0 n v19 s20 = some (r, fin) → hk_V Gd (N_m_shift l) (hk_end Gd (hk_mU m0 st s0) (some (.int r)) (hk_mU m0 st fin)) 113 [(0, .ref m0), (1, .int p1), (2, .int p2), (3, .int p3), (4, .int p4), (5, .int p5), (6, .int v19)] [] (hk_mU m0 st s20) := by
  intro n
  induction n with
  | zero => intro v19 s20 h; cases h
  | succ n ih => intro v19 s20 h; exact wk_m_shift_L113b KM ih he0 h
set_option maxHeartbeats 4000000 in
theorem wk_m_shift_L150b {l : Launch} {Gd : hk_G} {m0 : Nat} {st : hk_St} (KM : hk_KM m0 st) {p1 : Int32} {p2 : Int32} {p3 : Int32} {p4 : Int32} {p5 : Int32} {s0 : hk_Ms} {r : Int32} {fin : hk_Ms} {e0 : hk_Ms → Option (Int32 × hk_Ms)} {rc : Int32 → hk_Ms → Option (Int32 × hk_Ms)} (hrc : ∀ (v26 : Int32) (s27 : hk_Ms), rc v26 s27 = some (r, fin) → hk_V Gd (N_m_shift l) (hk_end Gd (hk_mU m0 st s0) (some (.int r)) (hk_mU m0 st fin)) 150 [(0, .ref m0), (3, .int p3), (4, .int p4), (5, .int p5), (6, .int v26)] [] (hk_mU m0 st s27)) (he0 : ∀ (s28 : hk_Ms), e0 s28 = some (r, fin) → hk_V Gd (N_m_shift l) (hk_end Gd (hk_mU m0 st s0) (some (.int r)) (hk_mU m0 st fin)) 185 [(5, .int p5)] [] (hk_mU m0 st s28)) {v26 : Int32} {s27 : hk_Ms} (h : m_shift_L150b p1 p2 p3 p4 p5 e0 rc v26 s27 = some (r, fin)) : hk_V Gd (N_m_shift l) (hk_end Gd (hk_mU m0 st s0) (some (.int r)) (hk_mU m0 st fin)) 150 [(0, .ref m0), (3, .int p3), (4, .int p4), (5, .int p5), (6, .int v26)] [] (hk_mU m0 st s27) := by
  unfold m_shift_L150b at h
  refine hv_iload 4 dX4_shift_150 rfl ?_
  refine hv_iload 3 dX4_shift_152 rfl ?_
  refine hv_icmp_ge (tgt := 185) dX4_shift_154 (by decide) (fun c29 => ?_) (fun c29 => ?_)
  · replace h := hq_ip c29 h
    refine hv_sub [3] rfl ?_
    exact he0 _ h
  · replace h := hq_in c29 h
    refine hv_aload_n 0 dX4_shift_157 rfl rfl ?_
    refine hm_getA (j := 28) KM (fl_X4_94) rfl (Nat.le_of_ble_eq_true rfl) dX4_shift_158 ?_
    refine hv_bipush (v := 60) dX4_shift_161 (by decide) ?_
    refine hv_iload_n 1 dX4_shift_163 rfl rfl ?_
    refine hv_imul dX4_shift_164 ?_
    refine hv_iload 2 dX4_shift_165 rfl ?_
    refine hv_iadd dX4_shift_167 ?_
    refine hv_iload 4 dX4_shift_168 rfl ?_
    refine hv_iadd dX4_shift_170 ?_
    refine hv_aload_n 0 dX4_shift_171 rfl rfl ?_
    refine hm_getA (j := 29) KM (fl_X4_98) rfl (Nat.le_of_ble_eq_true rfl) dX4_shift_172 ?_
    refine hv_iload 4 dX4_shift_175 rfl ?_
    obtain ⟨x30, e_x30, h⟩ := hq_ob h
    refine hm_laload KM e_x30 ⟨Nat.le_of_ble_eq_true rfl, Nat.le_of_ble_eq_true rfl⟩ rfl dX4_shift_177 ?_
    obtain ⟨s31, e_s31, h⟩ := hq_ob h
    refine hm_lastore KM e_s31 ⟨Nat.le_of_ble_eq_true rfl, Nat.le_of_ble_eq_true rfl⟩ rfl dX4_shift_178 ?_
    obtain ⟨x32, e_x32, h⟩ := hq_nm h
    refine hv_iinc (v := x32) (L' := [(6, .int x32), (0, .ref m0), (3, .int p3), (4, .int p4), (5, .int p5)]) 4 dX4_shift_179 rfl (by rw [e_x32]; rfl) (Nat.le_of_ble_eq_true rfl) rfl ?_
    refine hv_goto (tgt := 150) dX4_shift_182 (by decide) ?_
    refine hv_sub [1, 2, 3, 4, 0] rfl ?_
    exact hrc _ _ h
theorem wk_m_shift_L150 {l : Launch} {Gd : hk_G} {m0 : Nat} {st : hk_St} (KM : hk_KM m0 st) {p1 : Int32} {p2 : Int32} {p3 : Int32} {p4 : Int32} {p5 : Int32} {s0 : hk_Ms} {r : Int32} {fin : hk_Ms} {e0 : hk_Ms → Option (Int32 × hk_Ms)} (he0 : ∀ (s28 : hk_Ms), e0 s28 = some (r, fin) → hk_V Gd (N_m_shift l) (hk_end Gd (hk_mU m0 st s0) (some (.int r)) (hk_mU m0 st fin)) 185 [(5, .int p5)] [] (hk_mU m0 st s28)) : ∀ (n : Nat) (v26 : Int32) (s27 : hk_Ms), m_shift_L150 p1 p2 p3 p4 p5 e0 n v26 s27 = some (r, fin) → hk_V Gd (N_m_shift l) (hk_end Gd (hk_mU m0 st s0) (some (.int r)) (hk_mU m0 st fin)) 150 [(0, .ref m0), (3, .int p3), (4, .int p4), (5, .int p5), (6, .int v26)] [] (hk_mU m0 st s27) := by
  intro n
  induction n with
  | zero => intro v26 s27 h; cases h
  | succ n ih => intro v26 s27 h; exact wk_m_shift_L150b KM ih he0 h
set_option maxHeartbeats 4000000 in
theorem wk_m_shift {l : Launch} {Gd : hk_G} {m0 : Nat} {st : hk_St} (KM : hk_KM m0 st) {p1 : Int32} {p2 : Int32} {p3 : Int32} {p4 : Int32} {p5 : Int32} {s0 : hk_Ms} {r : Int32} {fin : hk_Ms} (h : m_shift p1 p2 p3 p4 p5 s0 = some (r, fin)) : hk_Met Gd l yX4_shift cX4_shift 7 (some .int) 2 45 [.ref m0, .int p1, .int p2, .int p3, .int p4, .int p5] (hk_mU m0 st s0) (some (.int r)) (hk_mU m0 st fin) := by
  refine hk_start "HeadReckonsModel" false (by decide +kernel) rfl (by decide) (Nat.le_of_ble_eq_true rfl) ?_
  show hk_V Gd (N_m_shift l) (hk_end Gd (hk_mU m0 st s0) (some (.int r)) (hk_mU m0 st fin)) 0 [(0, .ref m0), (1, .int p1), (2, .int p2), (3, .int p3), (4, .int p4), (5, .int p5)] [] (hk_mU m0 st s0)
  unfold m_shift at h
  refine hv_iload_n 1 dX4_shift_0 rfl rfl ?_
  refine hv_callS [.int p1] [] [.int (m_isShelf p1)] (wk_m_isShelf rfl) cs_X4_309 rfl ⟨Nat.le_of_ble_eq_true rfl, Nat.le_of_ble_eq_true rfl⟩ rfl (Nat.le_of_ble_eq_true rfl) rfl dX4_shift_1 ?_
  refine hv_if_eq (tgt := 14) dX4_shift_4 (by decide) (fun c1 => ?_) (fun c1 => ?_)
  · replace h := hq_ip c1 h
    refine hv_iconst (v := -1) dX4_shift_14 (by decide) ?_
    obtain ⟨h1, h2⟩ := hq_ret h
    subst h1
    subst h2
    exact hv_iret rfl dX4_shift_15
  · replace h := hq_in c1 h
    refine hv_iload_n 3 dX4_shift_7 rfl rfl ?_
    refine hv_callS [.int p3] [] [.int (m_isShelf p3)] (wk_m_isShelf rfl) cs_X4_309 rfl ⟨Nat.le_of_ble_eq_true rfl, Nat.le_of_ble_eq_true rfl⟩ rfl (Nat.le_of_ble_eq_true rfl) rfl dX4_shift_8 ?_
    refine hv_if_ne (tgt := 16) dX4_shift_11 (by decide) (fun c2 => ?_) (fun c2 => ?_)
    · replace h := hq_in c2 h
      refine hv_aload_n 0 dX4_shift_16 rfl rfl ?_
      refine hm_getA (j := 26) KM (fl_X4_88) rfl (Nat.le_of_ble_eq_true rfl) dX4_shift_17 ?_
      refine hv_iload_n 1 dX4_shift_20 rfl rfl ?_
      obtain ⟨x3, e_x3, h⟩ := hq_ob h
      refine hm_iaload KM e_x3 (Nat.le_of_ble_eq_true rfl) rfl dX4_shift_21 ?_
      refine hv_if_lt (tgt := 34) dX4_shift_22 (by decide) (fun c4 => ?_) (fun c4 => ?_)
      · replace h := hq_ip c4 h
        refine hv_bipush (v := -11) dX4_shift_34 (by decide) ?_
        obtain ⟨h1, h2⟩ := hq_ret h
        subst h1
        subst h2
        exact hv_iret rfl dX4_shift_36
      · replace h := hq_in c4 h
        refine hv_aload_n 0 dX4_shift_25 rfl rfl ?_
        refine hm_getA (j := 26) KM (fl_X4_88) rfl (Nat.le_of_ble_eq_true rfl) dX4_shift_26 ?_
        refine hv_iload_n 3 dX4_shift_29 rfl rfl ?_
        obtain ⟨x5, e_x5, h⟩ := hq_ob h
        refine hm_iaload KM e_x5 (Nat.le_of_ble_eq_true rfl) rfl dX4_shift_30 ?_
        refine hv_if_ge (tgt := 37) dX4_shift_31 (by decide) (fun c6 => ?_) (fun c6 => ?_)
        · replace h := hq_ip c6 h
          refine hv_aload_n 0 dX4_shift_37 rfl rfl ?_
          refine hm_getA (j := 26) KM (fl_X4_88) rfl (Nat.le_of_ble_eq_true rfl) dX4_shift_38 ?_
          refine hv_iload_n 1 dX4_shift_41 rfl rfl ?_
          obtain ⟨x7, e_x7, h⟩ := hq_ob h
          refine hm_iaload KM e_x7 (Nat.le_of_ble_eq_true rfl) rfl dX4_shift_42 ?_
          refine hv_bipush (v := 50) dX4_shift_43 (by decide) ?_
          refine hv_icmp_lt (tgt := 63) dX4_shift_45 (by decide) (fun c8 => ?_) (fun c8 => ?_)
          · replace h := hq_ip c8 h
            refine hv_bipush (v := -12) dX4_shift_63 (by decide) ?_
            obtain ⟨h1, h2⟩ := hq_ret h
            subst h1
            subst h2
            exact hv_iret rfl dX4_shift_65
          · replace h := hq_in c8 h
            refine hv_aload_n 0 dX4_shift_48 rfl rfl ?_
            refine hm_getA (j := 26) KM (fl_X4_88) rfl (Nat.le_of_ble_eq_true rfl) dX4_shift_49 ?_
            refine hv_iload_n 1 dX4_shift_52 rfl rfl ?_
            obtain ⟨x9, e_x9, h⟩ := hq_ob h
            refine hm_iaload KM e_x9 (Nat.le_of_ble_eq_true rfl) rfl dX4_shift_53 ?_
            refine hv_aload_n 0 dX4_shift_54 rfl rfl ?_
            refine hm_getA (j := 26) KM (fl_X4_88) rfl (Nat.le_of_ble_eq_true rfl) dX4_shift_55 ?_
            refine hv_iload_n 3 dX4_shift_58 rfl rfl ?_
            obtain ⟨x10, e_x10, h⟩ := hq_ob h
            refine hm_iaload KM e_x10 (Nat.le_of_ble_eq_true rfl) rfl dX4_shift_59 ?_
            refine hv_icmp_eq (tgt := 66) dX4_shift_60 (by decide) (fun c11 => ?_) (fun c11 => ?_)
            · replace h := hq_ip c11 h
              refine hv_iload 5 dX4_shift_66 rfl ?_
              refine hv_if_lt (tgt := 107) dX4_shift_68 (by decide) (fun c12 => ?_) (fun c12 => ?_)
              · replace h := hq_ip c12 h
                refine hv_bipush (v := -13) dX4_shift_107 (by decide) ?_
                obtain ⟨h1, h2⟩ := hq_ret h
                subst h1
                subst h2
                exact hv_iret rfl dX4_shift_109
              · replace h := hq_in c12 h
                refine hv_iload_n 2 dX4_shift_71 rfl rfl ?_
                refine hv_if_lt (tgt := 107) dX4_shift_72 (by decide) (fun c13 => ?_) (fun c13 => ?_)
                · replace h := hq_ip c13 h
                  refine hv_bipush (v := -13) dX4_shift_107 (by decide) ?_
                  obtain ⟨h1, h2⟩ := hq_ret h
                  subst h1
                  subst h2
                  exact hv_iret rfl dX4_shift_109
                · replace h := hq_in c13 h
                  refine hv_iload 4 dX4_shift_75 rfl ?_
                  refine hv_if_lt (tgt := 107) dX4_shift_77 (by decide) (fun c14 => ?_) (fun c14 => ?_)
                  · replace h := hq_ip c14 h
                    refine hv_bipush (v := -13) dX4_shift_107 (by decide) ?_
                    obtain ⟨h1, h2⟩ := hq_ret h
                    subst h1
                    subst h2
                    exact hv_iret rfl dX4_shift_109
                  · replace h := hq_in c14 h
                    refine hv_iload_n 2 dX4_shift_80 rfl rfl ?_
                    refine hv_aload_n 0 dX4_shift_81 rfl rfl ?_
                    refine hm_getA (j := 27) KM (fl_X4_91) rfl (Nat.le_of_ble_eq_true rfl) dX4_shift_82 ?_
                    refine hv_iload_n 1 dX4_shift_85 rfl rfl ?_
                    obtain ⟨x15, e_x15, h⟩ := hq_ob h
                    refine hm_iaload KM e_x15 (Nat.le_of_ble_eq_true rfl) rfl dX4_shift_86 ?_
                    refine hv_iload 5 dX4_shift_87 rfl ?_
                    refine hv_isub dX4_shift_89 ?_
                    refine hv_icmp_gt (tgt := 107) dX4_shift_90 (by decide) (fun c16 => ?_) (fun c16 => ?_)
                    · replace h := hq_ip c16 h
                      refine hv_bipush (v := -13) dX4_shift_107 (by decide) ?_
                      obtain ⟨h1, h2⟩ := hq_ret h
                      subst h1
                      subst h2
                      exact hv_iret rfl dX4_shift_109
                    · replace h := hq_in c16 h
                      refine hv_iload 4 dX4_shift_93 rfl ?_
                      refine hv_aload_n 0 dX4_shift_95 rfl rfl ?_
                      refine hm_getA (j := 27) KM (fl_X4_91) rfl (Nat.le_of_ble_eq_true rfl) dX4_shift_96 ?_
                      refine hv_iload_n 3 dX4_shift_99 rfl rfl ?_
                      obtain ⟨x17, e_x17, h⟩ := hq_ob h
                      refine hm_iaload KM e_x17 (Nat.le_of_ble_eq_true rfl) rfl dX4_shift_100 ?_
                      refine hv_iload 5 dX4_shift_101 rfl ?_
                      refine hv_isub dX4_shift_103 ?_
                      refine hv_icmp_le (tgt := 110) dX4_shift_104 (by decide) (fun c18 => ?_) (fun c18 => ?_)
                      · replace h := hq_ip c18 h
                        refine hv_iconst (v := 0) dX4_shift_110 (by decide) ?_
                        refine hv_istore (L' := [(6, .int (0 : Int32)), (0, .ref m0), (1, .int p1), (2, .int p2), (3, .int p3), (4, .int p4), (5, .int p5)]) dX4_shift_111 (Nat.le_of_ble_eq_true rfl) rfl ?_
                        refine hv_sub [1, 2, 3, 4, 5, 6, 0] rfl ?_
                        refine wk_m_shift_L113 KM ?_ hk_F _ _ h
                        · intro s21 h
                          refine hv_iconst (v := 0) dX4_shift_147 (by decide) ?_
                          refine hv_istore (L' := [(6, .int (0 : Int32)), (0, .ref m0), (3, .int p3), (4, .int p4), (5, .int p5)]) dX4_shift_148 (Nat.le_of_ble_eq_true rfl) rfl ?_
                          refine hv_sub [1, 2, 3, 4, 0] rfl ?_
                          refine wk_m_shift_L150 KM ?_ hk_F _ _ h
                          · intro s28 h
                            refine hv_iload 0 dX4_shift_185 rfl ?_
                            obtain ⟨h1, h2⟩ := hq_ret h
                            subst h1
                            subst h2
                            exact hv_iret rfl dX4_shift_187
                      · replace h := hq_in c18 h
                        refine hv_bipush (v := -13) dX4_shift_107 (by decide) ?_
                        obtain ⟨h1, h2⟩ := hq_ret h
                        subst h1
                        subst h2
                        exact hv_iret rfl dX4_shift_109
            · replace h := hq_in c11 h
              refine hv_bipush (v := -12) dX4_shift_63 (by decide) ?_
              obtain ⟨h1, h2⟩ := hq_ret h
              subst h1
              subst h2
              exact hv_iret rfl dX4_shift_65
        · replace h := hq_in c6 h
          refine hv_bipush (v := -11) dX4_shift_34 (by decide) ?_
          obtain ⟨h1, h2⟩ := hq_ret h
          subst h1
          subst h2
          exact hv_iret rfl dX4_shift_36
    · replace h := hq_ip c2 h
      refine hv_iconst (v := -1) dX4_shift_14 (by decide) ?_
      obtain ⟨h1, h2⟩ := hq_ret h
      subst h1
      subst h2
      exact hv_iret rfl dX4_shift_15
