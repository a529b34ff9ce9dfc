set_option maxRecDepth 100000
def m_kindOf (p1 : Int32) (s0 : hk_Ms) : Option (Int32) :=
  (hm_lI s0 24 50 p1).bind fun x1 =>
  some x1
abbrev N_m_kindOf (l : Launch) : hk_N := (l, cX4_kindOf, "HeadReckonsModel", 2, (some .int), 0, 0, false)
set_option maxHeartbeats 4000000 in
theorem wk_m_kindOf {l : Launch} {Gd : hk_G} {m0 : Nat} {st : hk_St} (KM : hk_KM m0 st) {p1 : Int32} {s0 : hk_Ms} {r : Int32} (h : m_kindOf p1 s0 = some r) : hk_Met Gd l yX4_kindOf cX4_kindOf 2 (some .int) 0 0 [.ref m0, .int p1] (hk_mU m0 st s0) (some (.int r)) (hk_mU m0 st s0) := by
  refine hk_start "HeadReckonsModel" false (by decide +kernel) rfl (by decide) (Nat.le_of_ble_eq_true rfl) ?_
  show hk_V Gd (N_m_kindOf l) (hk_end Gd (hk_mU m0 st s0) (some (.int r)) (hk_mU m0 st s0)) 0 [(0, .ref m0), (1, .int p1)] [] (hk_mU m0 st s0)
  unfold m_kindOf at h
  refine hv_aload_n 0 dX4_kindOf_0 rfl rfl ?_
  refine hm_getA (j := 24) KM (fl_X4_82) rfl (Nat.le_of_ble_eq_true rfl) dX4_kindOf_1 ?_
  refine hv_iload_n 1 dX4_kindOf_4 rfl rfl ?_
  obtain ⟨x1, e_x1, h⟩ := hq_ob h
  refine hm_iaload KM e_x1 (Nat.le_of_ble_eq_true rfl) rfl dX4_kindOf_5 ?_
  have h := Option.some.inj h
  subst h
  exact hv_iret rfl dX4_kindOf_6
def m_above (p1 : Int32) : Int32 :=
  if p1 = (3 : Int32) then
    (2 : Int32)
  else
  if p1 = (5 : Int32) then
      (1 : Int32)
    else
    if p1 = (7 : Int32) then
        (6 : Int32)
      else
      (0 : Int32)
abbrev N_m_above (l : Launch) : hk_N := (l, cX4_above, "HeadReckonsModel", 1, (some .int), 0, 0, false)
set_option maxHeartbeats 4000000 in
theorem wk_m_above {l : Launch} {Gd : hk_G} {st : hk_St} {p1 : Int32} {r : Int32} (h : m_above p1 = r) : hk_Met Gd l yX4_above cX4_above 1 (some .int) 0 0 [.int p1] st (some (.int r)) st := by
  refine hk_start "HeadReckonsModel" false (by decide +kernel) rfl (by decide) (Nat.le_of_ble_eq_true rfl) ?_
  show hk_V Gd (N_m_above l) (hk_end Gd st (some (.int r)) st) 0 [(0, .int p1)] [] st
  unfold m_above at h
  refine hv_iload_n 0 dX4_above_0 rfl rfl ?_
  refine hv_iconst (v := 3) dX4_above_1 (by decide) ?_
  refine hv_icmp_ne (tgt := 9) dX4_above_2 (by decide) (fun c1 => ?_) (fun c1 => ?_)
  · replace h := hq_in c1 h
    refine hv_iload_n 0 dX4_above_9 rfl rfl ?_
    refine hv_iconst (v := 5) dX4_above_10 (by decide) ?_
    refine hv_icmp_ne (tgt := 18) dX4_above_11 (by decide) (fun c2 => ?_) (fun c2 => ?_)
    · replace h := hq_in c2 h
      refine hv_iload_n 0 dX4_above_18 rfl rfl ?_
      refine hv_bipush (v := 7) dX4_above_19 (by decide) ?_
      refine hv_icmp_ne (tgt := 29) dX4_above_21 (by decide) (fun c3 => ?_) (fun c3 => ?_)
      · replace h := hq_in c3 h
        refine hv_iconst (v := 0) dX4_above_29 (by decide) ?_
        subst h
        exact hv_iret rfl dX4_above_30
      · replace h := hq_ip c3 h
        refine hv_bipush (v := 6) dX4_above_24 (by decide) ?_
        refine hv_goto (tgt := 30) dX4_above_26 (by decide) ?_
        subst h
        exact hv_iret rfl dX4_above_30
    · replace h := hq_ip c2 h
      refine hv_iconst (v := 1) dX4_above_14 (by decide) ?_
      refine hv_goto (tgt := 30) dX4_above_15 (by decide) ?_
      subst h
      exact hv_iret rfl dX4_above_30
  · replace h := hq_ip c1 h
    refine hv_iconst (v := 2) dX4_above_5 (by decide) ?_
    refine hv_goto (tgt := 30) dX4_above_6 (by decide) ?_
    subst h
    exact hv_iret rfl dX4_above_30
def m_taken_L58b (p1 : Int32) (p2 : Int32) (s0 : hk_Ms) (e0 : Int32 → Option (Int32)) (rc : Int32 → Option (Int32)) (v9 : Int32) : Option (Int32) :=
  if v9 = p2 then
    e0 v9
  else
  if v9 ≤ 0 then
    e0 v9
  else
  hk_nm (m_above v9) fun x13 =>
  rc x13
def m_taken_L58 (p1 : Int32) (p2 : Int32) (s0 : hk_Ms) (e0 : Int32 → Option (Int32)) : Nat → Int32 → Option (Int32)
  | 0 => fun _ => none
  | n + 1 => m_taken_L58b p1 p2 s0 e0 (m_taken_L58 p1 p2 s0 e0 n)
def m_taken (p1 : Int32) (p2 : Int32) (s0 : hk_Ms) : Option (Int32) :=
  if (m_isShelf p1) = 0 then
    some (-1 : Int32)
  else
  if (m_within p2.toInt64 (0 : Int64) (7 : Int64)) = 0 then
    some (-1 : Int32)
  else
  (hm_lI s0 26 6 p1).bind fun x3 =>
    if 0 ≤ x3 then
      (hm_lI s0 26 6 p1).bind fun x5 =>
      if x5 < (50 : Int32) then
        (hm_lI s0 26 6 p1).bind fun x7 =>
        (m_kindOf x7 s0).bind fun x8 =>
        m_taken_L58 p1 p2 s0  (fun (v10 : Int32) =>
          if v10 = p2 then
            (hm_lI s0 26 6 p1).bind fun x15 =>
          (m_kindOf x15 s0).bind fun x16 =>
          some x16
          else
          some (-12 : Int32)) hk_F x8 
      else
      some (-12 : Int32)
    else
    some (-11 : Int32)
abbrev N_m_taken (l : Launch) : hk_N := (l, cX4_taken, "HeadReckonsModel", 4, (some .int), 2, 45, false)
set_option maxHeartbeats 4000000 in
theorem wk_m_taken_L58b {l : Launch} {Gd : hk_G} {m0 : Nat} {st : hk_St} (KM : hk_KM m0 st) {p1 : Int32} {p2 : Int32} {s0 : hk_Ms} {r : Int32} {e0 : Int32 → Option (Int32)} {rc : Int32 → Option (Int32)} (hrc : ∀ (v9 : Int32), rc v9 = some r → hk_V Gd (N_m_taken l) (hk_end Gd (hk_mU m0 st s0) (some (.int r)) (hk_mU m0 st s0)) 58 [(0, .ref m0), (1, .int p1), (2, .int p2), (3, .int v9)] [] (hk_mU m0 st s0)) (he0 : ∀ (v10 : Int32), e0 v10 = some r → hk_V Gd (N_m_taken l) (hk_end Gd (hk_mU m0 st s0) (some (.int r)) (hk_mU m0 st s0)) 75 [(0, .ref m0), (1, .int p1), (2, .int p2), (3, .int v10)] [] (hk_mU m0 st s0)) {v9 : Int32} (h : m_taken_L58b p1 p2 s0 e0 rc v9 = some r) : hk_V Gd (N_m_taken l) (hk_end Gd (hk_mU m0 st s0) (some (.int r)) (hk_mU m0 st s0)) 58 [(0, .ref m0), (1, .int p1), (2, .int p2), (3, .int v9)] [] (hk_mU m0 st s0) := by
  unfold m_taken_L58b at h
  refine hv_iload_n 3 dX4_taken_58 rfl rfl ?_
  refine hv_iload_n 2 dX4_taken_59 rfl rfl ?_
  refine hv_icmp_eq (tgt := 75) dX4_taken_60 (by decide) (fun c11 => ?_) (fun c11 => ?_)
  · replace h := hq_ip c11 h
    exact he0 _ h
  · replace h := hq_in c11 h
    refine hv_iload_n 3 dX4_taken_63 rfl rfl ?_
    refine hv_if_le (tgt := 75) dX4_taken_64 (by decide) (fun c12 => ?_) (fun c12 => ?_)
    · replace h := hq_ip c12 h
      exact he0 _ h
    · replace h := hq_in c12 h
      refine hv_iload_n 3 dX4_taken_67 rfl rfl ?_
      refine hv_callS [.int v9] [] [.int (m_above v9)] (wk_m_above rfl) cs_X4_459 rfl ⟨Nat.le_of_ble_eq_true rfl, Nat.le_of_ble_eq_true rfl⟩ rfl (Nat.le_of_ble_eq_true rfl) rfl dX4_taken_68 ?_
      obtain ⟨x13, e_x13, h⟩ := hq_nm h
      rw [← e_x13]
      refine hv_istore_n (L' := [(3, .int x13), (0, .ref m0), (1, .int p1), (2, .int p2)]) dX4_taken_71 rfl (Nat.le_of_ble_eq_true rfl) rfl ?_
      refine hv_goto (tgt := 58) dX4_taken_72 (by decide) ?_
      refine hv_sub [1, 2, 3, 0] rfl ?_
      exact hrc _ h
theorem wk_m_taken_L58 {l : Launch} {Gd : hk_G} {m0 : Nat} {st : hk_St} (KM : hk_KM m0 st) {p1 : Int32} {p2 : Int32} {s0 : hk_Ms} {r : Int32} {e0 : Int32 → Option (Int32)} (he0 : ∀ (v10 : Int32), e0 v10 = some r → hk_V Gd (N_m_taken l) (hk_end Gd (hk_mU m0 st s0) (some (.int r)) (hk_mU m0 st s0)) 75 [(0, .ref m0), (1, .int p1), (2, .int p2), (3, .int v10)] [] (hk_mU m0 st s0)) : ∀ (n : Nat) (v9 : Int32), m_taken_L58 p1 p2 s0 e0 n v9 = some r → hk_V Gd (N_m_taken l) (hk_end Gd (hk_mU m0 st s0) (some (.int r)) (hk_mU m0 st s0)) 58 [(0, .ref m0), (1, .int p1), (2, .int p2), (3, .int v9)] [] (hk_mU m0 st s0) := by
  intro n
  induction n with
  | zero => intro v9 h; cases h
  | succ n ih => intro v9 h; exact wk_m_taken_L58b KM ih he0 h
set_option maxHeartbeats 4000000 in
theorem wk_m_taken {l : Launch} {Gd : hk_G} {m0 : Nat} {st : hk_St} (KM : hk_KM m0 st) {p1 : Int32} {p2 : Int32} {s0 : hk_Ms} {r : Int32} (h : m_taken p1 p2 s0 = some r) : hk_Met Gd l yX4_taken cX4_taken 4 (some .int) 2 45 [.ref m0, .int p1, .int p2] (hk_mU m0 st s0) (some (.int r)) (hk_mU m0 st s0) := by
  refine hk_start "HeadReckonsModel" false (by decide +kernel) rfl (by decide) (Nat.le_of_ble_eq_true rfl) ?_
  show hk_V Gd (N_m_taken l) (hk_end Gd (hk_mU m0 st s0) (some (.int r)) (hk_mU m0 st s0)) 0 [(0, .ref m0), (1, .int p1), (2, .int p2)] [] (hk_mU m0 st s0)
  unfold m_taken at h
  refine hv_iload_n 1 dX4_taken_0 rfl rfl ?_
  refine hv_callS [.int p1] [] [.int (m_isShelf p1)] (wk_m_isShelf rfl) cs_X4_309 rfl ⟨Nat.le_of_ble_eq_true rfl, Nat.le_of_ble_eq_true rfl⟩ rfl (Nat.le_of_ble_eq_true rfl) rfl dX4_taken_1 ?_
  refine hv_if_eq (tgt := 19) dX4_taken_4 (by decide) (fun c1 => ?_) (fun c1 => ?_)
  · replace h := hq_ip c1 h
    refine hv_iconst (v := -1) dX4_taken_19 (by decide) ?_
    have h := Option.some.inj h
    subst h
    exact hv_iret rfl dX4_taken_20
  · replace h := hq_in c1 h
    refine hv_iload_n 2 dX4_taken_7 rfl rfl ?_
    refine hv_i2l dX4_taken_8 ?_
    refine hv_lconst (v := 0) dX4_taken_9 (by decide) ?_
    refine hv_ldc2 q2138 dX4_taken_10 ?_
    refine hv_callS [.long p2.toInt64, .long (0 : Int64), .long (7 : Int64)] [] [.int (m_within p2.toInt64 (0 : Int64) (7 : Int64))] (wk_m_within rfl) cs_X4_113 rfl ⟨Nat.le_of_ble_eq_true rfl, Nat.le_of_ble_eq_true rfl⟩ rfl (Nat.le_of_ble_eq_true rfl) rfl dX4_taken_13 ?_
    refine hv_if_ne (tgt := 21) dX4_taken_16 (by decide) (fun c2 => ?_) (fun c2 => ?_)
    · replace h := hq_in c2 h
      refine hv_aload_n 0 dX4_taken_21 rfl rfl ?_
      refine hm_getA (j := 26) KM (fl_X4_88) rfl (Nat.le_of_ble_eq_true rfl) dX4_taken_22 ?_
      refine hv_iload_n 1 dX4_taken_25 rfl rfl ?_
      obtain ⟨x3, e_x3, h⟩ := hq_ob h
      refine hm_iaload KM e_x3 (Nat.le_of_ble_eq_true rfl) rfl dX4_taken_26 ?_
      refine hv_if_ge (tgt := 33) dX4_taken_27 (by decide) (fun c4 => ?_) (fun c4 => ?_)
      · replace h := hq_ip c4 h
        refine hv_aload_n 0 dX4_taken_33 rfl rfl ?_
        refine hm_getA (j := 26) KM (fl_X4_88) rfl (Nat.le_of_ble_eq_true rfl) dX4_taken_34 ?_
        refine hv_iload_n 1 dX4_taken_37 rfl rfl ?_
        obtain ⟨x5, e_x5, h⟩ := hq_ob h
        refine hm_iaload KM e_x5 (Nat.le_of_ble_eq_true rfl) rfl dX4_taken_38 ?_
        refine hv_bipush (v := 50) dX4_taken_39 (by decide) ?_
        refine hv_icmp_lt (tgt := 47) dX4_taken_41 (by decide) (fun c6 => ?_) (fun c6 => ?_)
        · replace h := hq_ip c6 h
          refine hv_aload_n 0 dX4_taken_47 rfl rfl ?_
          refine hv_aload_n 0 dX4_taken_48 rfl rfl ?_
          refine hm_getA (j := 26) KM (fl_X4_88) rfl (Nat.le_of_ble_eq_true rfl) dX4_taken_49 ?_
          refine hv_iload_n 1 dX4_taken_52 rfl rfl ?_
          obtain ⟨x7, e_x7, h⟩ := hq_ob h
          refine hm_iaload KM e_x7 (Nat.le_of_ble_eq_true rfl) rfl dX4_taken_53 ?_
          obtain ⟨x8, e_x8, h⟩ := hq_ob h
          refine hv_callV [.int x7] [] [.int x8] (wk_m_kindOf KM e_x8) cs_X4_456 KM.recv rfl ⟨Nat.le_of_ble_eq_true rfl, Nat.le_of_ble_eq_true rfl⟩ rfl (Nat.le_of_ble_eq_true rfl) rfl dX4_taken_54 ?_
          refine hv_istore_n (L' := [(3, .int x8), (0, .ref m0), (1, .int p1), (2, .int p2)]) dX4_taken_57 rfl (Nat.le_of_ble_eq_true rfl) rfl ?_
          refine hv_sub [1, 2, 3, 0] rfl ?_
          refine wk_m_taken_L58 KM ?_ hk_F _ h
          · intro v10 h
            refine hv_iload_n 3 dX4_taken_75 rfl rfl ?_
            refine hv_iload_n 2 dX4_taken_76 rfl rfl ?_
            refine hv_icmp_ne (tgt := 93) dX4_taken_77 (by decide) (fun c14 => ?_) (fun c14 => ?_)
            · replace h := hq_in c14 h
              refine hv_bipush (v := -12) dX4_taken_93 (by decide) ?_
              have h := Option.some.inj h
              subst h
              exact hv_iret rfl dX4_taken_95
            · replace h := hq_ip c14 h
              refine hv_aload_n 0 dX4_taken_80 rfl rfl ?_
              refine hv_aload_n 0 dX4_taken_81 rfl rfl ?_
              refine hm_getA (j := 26) KM (fl_X4_88) rfl (Nat.le_of_ble_eq_true rfl) dX4_taken_82 ?_
              refine hv_iload_n 1 dX4_taken_85 rfl rfl ?_
              obtain ⟨x15, e_x15, h⟩ := hq_ob h
              refine hm_iaload KM e_x15 (Nat.le_of_ble_eq_true rfl) rfl dX4_taken_86 ?_
              obtain ⟨x16, e_x16, h⟩ := hq_ob h
              refine hv_callV [.int x15] [] [.int x16] (wk_m_kindOf KM e_x16) cs_X4_456 KM.recv rfl ⟨Nat.le_of_ble_eq_true rfl, Nat.le_of_ble_eq_true rfl⟩ rfl (Nat.le_of_ble_eq_true rfl) rfl dX4_taken_87 ?_
              refine hv_goto (tgt := 95) dX4_taken_90 (by decide) ?_
              have h := Option.some.inj h
              subst h
              exact hv_iret rfl dX4_taken_95
        · replace h := hq_in c6 h
          refine hv_bipush (v := -12) dX4_taken_44 (by decide) ?_
          have h := Option.some.inj h
          subst h
          exact hv_iret rfl dX4_taken_46
      · replace h := hq_in c4 h
        refine hv_bipush (v := -11) dX4_taken_30 (by decide) ?_
        have h := Option.some.inj h
        subst h
        exact hv_iret rfl dX4_taken_32
    · replace h := hq_ip c2 h
      refine hv_iconst (v := -1) dX4_taken_19 (by decide) ?_
      have h := Option.some.inj h
      subst h
      exact hv_iret rfl dX4_taken_20
def m_count (p1 : Int32) (s0 : hk_Ms) : Option (Int32) :=
  if p1 = 0 then
    some (hm_I s0 16)
  else
  if p1 = 1 then
    some (hm_I s0 33)
  else
  if p1 = 2 then
    some (hm_I s0 7)
  else
  if p1 = 3 then
    some (hm_I s0 37)
  else
  if p1 = 4 then
    some (hm_I s0 5)
  else
  if p1 = 5 then
    some (hm_I s0 45)
  else
  if p1 = 6 then
    some (hm_I s0 48)
  else
  some (-1 : Int32)
abbrev N_m_count (l : Launch) : hk_N := (l, cX4_count, "HeadReckonsModel", 2, (some .int), 0, 0, false)
set_option maxHeartbeats 4000000 in
theorem wk_m_count {l : Launch} {Gd : hk_G} {m0 : Nat} {st : hk_St} (KM : hk_KM m0 st) {p1 : Int32} {s0 : hk_Ms} {r : Int32} (h : m_count p1 s0 = some r) : hk_Met Gd l yX4_count cX4_count 2 (some .int) 0 0 [.ref m0, .int p1] (hk_mU m0 st s0) (some (.int r)) (hk_mU m0 st s0) := by
  refine hk_start "HeadReckonsModel" false (by decide +kernel) rfl (by decide) (Nat.le_of_ble_eq_true rfl) ?_
  show hk_V Gd (N_m_count l) (hk_end Gd (hk_mU m0 st s0) (some (.int r)) (hk_mU m0 st s0)) 0 [(0, .ref m0), (1, .int p1)] [] (hk_mU m0 st s0)
  unfold m_count at h
  refine hv_iload_n 1 dX4_count_0 rfl rfl ?_
  by_cases c1 : p1 = 0
  · replace h := hq_ip c1 h
    refine hv_tableIn (tgt := 44) (off := 43) dX4_count_1 (by rw [c1]; decide) (by rw [c1]; decide) (by rw [c1]; rfl) (by decide) ?_
    refine hv_aload_n 0 dX4_count_44 rfl rfl ?_
    refine hm_getI (f := 16) KM (fl_X4_172) dX4_count_45 ?_
    have h := Option.some.inj h
    subst h
    exact hv_iret rfl dX4_count_48
  replace h := hq_in c1 h
  by_cases c2 : p1 = 1
  · replace h := hq_ip c2 h
    refine hv_tableIn (tgt := 49) (off := 48) dX4_count_1 (by rw [c2]; decide) (by rw [c2]; decide) (by rw [c2]; rfl) (by decide) ?_
    refine hv_aload_n 0 dX4_count_49 rfl rfl ?_
    refine hm_getI (f := 33) KM (fl_X4_306) dX4_count_50 ?_
    have h := Option.some.inj h
    subst h
    exact hv_iret rfl dX4_count_53
  replace h := hq_in c2 h
  by_cases c3 : p1 = 2
  · replace h := hq_ip c3 h
    refine hv_tableIn (tgt := 54) (off := 53) dX4_count_1 (by rw [c3]; decide) (by rw [c3]; decide) (by rw [c3]; rfl) (by decide) ?_
    refine hv_aload_n 0 dX4_count_54 rfl rfl ?_
    refine hm_getI (f := 7) KM (fl_X4_117) dX4_count_55 ?_
    have h := Option.some.inj h
    subst h
    exact hv_iret rfl dX4_count_58
  replace h := hq_in c3 h
  by_cases c4 : p1 = 3
  · replace h := hq_ip c4 h
    refine hv_tableIn (tgt := 59) (off := 58) dX4_count_1 (by rw [c4]; decide) (by rw [c4]; decide) (by rw [c4]; rfl) (by decide) ?_
    refine hv_aload_n 0 dX4_count_59 rfl rfl ?_
    refine hm_getI (f := 37) KM (fl_X4_333) dX4_count_60 ?_
    have h := Option.some.inj h
    subst h
    exact hv_iret rfl dX4_count_63
  replace h := hq_in c4 h
  by_cases c5 : p1 = 4
  · replace h := hq_ip c5 h
    refine hv_tableIn (tgt := 64) (off := 63) dX4_count_1 (by rw [c5]; decide) (by rw [c5]; decide) (by rw [c5]; rfl) (by decide) ?_
    refine hv_aload_n 0 dX4_count_64 rfl rfl ?_
    refine hm_getI (f := 5) KM (fl_X4_105) dX4_count_65 ?_
    have h := Option.some.inj h
    subst h
    exact hv_iret rfl dX4_count_68
  replace h := hq_in c5 h
  by_cases c6 : p1 = 5
  · replace h := hq_ip c6 h
    refine hv_tableIn (tgt := 69) (off := 68) dX4_count_1 (by rw [c6]; decide) (by rw [c6]; decide) (by rw [c6]; rfl) (by decide) ?_
    refine hv_aload_n 0 dX4_count_69 rfl rfl ?_
    refine hm_getI (f := 45) KM (fl_X4_411) dX4_count_70 ?_
    have h := Option.some.inj h
    subst h
    exact hv_iret rfl dX4_count_73
  replace h := hq_in c6 h
  by_cases c7 : p1 = 6
  · replace h := hq_ip c7 h
    refine hv_tableIn (tgt := 74) (off := 73) dX4_count_1 (by rw [c7]; decide) (by rw [c7]; decide) (by rw [c7]; rfl) (by decide) ?_
    refine hv_aload_n 0 dX4_count_74 rfl rfl ?_
    refine hm_getI (f := 48) KM (fl_X4_416) dX4_count_75 ?_
    have h := Option.some.inj h
    subst h
    exact hv_iret rfl dX4_count_78
  replace h := hq_in c7 h
  refine hv_tableD (tgt := 79) [0, 1, 2, 3, 4, 5, 6] dX4_count_1 (by decide) (by decide) (List.forall_mem_cons.mpr ⟨lv_neT c1 (by decide), (List.forall_mem_cons.mpr ⟨lv_neT c2 (by decide), (List.forall_mem_cons.mpr ⟨lv_neT c3 (by decide), (List.forall_mem_cons.mpr ⟨lv_neT c4 (by decide), (List.forall_mem_cons.mpr ⟨lv_neT c5 (by decide), (List.forall_mem_cons.mpr ⟨lv_neT c6 (by decide), (List.forall_mem_cons.mpr ⟨lv_neT c7 (by decide), (fun _ q => absurd q List.not_mem_nil)⟩)⟩)⟩)⟩)⟩)⟩)⟩) (by decide) ?_
  refine hv_iconst (v := -1) dX4_count_79 (by decide) ?_
  have h := Option.some.inj h
  subst h
  exact hv_iret rfl dX4_count_80
