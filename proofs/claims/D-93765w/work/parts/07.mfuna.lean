set_option maxRecDepth 100000
def m_undo (s0 : hk_Ms) : Option (Int32 × hk_Ms) :=
  if (hm_I s0 5) = 0 then
    some ((-5 : Int32), s0)
  else
  hk_nm (hm_sI s0 5 ((hm_I s0 5) - (1 : Int32))) fun s2 =>
    (hm_lI s2 1 40 (hm_I s2 5)).bind fun x3 =>
    (hm_lI s2 2 40 (hm_I s2 5)).bind fun x4 =>
    (hm_tI s2 0 30 x3 x4).bind fun s5 =>
    some ((hm_I s5 5), s5)
abbrev N_m_undo (l : Launch) : hk_N := (l, cX4_undo, "HeadReckonsModel", 1, (some .int), 0, 0, false)
set_option maxHeartbeats 4000000 in
theorem wk_m_undo {l : Launch} {Gd : hk_G} {m0 : Nat} {st : hk_St} (KM : hk_KM m0 st) {s0 : hk_Ms} {r : Int32} {fin : hk_Ms} (h : m_undo s0 = some (r, fin)) : hk_Met Gd l yX4_undo cX4_undo 1 (some .int) 0 0 [.ref m0] (hk_mU m0 st s0) (some (.int r)) (hk_mU m0 st fin) := by
  refine hk_start "HeadReckonsModel" false (by decide +kernel) rfl (by decide) (Nat.le_of_ble_eq_true rfl) ?_
  show hk_V Gd (N_m_undo l) (hk_end Gd (hk_mU m0 st s0) (some (.int r)) (hk_mU m0 st fin)) 0 [(0, .ref m0)] [] (hk_mU m0 st s0)
  unfold m_undo at h
  refine hv_aload_n 0 dX4_undo_0 rfl rfl ?_
  refine hm_getI (f := 5) KM (fl_X4_105) dX4_undo_1 ?_
  refine hv_if_ne (tgt := 10) dX4_undo_4 (by decide) (fun c1 => ?_) (fun c1 => ?_)
  · replace h := hq_in c1 h
    refine hv_aload_n 0 dX4_undo_10 rfl rfl ?_
    refine hv_dup dX4_undo_11 rfl ?_
    refine hm_getI (f := 5) KM (fl_X4_105) dX4_undo_12 ?_
    refine hv_iconst (v := 1) dX4_undo_15 (by decide) ?_
    refine hv_isub dX4_undo_16 ?_
    obtain ⟨s2, e_s2, h⟩ := hq_nm h
    refine hm_putI (f := 5) KM (fp_X4_105) e_s2 dX4_undo_17 ?_
    refine hv_aload_n 0 dX4_undo_20 rfl rfl ?_
    refine hm_getA (j := 0) KM (fl_X4_9) rfl (Nat.le_of_ble_eq_true rfl) dX4_undo_21 ?_
    refine hv_aload_n 0 dX4_undo_24 rfl rfl ?_
    refine hm_getA (j := 1) KM (fl_X4_13) rfl (Nat.le_of_ble_eq_true rfl) dX4_undo_25 ?_
    refine hv_aload_n 0 dX4_undo_28 rfl rfl ?_
    refine hm_getI (f := 5) KM (fl_X4_105) dX4_undo_29 ?_
    obtain ⟨x3, e_x3, h⟩ := hq_ob h
    refine hm_iaload KM e_x3 (Nat.le_of_ble_eq_true rfl) rfl dX4_undo_32 ?_
    refine hv_aload_n 0 dX4_undo_33 rfl rfl ?_
    refine hm_getA (j := 2) KM (fl_X4_16) rfl (Nat.le_of_ble_eq_true rfl) dX4_undo_34 ?_
    refine hv_aload_n 0 dX4_undo_37 rfl rfl ?_
    refine hm_getI (f := 5) KM (fl_X4_105) dX4_undo_38 ?_
    obtain ⟨x4, e_x4, h⟩ := hq_ob h
    refine hm_iaload KM e_x4 (Nat.le_of_ble_eq_true rfl) rfl dX4_undo_41 ?_
    obtain ⟨s5, e_s5, h⟩ := hq_ob h
    refine hm_iastore KM e_s5 (Nat.le_of_ble_eq_true rfl) rfl dX4_undo_42 ?_
    refine hv_aload_n 0 dX4_undo_43 rfl rfl ?_
    refine hm_getI (f := 5) KM (fl_X4_105) dX4_undo_44 ?_
    obtain ⟨h1, h2⟩ := hq_ret h
    subst h1
    subst h2
    exact hv_iret rfl dX4_undo_47
  · replace h := hq_ip c1 h
    refine hv_bipush (v := -5) dX4_undo_7 (by decide) ?_
    obtain ⟨h1, h2⟩ := hq_ret h
    subst h1
    subst h2
    exact hv_iret rfl dX4_undo_9
def m_redo (s0 : hk_Ms) : Option (Int32 × hk_Ms) :=
  if (hm_I s0 5) = (hm_I s0 4) then
    some ((-5 : Int32), s0)
  else
  (hm_lI s0 1 40 (hm_I s0 5)).bind fun x2 =>
    (hm_lI s0 3 40 (hm_I s0 5)).bind fun x3 =>
    (hm_tI s0 0 30 x2 x3).bind fun s4 =>
    hk_nm (hm_sI s4 5 ((hm_I s4 5) + (1 : Int32))) fun s5 =>
    some ((hm_I s5 4) - (hm_I s5 5), s5)
abbrev N_m_redo (l : Launch) : hk_N := (l, cX4_redo, "HeadReckonsModel", 1, (some .int), 0, 0, false)
set_option maxHeartbeats 4000000 in
theorem wk_m_redo {l : Launch} {Gd : hk_G} {m0 : Nat} {st : hk_St} (KM : hk_KM m0 st) {s0 : hk_Ms} {r : Int32} {fin : hk_Ms} (h : m_redo s0 = some (r, fin)) : hk_Met Gd l yX4_redo cX4_redo 1 (some .int) 0 0 [.ref m0] (hk_mU m0 st s0) (some (.int r)) (hk_mU m0 st fin) := by
  refine hk_start "HeadReckonsModel" false (by decide +kernel) rfl (by decide) (Nat.le_of_ble_eq_true rfl) ?_
  show hk_V Gd (N_m_redo l) (hk_end Gd (hk_mU m0 st s0) (some (.int r)) (hk_mU m0 st fin)) 0 [(0, .ref m0)] [] (hk_mU m0 st s0)
  unfold m_redo at h
  refine hv_aload_n 0 dX4_redo_0 rfl rfl ?_
  refine hm_getI (f := 5) KM (fl_X4_105) dX4_redo_1 ?_
  refine hv_aload_n 0 dX4_redo_4 rfl rfl ?_
  refine hm_getI (f := 4) KM (fl_X4_108) dX4_redo_5 ?_
  refine hv_icmp_ne (tgt := 14) dX4_redo_8 (by decide) (fun c1 => ?_) (fun c1 => ?_)
  · replace h := hq_in c1 h
    refine hv_aload_n 0 dX4_redo_14 rfl rfl ?_
    refine hm_getA (j := 0) KM (fl_X4_9) rfl (Nat.le_of_ble_eq_true rfl) dX4_redo_15 ?_
    refine hv_aload_n 0 dX4_redo_18 rfl rfl ?_
    refine hm_getA (j := 1) KM (fl_X4_13) rfl (Nat.le_of_ble_eq_true rfl) dX4_redo_19 ?_
    refine hv_aload_n 0 dX4_redo_22 rfl rfl ?_
    refine hm_getI (f := 5) KM (fl_X4_105) dX4_redo_23 ?_
    obtain ⟨x2, e_x2, h⟩ := hq_ob h
    refine hm_iaload KM e_x2 (Nat.le_of_ble_eq_true rfl) rfl dX4_redo_26 ?_
    refine hv_aload_n 0 dX4_redo_27 rfl rfl ?_
    refine hm_getA (j := 3) KM (fl_X4_19) rfl (Nat.le_of_ble_eq_true rfl) dX4_redo_28 ?_
    refine hv_aload_n 0 dX4_redo_31 rfl rfl ?_
    refine hm_getI (f := 5) KM (fl_X4_105) dX4_redo_32 ?_
    obtain ⟨x3, e_x3, h⟩ := hq_ob h
    refine hm_iaload KM e_x3 (Nat.le_of_ble_eq_true rfl) rfl dX4_redo_35 ?_
    obtain ⟨s4, e_s4, h⟩ := hq_ob h
    refine hm_iastore KM e_s4 (Nat.le_of_ble_eq_true rfl) rfl dX4_redo_36 ?_
    refine hv_aload_n 0 dX4_redo_37 rfl rfl ?_
    refine hv_dup dX4_redo_38 rfl ?_
    refine hm_getI (f := 5) KM (fl_X4_105) dX4_redo_39 ?_
    refine hv_iconst (v := 1) dX4_redo_42 (by decide) ?_
    refine hv_iadd dX4_redo_43 ?_
    obtain ⟨s5, e_s5, h⟩ := hq_nm h
    refine hm_putI (f := 5) KM (fp_X4_105) e_s5 dX4_redo_44 ?_
    refine hv_aload_n 0 dX4_redo_47 rfl rfl ?_
    refine hm_getI (f := 4) KM (fl_X4_108) dX4_redo_48 ?_
    refine hv_aload_n 0 dX4_redo_51 rfl rfl ?_
    refine hm_getI (f := 5) KM (fl_X4_105) dX4_redo_52 ?_
    refine hv_isub dX4_redo_55 ?_
    obtain ⟨h1, h2⟩ := hq_ret h
    subst h1
    subst h2
    exact hv_iret rfl dX4_redo_56
  · replace h := hq_ip c1 h
    refine hv_bipush (v := -5) dX4_redo_11 (by decide) ?_
    obtain ⟨h1, h2⟩ := hq_ret h
    subst h1
    subst h2
    exact hv_iret rfl dX4_redo_13
def m_within (p1 : Int64) (p2 : Int64) (p3 : Int64) : Int32 :=
  if p1 < p2 then
    (0 : Int32)
  else
  if p3 < p1 then
    (0 : Int32)
  else
  (1 : Int32)
theorem bz_m_within {p1 : Int64} {p2 : Int64} {p3 : Int64} : m_within p1 p2 p3 &&& 1 = m_within p1 p2 p3 := by
  unfold m_within
  try unfold hk_nm
  repeat' split
  all_goals first | rfl
abbrev N_m_within (l : Launch) : hk_N := (l, cX4_within, "HeadReckonsModel", 6, (some .boolean), 0, 0, false)
set_option maxHeartbeats 4000000 in
theorem wk_m_within {l : Launch} {Gd : hk_G} {st : hk_St} {p1 : Int64} {p2 : Int64} {p3 : Int64} {r : Int32} (h : m_within p1 p2 p3 = r) : hk_Met Gd l yX4_within cX4_within 6 (some .boolean) 0 0 [.long p1, .long p2, .long p3] st (some (.int r)) st := by
  refine hk_start "HeadReckonsModel" false (by decide +kernel) rfl (by decide) (Nat.le_of_ble_eq_true rfl) ?_
  show hk_V Gd (N_m_within l) (hk_end Gd st (some (.int r)) st) 0 [(0, .long p1), (2, .long p2), (4, .long p3)] [] st
  unfold m_within at h
  refine hv_lload_n 0 dX4_within_0 rfl rfl ?_
  refine hv_lload_n 1 dX4_within_1 rfl rfl ?_
  refine hv_lcmp_lt (tgt := 17) dX4_within_2 dX4_within_3 (by decide) (fun c1 => ?_) (fun c1 => ?_)
  · replace h := hq_ip c1 h
    refine hv_iconst (v := 0) dX4_within_17 (by decide) ?_
    subst h
    exact hv_zret (ty := .boolean) rfl rfl dX4_within_18
  · replace h := hq_in c1 h
    refine hv_lload_n 0 dX4_within_6 rfl rfl ?_
    refine hv_lload 2 dX4_within_7 rfl ?_
    refine hv_lcmp_gt (tgt := 17) dX4_within_9 dX4_within_10 (by decide) (fun c2 => ?_) (fun c2 => ?_)
    · replace h := hq_ip c2 h
      refine hv_iconst (v := 0) dX4_within_17 (by decide) ?_
      subst h
      exact hv_zret (ty := .boolean) rfl rfl dX4_within_18
    · replace h := hq_in c2 h
      refine hv_iconst (v := 1) dX4_within_13 (by decide) ?_
      refine hv_goto (tgt := 18) dX4_within_14 (by decide) ?_
      subst h
      exact hv_zret (ty := .boolean) rfl rfl dX4_within_18
def m_feed_L30b (p1 : Int32) (p2 : Int32) (e0 : hk_Ms → Option (Int32 × hk_Ms)) (rc : Int32 → hk_Ms → Option (Int32 × hk_Ms)) (v3 : Int32) (s4 : hk_Ms) : Option (Int32 × hk_Ms) :=
  if p1 ≤ v3 then
    e0 s4
  else
  (hm_tI s4 4 120 (hm_I s4 7) ((p2 >>> (((8 : Int32) * v3) &&& 31)) &&& (255 : Int32))).bind fun s7 =>
  hk_nm (hm_sI s7 7 ((hm_I s7 7) + (1 : Int32))) fun s8 =>
  hk_nm (v3 + (1 : Int32)) fun x9 =>
  rc x9 s8
def m_feed_L30 (p1 : Int32) (p2 : Int32) (e0 : hk_Ms → Option (Int32 × hk_Ms)) : Nat → Int32 → hk_Ms → Option (Int32 × hk_Ms)
  | 0 => fun _ _ => none
  | n + 1 => m_feed_L30b p1 p2 e0 (m_feed_L30 p1 p2 e0 n)
def m_feed (p1 : Int32) (p2 : Int32) (s0 : hk_Ms) : Option (Int32 × hk_Ms) :=
  if (m_within p1.toInt64 (1 : Int64) (4 : Int64)) = 0 then
    some ((-1 : Int32), s0)
  else
  if ((hm_I s0 7) + p1) ≤ (120 : Int32) then
      m_feed_L30 p1 p2  (fun (s5 : hk_Ms) =>
        some ((hm_I s5 7), s5)) hk_F (0 : Int32) s0
    else
    some ((-3 : Int32), s0)
abbrev N_m_feed (l : Launch) : hk_N := (l, cX4_feed, "HeadReckonsModel", 4, (some .int), 1, 25, false)
set_option maxHeartbeats 4000000 in
theorem wk_m_feed_L30b {l : Launch} {Gd : hk_G} {m0 : Nat} {st : hk_St} (KM : hk_KM m0 st) {p1 : Int32} {p2 : Int32} {s0 : hk_Ms} {r : Int32} {fin : hk_Ms} {e0 : hk_Ms → Option (Int32 × hk_Ms)} {rc : Int32 → hk_Ms → Option (Int32 × hk_Ms)} (hrc : ∀ (v3 : Int32) (s4 : hk_Ms), rc v3 s4 = some (r, fin) → hk_V Gd (N_m_feed l) (hk_end Gd (hk_mU m0 st s0) (some (.int r)) (hk_mU m0 st fin)) 30 [(0, .ref m0), (1, .int p1), (2, .int p2), (3, .int v3)] [] (hk_mU m0 st s4)) (he0 : ∀ (s5 : hk_Ms), e0 s5 = some (r, fin) → hk_V Gd (N_m_feed l) (hk_end Gd (hk_mU m0 st s0) (some (.int r)) (hk_mU m0 st fin)) 70 [(0, .ref m0)] [] (hk_mU m0 st s5)) {v3 : Int32} {s4 : hk_Ms} (h : m_feed_L30b p1 p2 e0 rc v3 s4 = some (r, fin)) : hk_V Gd (N_m_feed l) (hk_end Gd (hk_mU m0 st s0) (some (.int r)) (hk_mU m0 st fin)) 30 [(0, .ref m0), (1, .int p1), (2, .int p2), (3, .int v3)] [] (hk_mU m0 st s4) := by
  unfold m_feed_L30b at h
  refine hv_iload_n 3 dX4_feed_30 rfl rfl ?_
  refine hv_iload_n 1 dX4_feed_31 rfl rfl ?_
  refine hv_icmp_ge (tgt := 70) dX4_feed_32 (by decide) (fun c6 => ?_) (fun c6 => ?_)
  · replace h := hq_ip c6 h
    refine hv_sub [0] rfl ?_
    exact he0 _ h
  · replace h := hq_in c6 h
    refine hv_aload_n 0 dX4_feed_35 rfl rfl ?_
    refine hm_getA (j := 4) KM (fl_X4_22) rfl (Nat.le_of_ble_eq_true rfl) dX4_feed_36 ?_
    refine hv_aload_n 0 dX4_feed_39 rfl rfl ?_
    refine hm_getI (f := 7) KM (fl_X4_117) dX4_feed_40 ?_
    refine hv_iload_n 2 dX4_feed_43 rfl rfl ?_
    refine hv_bipush (v := 8) dX4_feed_44 (by decide) ?_
    refine hv_iload_n 3 dX4_feed_46 rfl rfl ?_
    refine hv_imul dX4_feed_47 ?_
    refine hv_ishr dX4_feed_48 ?_
    refine hv_sipush (v := 255) dX4_feed_49 (by decide) ?_
    refine hv_iand dX4_feed_52 ?_
    obtain ⟨s7, e_s7, h⟩ := hq_ob h
    refine hm_iastore KM e_s7 (Nat.le_of_ble_eq_true rfl) rfl dX4_feed_53 ?_
    refine hv_aload_n 0 dX4_feed_54 rfl rfl ?_
    refine hv_dup dX4_feed_55 rfl ?_
    refine hm_getI (f := 7) KM (fl_X4_117) dX4_feed_56 ?_
    refine hv_iconst (v := 1) dX4_feed_59 (by decide) ?_
    refine hv_iadd dX4_feed_60 ?_
    obtain ⟨s8, e_s8, h⟩ := hq_nm h
    refine hm_putI (f := 7) KM (fp_X4_117) e_s8 dX4_feed_61 ?_
    obtain ⟨x9, e_x9, h⟩ := hq_nm h
    refine hv_iinc (v := x9) (L' := [(3, .int x9), (0, .ref m0), (1, .int p1), (2, .int p2)]) 3 dX4_feed_64 rfl (by rw [e_x9]; rfl) (Nat.le_of_ble_eq_true rfl) rfl ?_
    refine hv_goto (tgt := 30) dX4_feed_67 (by decide) ?_
    refine hv_sub [1, 2, 3, 0] rfl ?_
    exact hrc _ _ h
theorem wk_m_feed_L30 {l : Launch} {Gd : hk_G} {m0 : Nat} {st : hk_St} (KM : hk_KM m0 st) {p1 : Int32} {p2 : Int32} {s0 : hk_Ms} {r : Int32} {fin : hk_Ms} {e0 : hk_Ms → Option (Int32 × hk_Ms)} (he0 : ∀ (s5 : hk_Ms), e0 s5 = some (r, fin) → hk_V Gd (N_m_feed l) (hk_end Gd (hk_mU m0 st s0) (some (.int r)) (hk_mU m0 st fin)) 70 [(0, .ref m0)] [] (hk_mU m0 st s5)) : ∀ (n : Nat) (v3 : Int32) (s4 : hk_Ms), m_feed_L30 p1 p2 e0 n v3 s4 = some (r, fin) → hk_V Gd (N_m_feed l) (hk_end Gd (hk_mU m0 st s0) (some (.int r)) (hk_mU m0 st fin)) 30 [(0, .ref m0), (1, .int p1), (2, .int p2), (3, .int v3)] [] (hk_mU m0 st s4) := by
  intro n
  induction n with
  | zero => intro v3 s4 h; cases h
  | succ n ih => intro v3 s4 h; exact wk_m_feed_L30b KM ih he0 h
set_option maxHeartbeats 4000000 in
theorem wk_m_feed {l : Launch} {Gd : hk_G} {m0 : Nat} {st : hk_St} (KM : hk_KM m0 st) {p1 : Int32} {p2 : Int32} {s0 : hk_Ms} {r : Int32} {fin : hk_Ms} (h : m_feed p1 p2 s0 = some (r, fin)) : hk_Met Gd l yX4_feed cX4_feed 4 (some .int) 1 25 [.ref m0, .int p1, .int p2] (hk_mU m0 st s0) (some (.int r)) (hk_mU m0 st fin) := by
  refine hk_start "HeadReckonsModel" false (by decide +kernel) rfl (by decide) (Nat.le_of_ble_eq_true rfl) ?_
  show hk_V Gd (N_m_feed l) (hk_end Gd (hk_mU m0 st s0) (some (.int r)) (hk_mU m0 st fin)) 0 [(0, .ref m0), (1, .int p1), (2, .int p2)] [] (hk_mU m0 st s0)
  unfold m_feed at h
  refine hv_iload_n 1 dX4_feed_0 rfl rfl ?_
  refine hv_i2l dX4_feed_1 ?_
  refine hv_lconst (v := 1) dX4_feed_2 (by decide) ?_
  refine hv_ldc2 q1781 dX4_feed_3 ?_
  refine hv_callS [.long p1.toInt64, .long (1 : Int64), .long (4 : Int64)] [] [.int (m_within p1.toInt64 (1 : Int64) (4 : Int64))] (wk_m_within rfl) cs_X4_113 rfl ⟨Nat.le_of_ble_eq_true rfl, Nat.le_of_ble_eq_true rfl⟩ rfl (Nat.le_of_ble_eq_true rfl) rfl dX4_feed_6 ?_
  refine hv_if_ne (tgt := 14) dX4_feed_9 (by decide) (fun c1 => ?_) (fun c1 => ?_)
  · replace h := hq_in c1 h
    refine hv_aload_n 0 dX4_feed_14 rfl rfl ?_
    refine hm_getI (f := 7) KM (fl_X4_117) dX4_feed_15 ?_
    refine hv_iload_n 1 dX4_feed_18 rfl rfl ?_
    refine hv_iadd dX4_feed_19 ?_
    refine hv_bipush (v := 120) dX4_feed_20 (by decide) ?_
    refine hv_icmp_le (tgt := 28) dX4_feed_22 (by decide) (fun c2 => ?_) (fun c2 => ?_)
    · replace h := hq_ip c2 h
      refine hv_iconst (v := 0) dX4_feed_28 (by decide) ?_
      refine hv_istore_n (L' := [(3, .int (0 : Int32)), (0, .ref m0), (1, .int p1), (2, .int p2)]) dX4_feed_29 rfl (Nat.le_of_ble_eq_true rfl) rfl ?_
      refine hv_sub [1, 2, 3, 0] rfl ?_
      refine wk_m_feed_L30 KM ?_ hk_F _ _ h
      · intro s5 h
        refine hv_aload_n 0 dX4_feed_70 rfl rfl ?_
        refine hm_getI (f := 7) KM (fl_X4_117) dX4_feed_71 ?_
        obtain ⟨h1, h2⟩ := hq_ret h
        subst h1
        subst h2
        exact hv_iret rfl dX4_feed_74
    · replace h := hq_in c2 h
      refine hv_bipush (v := -3) dX4_feed_25 (by decide) ?_
      obtain ⟨h1, h2⟩ := hq_ret h
      subst h1
      subst h2
      exact hv_iret rfl dX4_feed_27
  · replace h := hq_ip c1 h
    refine hv_iconst (v := -1) dX4_feed_12 (by decide) ?_
    obtain ⟨h1, h2⟩ := hq_ret h
    subst h1
    subst h2
    exact hv_iret rfl dX4_feed_13
def m_byteAt (s0 : hk_Ms) : Option (Int32) :=
  if (hm_I s0 12) ≤ (hm_I s0 11) then
    some (0 : Int32)
  else
  if 0 ≤ (hm_I s0 10) then
    (hm_lI s0 5 120 ((hm_I s0 10) + (hm_I s0 11))).bind fun x3 =>
    some x3
  else
  (hm_lI s0 4 120 (hm_I s0 11)).bind fun x4 =>
  some x4
abbrev N_m_byteAt (l : Launch) : hk_N := (l, cX4_byteAt, "HeadReckonsModel", 1, (some .int), 0, 0, false)
set_option maxHeartbeats 4000000 in
theorem wk_m_byteAt {l : Launch} {Gd : hk_G} {m0 : Nat} {st : hk_St} (KM : hk_KM m0 st) {s0 : hk_Ms} {r : Int32} (h : m_byteAt s0 = some r) : hk_Met Gd l yX4_byteAt cX4_byteAt 1 (some .int) 0 0 [.ref m0] (hk_mU m0 st s0) (some (.int r)) (hk_mU m0 st s0) := by
  refine hk_start "HeadReckonsModel" false (by decide +kernel) rfl (by decide) (Nat.le_of_ble_eq_true rfl) ?_
  show hk_V Gd (N_m_byteAt l) (hk_end Gd (hk_mU m0 st s0) (some (.int r)) (hk_mU m0 st s0)) 0 [(0, .ref m0)] [] (hk_mU m0 st s0)
  unfold m_byteAt at h
  refine hv_aload_n 0 dX4_byteAt_0 rfl rfl ?_
  refine hm_getI (f := 11) KM (fl_X4_120) dX4_byteAt_1 ?_
  refine hv_aload_n 0 dX4_byteAt_4 rfl rfl ?_
  refine hm_getI (f := 12) KM (fl_X4_123) dX4_byteAt_5 ?_
  refine hv_icmp_ge (tgt := 47) dX4_byteAt_8 (by decide) (fun c1 => ?_) (fun c1 => ?_)
  · replace h := hq_ip c1 h
    refine hv_iconst (v := 0) dX4_byteAt_47 (by decide) ?_
    have h := Option.some.inj h
    subst h
    exact hv_iret rfl dX4_byteAt_48
  · replace h := hq_in c1 h
    refine hv_aload_n 0 dX4_byteAt_11 rfl rfl ?_
    refine hm_getI (f := 10) KM (fl_X4_126) dX4_byteAt_12 ?_
    refine hv_if_ge (tgt := 30) dX4_byteAt_15 (by decide) (fun c2 => ?_) (fun c2 => ?_)
    · replace h := hq_ip c2 h
      refine hv_aload_n 0 dX4_byteAt_30 rfl rfl ?_
      refine hm_getA (j := 5) KM (fl_X4_25) rfl (Nat.le_of_ble_eq_true rfl) dX4_byteAt_31 ?_
      refine hv_aload_n 0 dX4_byteAt_34 rfl rfl ?_
      refine hm_getI (f := 10) KM (fl_X4_126) dX4_byteAt_35 ?_
      refine hv_aload_n 0 dX4_byteAt_38 rfl rfl ?_
      refine hm_getI (f := 11) KM (fl_X4_120) dX4_byteAt_39 ?_
      refine hv_iadd dX4_byteAt_42 ?_
      obtain ⟨x3, e_x3, h⟩ := hq_ob h
      refine hm_iaload KM e_x3 (Nat.le_of_ble_eq_true rfl) rfl dX4_byteAt_43 ?_
      refine hv_goto (tgt := 48) dX4_byteAt_44 (by decide) ?_
      have h := Option.some.inj h
      subst h
      exact hv_iret rfl dX4_byteAt_48
    · replace h := hq_in c2 h
      refine hv_aload_n 0 dX4_byteAt_18 rfl rfl ?_
      refine hm_getA (j := 4) KM (fl_X4_22) rfl (Nat.le_of_ble_eq_true rfl) dX4_byteAt_19 ?_
      refine hv_aload_n 0 dX4_byteAt_22 rfl rfl ?_
      refine hm_getI (f := 11) KM (fl_X4_120) dX4_byteAt_23 ?_
      obtain ⟨x4, e_x4, h⟩ := hq_ob h
      refine hm_iaload KM e_x4 (Nat.le_of_ble_eq_true rfl) rfl dX4_byteAt_26 ?_
      refine hv_goto (tgt := 48) dX4_byteAt_27 (by decide) ?_
      have h := Option.some.inj h
      subst h
      exact hv_iret rfl dX4_byteAt_48
def m_wrong (s0 : hk_Ms) : Option (Int32 × hk_Ms) :=
  if 0 ≤ (hm_I s0 13) then
    hk_nm (hm_sI s0 13 (hm_I s0 13)) fun s2 =>
    some ((0 : Int32), s2)
  else
  hk_nm (hm_sI s0 13 (hm_I s0 11)) fun s3 =>
  some ((0 : Int32), s3)
abbrev N_m_wrong (l : Launch) : hk_N := (l, cX4_wrong, "HeadReckonsModel", 1, (some .int), 0, 0, false)
set_option maxHeartbeats 4000000 in
theorem wk_m_wrong {l : Launch} {Gd : hk_G} {m0 : Nat} {st : hk_St} (KM : hk_KM m0 st) {s0 : hk_Ms} {r : Int32} {fin : hk_Ms} (h : m_wrong s0 = some (r, fin)) : hk_Met Gd l yX4_wrong cX4_wrong 1 (some .int) 0 0 [.ref m0] (hk_mU m0 st s0) (some (.int r)) (hk_mU m0 st fin) := by
  refine hk_start "HeadReckonsModel" false (by decide +kernel) rfl (by decide) (Nat.le_of_ble_eq_true rfl) ?_
  show hk_V Gd (N_m_wrong l) (hk_end Gd (hk_mU m0 st s0) (some (.int r)) (hk_mU m0 st fin)) 0 [(0, .ref m0)] [] (hk_mU m0 st s0)
  unfold m_wrong at h
  refine hv_aload_n 0 dX4_wrong_0 rfl rfl ?_
  refine hv_aload_n 0 dX4_wrong_1 rfl rfl ?_
  refine hm_getI (f := 13) KM (fl_X4_129) dX4_wrong_2 ?_
  refine hv_if_ge (tgt := 15) dX4_wrong_5 (by decide) (fun c1 => ?_) (fun c1 => ?_)
  · replace h := hq_ip c1 h
    refine hv_aload_n 0 dX4_wrong_15 rfl rfl ?_
    refine hm_getI (f := 13) KM (fl_X4_129) dX4_wrong_16 ?_
    obtain ⟨s2, e_s2, h⟩ := hq_nm h
    refine hm_putI (f := 13) KM (fp_X4_129) e_s2 dX4_wrong_19 ?_
    refine hv_iconst (v := 0) dX4_wrong_22 (by decide) ?_
    obtain ⟨h1, h2⟩ := hq_ret h
    subst h1
    subst h2
    exact hv_iret rfl dX4_wrong_23
  · replace h := hq_in c1 h
    refine hv_aload_n 0 dX4_wrong_8 rfl rfl ?_
    refine hm_getI (f := 11) KM (fl_X4_120) dX4_wrong_9 ?_
    refine hv_goto (tgt := 19) dX4_wrong_12 (by decide) ?_
    obtain ⟨s3, e_s3, h⟩ := hq_nm h
    refine hm_putI (f := 13) KM (fp_X4_129) e_s3 dX4_wrong_19 ?_
    refine hv_iconst (v := 0) dX4_wrong_22 (by decide) ?_
    obtain ⟨h1, h2⟩ := hq_ret h
    subst h1
    subst h2
    exact hv_iret rfl dX4_wrong_23
def m_takes (p1 : Int32) (s0 : hk_Ms) : Option (Int32 × hk_Ms) :=
  if 0 ≤ (hm_I s0 13) then
    some ((0 : Int32), s0)
  else
  (m_byteAt  s0).bind fun x2 =>
  if x2 = p1 then
    hk_nm (hm_sI s0 11 ((hm_I s0 11) + (1 : Int32))) fun s4 =>
    some ((1 : Int32), s4)
  else
  some ((0 : Int32), s0)
abbrev N_m_takes (l : Launch) : hk_N := (l, cX4_takes, "HeadReckonsModel", 2, (some .boolean), 1, 20, false)
set_option maxHeartbeats 4000000 in
theorem wk_m_takes {l : Launch} {Gd : hk_G} {m0 : Nat} {st : hk_St} (KM : hk_KM m0 st) {p1 : Int32} {s0 : hk_Ms} {r : Int32} {fin : hk_Ms} (h : m_takes p1 s0 = some (r, fin)) : hk_Met Gd l yX4_takes cX4_takes 2 (some .boolean) 1 20 [.ref m0, .int p1] (hk_mU m0 st s0) (some (.int r)) (hk_mU m0 st fin) := by
  refine hk_start "HeadReckonsModel" false (by decide +kernel) rfl (by decide) (Nat.le_of_ble_eq_true rfl) ?_
  show hk_V Gd (N_m_takes l) (hk_end Gd (hk_mU m0 st s0) (some (.int r)) (hk_mU m0 st fin)) 0 [(0, .ref m0), (1, .int p1)] [] (hk_mU m0 st s0)
  unfold m_takes at h
  refine hv_aload_n 0 dX4_takes_0 rfl rfl ?_
  refine hm_getI (f := 13) KM (fl_X4_129) dX4_takes_1 ?_
  refine hv_if_ge (tgt := 15) dX4_takes_4 (by decide) (fun c1 => ?_) (fun c1 => ?_)
  · replace h := hq_ip c1 h
    refine hv_iconst (v := 0) dX4_takes_15 (by decide) ?_
    obtain ⟨h1, h2⟩ := hq_ret h
    subst h1
    subst h2
    exact hv_zret (ty := .boolean) rfl rfl dX4_takes_16
  · replace h := hq_in c1 h
    refine hv_aload_n 0 dX4_takes_7 rfl rfl ?_
    obtain ⟨x2, e_x2, h⟩ := hq_ob h
    refine hv_callV [] [] [.int x2] (wk_m_byteAt KM e_x2) cs_X4_132 KM.recv rfl ⟨Nat.le_of_ble_eq_true rfl, Nat.le_of_ble_eq_true rfl⟩ rfl (Nat.le_of_ble_eq_true rfl) rfl dX4_takes_8 ?_
    refine hv_iload_n 1 dX4_takes_11 rfl rfl ?_
    refine hv_icmp_eq (tgt := 17) dX4_takes_12 (by decide) (fun c3 => ?_) (fun c3 => ?_)
    · replace h := hq_ip c3 h
      refine hv_aload_n 0 dX4_takes_17 rfl rfl ?_
      refine hv_dup dX4_takes_18 rfl ?_
      refine hm_getI (f := 11) KM (fl_X4_120) dX4_takes_19 ?_
      refine hv_iconst (v := 1) dX4_takes_22 (by decide) ?_
      refine hv_iadd dX4_takes_23 ?_
      obtain ⟨s4, e_s4, h⟩ := hq_nm h
      refine hm_putI (f := 11) KM (fp_X4_120) e_s4 dX4_takes_24 ?_
      refine hv_iconst (v := 1) dX4_takes_27 (by decide) ?_
      obtain ⟨h1, h2⟩ := hq_ret h
      subst h1
      subst h2
      exact hv_zret (ty := .boolean) rfl rfl dX4_takes_28
    · replace h := hq_in c3 h
      refine hv_iconst (v := 0) dX4_takes_15 (by decide) ?_
      obtain ⟨h1, h2⟩ := hq_ret h
      subst h1
      subst h2
      exact hv_zret (ty := .boolean) rfl rfl dX4_takes_16
def m_nameOf (p1 : Int32) : Int32 :=
  if p1 = 99 then
    (7 : Int32)
  else
  if p1 = 100 then
    (4 : Int32)
  else
  if p1 = 109 then
    (0 : Int32)
  else
  if p1 = 110 then
    (1 : Int32)
  else
  if p1 = 116 then
    (6 : Int32)
  else
  if p1 = 120 then
    (2 : Int32)
  else
  if p1 = 121 then
    (3 : Int32)
  else
  if p1 = 122 then
    (5 : Int32)
  else
  (-1 : Int32)
abbrev N_m_nameOf (l : Launch) : hk_N := (l, cX4_nameOf, "HeadReckonsModel", 1, (some .int), 0, 0, false)
set_option maxHeartbeats 4000000 in
theorem wk_m_nameOf {l : Launch} {Gd : hk_G} {st : hk_St} {p1 : Int32} {r : Int32} (h : m_nameOf p1 = r) : hk_Met Gd l yX4_nameOf cX4_nameOf 1 (some .int) 0 0 [.int p1] st (some (.int r)) st := by
  refine hk_start "HeadReckonsModel" false (by decide +kernel) rfl (by decide) (Nat.le_of_ble_eq_true rfl) ?_
  show hk_V Gd (N_m_nameOf l) (hk_end Gd st (some (.int r)) st) 0 [(0, .int p1)] [] st
  unfold m_nameOf at h
  refine hv_iload_n 0 dX4_nameOf_0 rfl rfl ?_
  by_cases c1 : p1 = 99
  · replace h := hq_ip c1 h
    refine hv_tableIn (tgt := 127) (off := 126) dX4_nameOf_1 (by rw [c1]; decide) (by rw [c1]; decide) (by rw [c1]; rfl) (by decide) ?_
    refine hv_bipush (v := 7) dX4_nameOf_127 (by decide) ?_
    subst h
    exact hv_iret rfl dX4_nameOf_129
  replace h := hq_in c1 h
  by_cases c2 : p1 = 100
  · replace h := hq_ip c2 h
    refine hv_tableIn (tgt := 120) (off := 119) dX4_nameOf_1 (by rw [c2]; decide) (by rw [c2]; decide) (by rw [c2]; rfl) (by decide) ?_
    refine hv_iconst (v := 4) dX4_nameOf_120 (by decide) ?_
    subst h
    exact hv_iret rfl dX4_nameOf_121
  replace h := hq_in c2 h
  by_cases c3 : p1 = 109
  · replace h := hq_ip c3 h
    refine hv_tableIn (tgt := 112) (off := 111) dX4_nameOf_1 (by rw [c3]; decide) (by rw [c3]; decide) (by rw [c3]; rfl) (by decide) ?_
    refine hv_iconst (v := 0) dX4_nameOf_112 (by decide) ?_
    subst h
    exact hv_iret rfl dX4_nameOf_113
  replace h := hq_in c3 h
  by_cases c4 : p1 = 110
  · replace h := hq_ip c4 h
    refine hv_tableIn (tgt := 114) (off := 113) dX4_nameOf_1 (by rw [c4]; decide) (by rw [c4]; decide) (by rw [c4]; rfl) (by decide) ?_
    refine hv_iconst (v := 1) dX4_nameOf_114 (by decide) ?_
    subst h
    exact hv_iret rfl dX4_nameOf_115
  replace h := hq_in c4 h
  by_cases c5 : p1 = 116
  · replace h := hq_ip c5 h
    refine hv_tableIn (tgt := 124) (off := 123) dX4_nameOf_1 (by rw [c5]; decide) (by rw [c5]; decide) (by rw [c5]; rfl) (by decide) ?_
    refine hv_bipush (v := 6) dX4_nameOf_124 (by decide) ?_
    subst h
    exact hv_iret rfl dX4_nameOf_126
  replace h := hq_in c5 h
  by_cases c6 : p1 = 120
  · replace h := hq_ip c6 h
    refine hv_tableIn (tgt := 116) (off := 115) dX4_nameOf_1 (by rw [c6]; decide) (by rw [c6]; decide) (by rw [c6]; rfl) (by decide) ?_
    refine hv_iconst (v := 2) dX4_nameOf_116 (by decide) ?_
    subst h
    exact hv_iret rfl dX4_nameOf_117
  replace h := hq_in c6 h
  by_cases c7 : p1 = 121
  · replace h := hq_ip c7 h
    refine hv_tableIn (tgt := 118) (off := 117) dX4_nameOf_1 (by rw [c7]; decide) (by rw [c7]; decide) (by rw [c7]; rfl) (by decide) ?_
    refine hv_iconst (v := 3) dX4_nameOf_118 (by decide) ?_
    subst h
    exact hv_iret rfl dX4_nameOf_119
  replace h := hq_in c7 h
  by_cases c8 : p1 = 122
  · replace h := hq_ip c8 h
    refine hv_tableIn (tgt := 122) (off := 121) dX4_nameOf_1 (by rw [c8]; decide) (by rw [c8]; decide) (by rw [c8]; rfl) (by decide) ?_
    refine hv_iconst (v := 5) dX4_nameOf_122 (by decide) ?_
    subst h
    exact hv_iret rfl dX4_nameOf_123
  replace h := hq_in c8 h
  refine hv_tableD (tgt := 130) [99, 100, 109, 110, 116, 120, 121, 122] dX4_nameOf_1 (by decide) (by decide) (List.forall_mem_cons.mpr ⟨lv_neT c1 (by decide), (List.forall_mem_cons.mpr ⟨lv_neT c2 (by decide), (List.forall_mem_cons.mpr ⟨lv_neT c3 (by decide), (List.forall_mem_cons.mpr ⟨lv_neT c4 (by decide), (List.forall_mem_cons.mpr ⟨lv_neT c5 (by decide), (List.forall_mem_cons.mpr ⟨lv_neT c6 (by decide), (List.forall_mem_cons.mpr ⟨lv_neT c7 (by decide), (List.forall_mem_cons.mpr ⟨lv_neT c8 (by decide), (fun _ q => absurd q List.not_mem_nil)⟩)⟩)⟩)⟩)⟩)⟩)⟩)⟩) (by decide) ?_
  refine hv_iconst (v := -1) dX4_nameOf_130 (by decide) ?_
  subst h
  exact hv_iret rfl dX4_nameOf_131
def m_one_L176b (rc_either : hk_Ms → Option (Int32 × hk_Ms)) (rc_one : hk_Ms → Option (Int32 × hk_Ms)) (e0 : Int32 → Int32 → hk_Ms → Option (Int32 × hk_Ms)) (rc : Int32 → Int32 → hk_Ms → Option (Int32 × hk_Ms)) (v31 : Int32) (v32 : Int32) (s33 : hk_Ms) : Option (Int32 × hk_Ms) :=
  if (4 : Int32) ≤ v32 then
    e0 v31 v32 s33
  else
  (m_byteAt  s33).bind fun x38 =>
  if x38 < (48 : Int32) then
    e0 v31 v32 s33
  else
  (m_byteAt  s33).bind fun x40 =>
  if (57 : Int32) < x40 then
    e0 v31 v32 s33
  else
  (m_byteAt  s33).bind fun x42 =>
  hk_nm ((((10 : Int32) * v31) + x42) - (48 : Int32)) fun x43 =>
  hk_nm (v32 + (1 : Int32)) fun x44 =>
  hk_nm (hm_sI s33 11 ((hm_I s33 11) + (1 : Int32))) fun s45 =>
  rc x43 x44 s45
def m_one_L176 (rc_either : hk_Ms → Option (Int32 × hk_Ms)) (rc_one : hk_Ms → Option (Int32 × hk_Ms)) (e0 : Int32 → Int32 → hk_Ms → Option (Int32 × hk_Ms)) : Nat → Int32 → Int32 → hk_Ms → Option (Int32 × hk_Ms)
  | 0 => fun _ _ _ => none
  | n + 1 => m_one_L176b rc_either rc_one e0 (m_one_L176 rc_either rc_one e0 n)
def m_one (rc_either : hk_Ms → Option (Int32 × hk_Ms)) (rc_one : hk_Ms → Option (Int32 × hk_Ms)) (s0 : hk_Ms) : Option (Int32 × hk_Ms) :=
  hk_nm (fun (v1 : Int32) (v2 : Int32) (s3 : hk_Ms) =>
    hk_nm (hm_sI s3 14 ((hm_I s3 14) - (1 : Int32))) fun s4 =>
    if v1 = (40 : Int32) then
      some (v2, s4)
    else
    if v1 = (45 : Int32) then
        some (-v2, s4)
      else
      if v2 = 0 then
          some ((1 : Int32), s4)
        else
        some ((0 : Int32), s4)) fun k104 =>
  hk_nm (fun (v8 : Int32) (v9 : Int32) (s10 : hk_Ms) =>
    if v8 = (40 : Int32) then
      (m_takes (41 : Int32) s10).bind fun q12 =>
    if q12.1 = 0 then
      (m_wrong  q12.2).bind fun q14 =>
    some (q14.1, q14.2)
    else
    k104 v8 v9 q12.2
    else
    k104 v8 v9 s10) fun k83 =>
  hk_nm (fun (v15 : Int32) (s16 : hk_Ms) =>
    if (hm_I s16 14) = (6 : Int32) then
      (m_wrong  s16).bind fun q23 =>
    some (q23.1, q23.2)
    else
    hk_nm (hm_sI s16 14 ((hm_I s16 14) + (1 : Int32))) fun s18 =>
      hk_nm (hm_sI s18 11 ((hm_I s18 11) + (1 : Int32))) fun s19 =>
      if v15 = (40 : Int32) then
        (rc_either  s19).bind fun q22 =>
      k83 v15 q22.1 q22.2
      else
      (rc_one  s19).bind fun q21 =>
        k83 v15 q21.1 q21.2) fun k32 =>
  if (hm_I s0 13) < 0 then
    (m_byteAt  s0).bind fun x25 =>
    if x25 = (33 : Int32) then
      k32 x25 s0
    else
    if x25 = (45 : Int32) then
      k32 x25 s0
    else
    if x25 = (40 : Int32) then
      k32 x25 s0
    else
    hk_nm (m_nameOf x25) fun x29 =>
      if x29 < 0 then
        m_one_L176 rc_either rc_one  (fun (v34 : Int32) (v35 : Int32) (s36 : hk_Ms) =>
          if v35 = 0 then
            (m_wrong  s36).bind fun q47 =>
          some (q47.1, q47.2)
          else
          some (v34, s36)) hk_F (0 : Int32) (0 : Int32) s0
      else
      hk_nm (hm_sI s0 11 ((hm_I s0 11) + (1 : Int32))) fun s48 =>
      (hm_lI s48 6 8 x29).bind fun x49 =>
      some (x49, s48)
  else
  some ((0 : Int32), s0)
abbrev N_m_one (l : Launch) (fr lo : Nat) : hk_N := (l, cX4_one, "HeadReckonsModel", 5, (some .int), fr, lo, false)
set_option maxHeartbeats 4000000 in
theorem wk_m_one_L176b {l : Launch} {Gd : hk_G} {m0 : Nat} {st : hk_St} (KM : hk_KM m0 st) {fr lo fr' lo' : Nat} (hroom : fr' + 1 ≤ fr ∧ lo' + 60 ≤ lo ∧ 20 ≤ fr ∧ 600 ≤ lo) {rc_either : hk_Ms → Option (Int32 × hk_Ms)} (h_either : ∀ (z : hk_Ms) (r : Int32) (z2 : hk_Ms), rc_either  z = some (r, z2) → hk_Met Gd l yX4_either cX4_either 3 (some .int) fr' lo' [.ref m0] (hk_mU m0 st z) (some (.int r)) (hk_mU m0 st z2)) {rc_one : hk_Ms → Option (Int32 × hk_Ms)} (h_one : ∀ (z : hk_Ms) (r : Int32) (z2 : hk_Ms), rc_one  z = some (r, z2) → hk_Met Gd l yX4_one cX4_one 5 (some .int) fr' lo' [.ref m0] (hk_mU m0 st z) (some (.int r)) (hk_mU m0 st z2)) {s0 : hk_Ms} {r : Int32} {fin : hk_Ms} {e0 : Int32 → Int32 → hk_Ms → Option (Int32 × hk_Ms)} {rc : Int32 → Int32 → hk_Ms → Option (Int32 × hk_Ms)} (hrc : ∀ (v31 : Int32) (v32 : Int32) (s33 : hk_Ms), rc v31 v32 s33 = some (r, fin) → hk_V Gd (N_m_one l fr lo) (hk_end Gd (hk_mU m0 st s0) (some (.int r)) (hk_mU m0 st fin)) 176 [(0, .ref m0), (3, .int v31), (4, .int v32)] [] (hk_mU m0 st s33)) (he0 : ∀ (v34 : Int32) (v35 : Int32) (s36 : hk_Ms), e0 v34 v35 s36 = some (r, fin) → hk_V Gd (N_m_one l fr lo) (hk_end Gd (hk_mU m0 st s0) (some (.int r)) (hk_mU m0 st fin)) 229 [(0, .ref m0), (3, .int v34), (4, .int v35)] [] (hk_mU m0 st s36)) {v31 : Int32} {v32 : Int32} {s33 : hk_Ms} (h : m_one_L176b rc_either rc_one e0 rc v31 v32 s33 = some (r, fin)) : hk_V Gd (N_m_one l fr lo) (hk_end Gd (hk_mU m0 st s0) (some (.int r)) (hk_mU m0 st fin)) 176 [(0, .ref m0), (3, .int v31), (4, .int v32)] [] (hk_mU m0 st s33) := by
  unfold m_one_L176b at h
  refine hv_iload 2 dX4_one_176 rfl ?_
  refine hv_iconst (v := 4) dX4_one_178 (by decide) ?_
  refine hv_icmp_ge (tgt := 229) dX4_one_179 (by decide) (fun c37 => ?_) (fun c37 => ?_)
  · replace h := hq_ip c37 h
    exact he0 _ _ _ h
  · replace h := hq_in c37 h
    refine hv_aload_n 0 dX4_one_182 rfl rfl ?_
    obtain ⟨x38, e_x38, h⟩ := hq_ob h
    refine hv_callV [] [] [.int x38] (wk_m_byteAt KM e_x38) cs_X4_132 KM.recv rfl ⟨by show _ ≤ fr; omega, by show _ ≤ lo; omega⟩ rfl (Nat.le_of_ble_eq_true rfl) rfl dX4_one_183 ?_
    refine hv_bipush (v := 48) dX4_one_186 (by decide) ?_
    refine hv_icmp_lt (tgt := 229) dX4_one_188 (by decide) (fun c39 => ?_) (fun c39 => ?_)
    · replace h := hq_ip c39 h
      exact he0 _ _ _ h
    · replace h := hq_in c39 h
      refine hv_aload_n 0 dX4_one_191 rfl rfl ?_
      obtain ⟨x40, e_x40, h⟩ := hq_ob h
      refine hv_callV [] [] [.int x40] (wk_m_byteAt KM e_x40) cs_X4_132 KM.recv rfl ⟨by show _ ≤ fr; omega, by show _ ≤ lo; omega⟩ rfl (Nat.le_of_ble_eq_true rfl) rfl dX4_one_192 ?_
      refine hv_bipush (v := 57) dX4_one_195 (by decide) ?_
      refine hv_icmp_gt (tgt := 229) dX4_one_197 (by decide) (fun c41 => ?_) (fun c41 => ?_)
      · replace h := hq_ip c41 h
        exact he0 _ _ _ h
      · replace h := hq_in c41 h
        refine hv_bipush (v := 10) dX4_one_200 (by decide) ?_
        refine hv_iload_n 1 dX4_one_202 rfl rfl ?_
        refine hv_imul dX4_one_203 ?_
        refine hv_aload_n 0 dX4_one_204 rfl rfl ?_
        obtain ⟨x42, e_x42, h⟩ := hq_ob h
        refine hv_callV [] [.int ((10 : Int32) * v31)] [.int x42, .int ((10 : Int32) * v31)] (wk_m_byteAt KM e_x42) cs_X4_132 KM.recv rfl ⟨by show _ ≤ fr; omega, by show _ ≤ lo; omega⟩ rfl (Nat.le_of_ble_eq_true rfl) rfl dX4_one_205 ?_
        refine hv_iadd dX4_one_208 ?_
        refine hv_bipush (v := 48) dX4_one_209 (by decide) ?_
        refine hv_isub dX4_one_211 ?_
        obtain ⟨x43, e_x43, h⟩ := hq_nm h
        rw [← e_x43]
        refine hv_istore_n (L' := [(3, .int x43), (0, .ref m0), (4, .int v32)]) dX4_one_212 rfl (Nat.le_of_ble_eq_true rfl) rfl ?_
        obtain ⟨x44, e_x44, h⟩ := hq_nm h
        refine hv_iinc (v := x44) (L' := [(4, .int x44), (3, .int x43), (0, .ref m0)]) 2 dX4_one_213 rfl (by rw [e_x44]; rfl) (Nat.le_of_ble_eq_true rfl) rfl ?_
        refine hv_aload_n 2 dX4_one_216 rfl rfl ?_
        refine hv_dup dX4_one_217 rfl ?_
        refine hm_getI (f := 11) KM (fl_X4_120) dX4_one_218 ?_
        refine hv_iconst (v := 1) dX4_one_221 (by decide) ?_
        refine hv_iadd dX4_one_222 ?_
        obtain ⟨s45, e_s45, h⟩ := hq_nm h
        refine hm_putI (f := 11) KM (fp_X4_120) e_s45 dX4_one_223 ?_
        refine hv_goto (tgt := 176) dX4_one_226 (by decide) ?_
        refine hv_sub [2, 1, 0] rfl ?_
        exact hrc _ _ _ h
theorem wk_m_one_L176 {l : Launch} {Gd : hk_G} {m0 : Nat} {st : hk_St} (KM : hk_KM m0 st) {fr lo fr' lo' : Nat} (hroom : fr' + 1 ≤ fr ∧ lo' + 60 ≤ lo ∧ 20 ≤ fr ∧ 600 ≤ lo) {rc_either : hk_Ms → Option (Int32 × hk_Ms)} (h_either : ∀ (z : hk_Ms) (r : Int32) (z2 : hk_Ms), rc_either  z = some (r, z2) → hk_Met Gd l yX4_either cX4_either 3 (some .int) fr' lo' [.ref m0] (hk_mU m0 st z) (some (.int r)) (hk_mU m0 st z2)) {rc_one : hk_Ms → Option (Int32 × hk_Ms)} (h_one : ∀ (z : hk_Ms) (r : Int32) (z2 : hk_Ms), rc_one  z = some (r, z2) → hk_Met Gd l yX4_one cX4_one 5 (some .int) fr' lo' [.ref m0] (hk_mU m0 st z) (some (.int r)) (hk_mU m0 st z2)) {s0 : hk_Ms} {r : Int32} {fin : hk_Ms} {e0 : Int32 → Int32 → hk_Ms → Option (Int32 × hk_Ms)} (he0 : ∀ (v34 : Int32) (v35 : Int32) (s36 : hk_Ms), e0 v34 v35 s36 = some (r, fin) → hk_V Gd (N_m_one l fr lo) (hk_end Gd (hk_mU m0 st s0) (some (.int r)) (hk_mU m0 st fin)) 229 [(0, .ref m0), (3, .int v34), (4, .int v35)] [] (hk_mU m0 st s36)) : ∀ (n : Nat) (v31 : Int32) (v32 : Int32) (s33 : hk_Ms), m_one_L176 rc_either rc_one e0 n v31 v32 s33 = some (r, fin) → hk_V Gd (N_m_one l fr lo) (hk_end Gd (hk_mU m0 st s0) (some (.int r)) (hk_mU m0 st fin)) 176 [(0, .ref m0), (3, .int v31), (4, .int v32)] [] (hk_mU m0 st s33) := by
  intro n
  induction n with
  | zero => intro v31 v32 s33 h; cases h
  | succ n ih => intro v31 v32 s33 h; exact wk_m_one_L176b KM hroom h_either h_one ih he0 h
set_option maxHeartbeats 4000000 in
theorem wk_m_one {l : Launch} {Gd : hk_G} {m0 : Nat} {st : hk_St} (KM : hk_KM m0 st) {fr lo fr' lo' : Nat} (hroom : fr' + 1 ≤ fr ∧ lo' + 60 ≤ lo ∧ 20 ≤ fr ∧ 600 ≤ lo) {rc_either : hk_Ms → Option (Int32 × hk_Ms)} (h_either : ∀ (z : hk_Ms) (r : Int32) (z2 : hk_Ms), rc_either  z = some (r, z2) → hk_Met Gd l yX4_either cX4_either 3 (some .int) fr' lo' [.ref m0] (hk_mU m0 st z) (some (.int r)) (hk_mU m0 st z2)) {rc_one : hk_Ms → Option (Int32 × hk_Ms)} (h_one : ∀ (z : hk_Ms) (r : Int32) (z2 : hk_Ms), rc_one  z = some (r, z2) → hk_Met Gd l yX4_one cX4_one 5 (some .int) fr' lo' [.ref m0] (hk_mU m0 st z) (some (.int r)) (hk_mU m0 st z2)) {s0 : hk_Ms} {r : Int32} {fin : hk_Ms} (h : m_one rc_either rc_one s0 = some (r, fin)) : hk_Met Gd l yX4_one cX4_one 5 (some .int) fr lo [.ref m0] (hk_mU m0 st s0) (some (.int r)) (hk_mU m0 st fin) := by
  refine hk_start "HeadReckonsModel" false (by decide +kernel) rfl (by decide) (Nat.le_of_ble_eq_true rfl) ?_
  show hk_V Gd (N_m_one l fr lo) (hk_end Gd (hk_mU m0 st s0) (some (.int r)) (hk_mU m0 st fin)) 0 [(0, .ref m0)] [] (hk_mU m0 st s0)
  unfold m_one at h
  obtain ⟨k104, e_k104, h⟩ := hq_nm h
  have wk104 : ∀ (v1 : Int32) (v2 : Int32) (s3 : hk_Ms), k104 v1 v2 s3 = some (r, fin) → hk_V Gd (N_m_one l fr lo) (hk_end Gd (hk_mU m0 st s0) (some (.int r)) (hk_mU m0 st fin)) 104 [(0, .ref m0), (1, .int v1), (2, .int v2)] [] (hk_mU m0 st s3) := by
    intro v1 v2 s3 h
    rw [e_k104] at h
    refine hv_aload_n 0 dX4_one_104 rfl rfl ?_
    refine hv_dup dX4_one_105 rfl ?_
    refine hm_getI (f := 14) KM (fl_X4_155) dX4_one_106 ?_
    refine hv_iconst (v := 1) dX4_one_109 (by decide) ?_
    refine hv_isub dX4_one_110 ?_
    obtain ⟨s4, e_s4, h⟩ := hq_nm h
    refine hm_putI (f := 14) KM (fp_X4_155) e_s4 dX4_one_111 ?_
    refine hv_iload_n 1 dX4_one_114 rfl rfl ?_
    refine hv_bipush (v := 40) dX4_one_115 (by decide) ?_
    refine hv_icmp_ne (tgt := 124) dX4_one_117 (by decide) (fun c5 => ?_) (fun c5 => ?_)
    · replace h := hq_in c5 h
      refine hv_iload_n 1 dX4_one_124 rfl rfl ?_
      refine hv_bipush (v := 45) dX4_one_125 (by decide) ?_
      refine hv_icmp_ne (tgt := 135) dX4_one_127 (by decide) (fun c6 => ?_) (fun c6 => ?_)
      · replace h := hq_in c6 h
        refine hv_iload_n 2 dX4_one_135 rfl rfl ?_
        refine hv_if_ne (tgt := 143) dX4_one_136 (by decide) (fun c7 => ?_) (fun c7 => ?_)
        · replace h := hq_in c7 h
          refine hv_iconst (v := 0) dX4_one_143 (by decide) ?_
          obtain ⟨h1, h2⟩ := hq_ret h
          subst h1
          subst h2
          exact hv_iret rfl dX4_one_144
        · replace h := hq_ip c7 h
          refine hv_iconst (v := 1) dX4_one_139 (by decide) ?_
          refine hv_goto (tgt := 144) dX4_one_140 (by decide) ?_
          obtain ⟨h1, h2⟩ := hq_ret h
          subst h1
          subst h2
          exact hv_iret rfl dX4_one_144
      · replace h := hq_ip c6 h
        refine hv_iload_n 2 dX4_one_130 rfl rfl ?_
        refine hv_ineg dX4_one_131 ?_
        refine hv_goto (tgt := 144) dX4_one_132 (by decide) ?_
        obtain ⟨h1, h2⟩ := hq_ret h
        subst h1
        subst h2
        exact hv_iret rfl dX4_one_144
    · replace h := hq_ip c5 h
      refine hv_iload_n 2 dX4_one_120 rfl rfl ?_
      refine hv_goto (tgt := 144) dX4_one_121 (by decide) ?_
      obtain ⟨h1, h2⟩ := hq_ret h
      subst h1
      subst h2
      exact hv_iret rfl dX4_one_144
  clear e_k104
  obtain ⟨k83, e_k83, h⟩ := hq_nm h
  have wk83 : ∀ (v8 : Int32) (v9 : Int32) (s10 : hk_Ms), k83 v8 v9 s10 = some (r, fin) → hk_V Gd (N_m_one l fr lo) (hk_end Gd (hk_mU m0 st s0) (some (.int r)) (hk_mU m0 st fin)) 83 [(0, .ref m0), (1, .int v8)] [.int v9] (hk_mU m0 st s10) := by
    intro v8 v9 s10 h
    rw [e_k83] at h
    refine hv_istore_n (L' := [(2, .int v9), (0, .ref m0), (1, .int v8)]) dX4_one_83 rfl (Nat.le_of_ble_eq_true rfl) rfl ?_
    refine hv_iload_n 2 dX4_one_84 rfl rfl ?_
    refine hv_bipush (v := 40) dX4_one_85 (by decide) ?_
    refine hv_icmp_ne (tgt := 104) dX4_one_87 (by decide) (fun c11 => ?_) (fun c11 => ?_)
    · replace h := hq_in c11 h
      refine hv_sub [1, 2, 0] rfl ?_
      exact wk104 _ _ _ h
    · replace h := hq_ip c11 h
      refine hv_aload_n 1 dX4_one_90 rfl rfl ?_
      refine hv_bipush (v := 41) dX4_one_91 (by decide) ?_
      obtain ⟨q12, e_q12, h⟩ := hq_ob h
      refine hv_callV [.int (41 : Int32)] [] [.int q12.1] (wk_m_takes KM e_q12) cs_X4_139 KM.recv rfl ⟨by show _ ≤ fr; omega, by show _ ≤ lo; omega⟩ rfl (Nat.le_of_ble_eq_true rfl) rfl dX4_one_93 ?_
      refine hv_if_ne (tgt := 104) dX4_one_96 (by decide) (fun c13 => ?_) (fun c13 => ?_)
      · replace h := hq_in c13 h
        refine hv_sub [1, 2, 0] rfl ?_
        exact wk104 _ _ _ h
      · replace h := hq_ip c13 h
        refine hv_aload_n 1 dX4_one_99 rfl rfl ?_
        obtain ⟨q14, e_q14, h⟩ := hq_ob h
        refine hv_callV [] [] [.int q14.1] (wk_m_wrong KM e_q14) cs_X4_158 KM.recv rfl ⟨by show _ ≤ fr; omega, by show _ ≤ lo; omega⟩ rfl (Nat.le_of_ble_eq_true rfl) rfl dX4_one_100 ?_
        obtain ⟨h1, h2⟩ := hq_ret h
        subst h1
        subst h2
        exact hv_iret rfl dX4_one_103
  clear e_k83
  obtain ⟨k32, e_k32, h⟩ := hq_nm h
  have wk32 : ∀ (v15 : Int32) (s16 : hk_Ms), k32 v15 s16 = some (r, fin) → hk_V Gd (N_m_one l fr lo) (hk_end Gd (hk_mU m0 st s0) (some (.int r)) (hk_mU m0 st fin)) 32 [(0, .ref m0), (1, .int v15)] [] (hk_mU m0 st s16) := by
    intro v15 s16 h
    rw [e_k32] at h
    refine hv_aload_n 0 dX4_one_32 rfl rfl ?_
    refine hm_getI (f := 14) KM (fl_X4_155) dX4_one_33 ?_
    refine hv_bipush (v := 6) dX4_one_36 (by decide) ?_
    refine hv_icmp_ne (tgt := 46) dX4_one_38 (by decide) (fun c17 => ?_) (fun c17 => ?_)
    · replace h := hq_in c17 h
      refine hv_aload_n 0 dX4_one_46 rfl rfl ?_
      refine hv_dup dX4_one_47 rfl ?_
      refine hm_getI (f := 14) KM (fl_X4_155) dX4_one_48 ?_
      refine hv_iconst (v := 1) dX4_one_51 (by decide) ?_
      refine hv_iadd dX4_one_52 ?_
      obtain ⟨s18, e_s18, h⟩ := hq_nm h
      refine hm_putI (f := 14) KM (fp_X4_155) e_s18 dX4_one_53 ?_
      refine hv_aload_n 0 dX4_one_56 rfl rfl ?_
      refine hv_dup dX4_one_57 rfl ?_
      refine hm_getI (f := 11) KM (fl_X4_120) dX4_one_58 ?_
      refine hv_iconst (v := 1) dX4_one_61 (by decide) ?_
      refine hv_iadd dX4_one_62 ?_
      obtain ⟨s19, e_s19, h⟩ := hq_nm h
      refine hm_putI (f := 11) KM (fp_X4_120) e_s19 dX4_one_63 ?_
      refine hv_iload_n 1 dX4_one_66 rfl rfl ?_
      refine hv_bipush (v := 40) dX4_one_67 (by decide) ?_
      refine hv_icmp_ne (tgt := 79) dX4_one_69 (by decide) (fun c20 => ?_) (fun c20 => ?_)
      · replace h := hq_in c20 h
        refine hv_aload_n 0 dX4_one_79 rfl rfl ?_
        obtain ⟨q21, e_q21, h⟩ := hq_ob h
        refine hv_callV [] [] [.int q21.1] (h_one _ _ _ e_q21) cs_X4_152 KM.recv rfl ⟨by show _ ≤ fr; omega, by show _ ≤ lo; omega⟩ rfl (Nat.le_of_ble_eq_true rfl) rfl dX4_one_80 ?_
        exact wk83 _ _ _ h
      · replace h := hq_ip c20 h
        refine hv_aload_n 0 dX4_one_72 rfl rfl ?_
        obtain ⟨q22, e_q22, h⟩ := hq_ob h
        refine hv_callV [] [] [.int q22.1] (h_either _ _ _ e_q22) cs_X4_161 KM.recv rfl ⟨by show _ ≤ fr; omega, by show _ ≤ lo; omega⟩ rfl (Nat.le_of_ble_eq_true rfl) rfl dX4_one_73 ?_
        refine hv_goto (tgt := 83) dX4_one_76 (by decide) ?_
        exact wk83 _ _ _ h
    · replace h := hq_ip c17 h
      refine hv_aload_n 0 dX4_one_41 rfl rfl ?_
      obtain ⟨q23, e_q23, h⟩ := hq_ob h
      refine hv_callV [] [] [.int q23.1] (wk_m_wrong KM e_q23) cs_X4_158 KM.recv rfl ⟨by show _ ≤ fr; omega, by show _ ≤ lo; omega⟩ rfl (Nat.le_of_ble_eq_true rfl) rfl dX4_one_42 ?_
      obtain ⟨h1, h2⟩ := hq_ret h
      subst h1
      subst h2
      exact hv_iret rfl dX4_one_45
  clear e_k32
  refine hv_aload_n 0 dX4_one_0 rfl rfl ?_
  refine hm_getI (f := 13) KM (fl_X4_129) dX4_one_1 ?_
  refine hv_if_lt (tgt := 9) dX4_one_4 (by decide) (fun c24 => ?_) (fun c24 => ?_)
  · replace h := hq_ip c24 h
    refine hv_aload_n 0 dX4_one_9 rfl rfl ?_
    obtain ⟨x25, e_x25, h⟩ := hq_ob h
    refine hv_callV [] [] [.int x25] (wk_m_byteAt KM e_x25) cs_X4_132 KM.recv rfl ⟨by show _ ≤ fr; omega, by show _ ≤ lo; omega⟩ rfl (Nat.le_of_ble_eq_true rfl) rfl dX4_one_10 ?_
    refine hv_istore_n (L' := [(1, .int x25), (0, .ref m0)]) dX4_one_13 rfl (Nat.le_of_ble_eq_true rfl) rfl ?_
    refine hv_iload_n 0 dX4_one_14 rfl rfl ?_
    refine hv_bipush (v := 33) dX4_one_15 (by decide) ?_
    refine hv_icmp_eq (tgt := 32) dX4_one_17 (by decide) (fun c26 => ?_) (fun c26 => ?_)
    · replace h := hq_ip c26 h
      refine hv_sub [1, 0] rfl ?_
      exact wk32 _ _ h
    · replace h := hq_in c26 h
      refine hv_iload_n 0 dX4_one_20 rfl rfl ?_
      refine hv_bipush (v := 45) dX4_one_21 (by decide) ?_
      refine hv_icmp_eq (tgt := 32) dX4_one_23 (by decide) (fun c27 => ?_) (fun c27 => ?_)
      · replace h := hq_ip c27 h
        refine hv_sub [1, 0] rfl ?_
        exact wk32 _ _ h
      · replace h := hq_in c27 h
        refine hv_iload_n 0 dX4_one_26 rfl rfl ?_
        refine hv_bipush (v := 40) dX4_one_27 (by decide) ?_
        refine hv_icmp_ne (tgt := 145) dX4_one_29 (by decide) (fun c28 => ?_) (fun c28 => ?_)
        · replace h := hq_in c28 h
          refine hv_iload_n 0 dX4_one_145 rfl rfl ?_
          refine hv_callS [.int x25] [] [.int (m_nameOf x25)] (wk_m_nameOf rfl) cs_X4_164 rfl ⟨by show _ ≤ fr; omega, by show _ ≤ lo; omega⟩ rfl (Nat.le_of_ble_eq_true rfl) rfl dX4_one_146 ?_
          obtain ⟨x29, e_x29, h⟩ := hq_nm h
          rw [← e_x29]
          refine hv_istore_n (L' := [(2, .int x29), (1, .int x25), (0, .ref m0)]) dX4_one_149 rfl (Nat.le_of_ble_eq_true rfl) rfl ?_
          refine hv_iload_n 0 dX4_one_150 rfl rfl ?_
          refine hv_if_lt (tgt := 171) dX4_one_151 (by decide) (fun c30 => ?_) (fun c30 => ?_)
          · replace h := hq_ip c30 h
            refine hv_iconst (v := 0) dX4_one_171 (by decide) ?_
            refine hv_istore_n (L' := [(3, .int (0 : Int32)), (2, .int x29), (1, .int x25), (0, .ref m0)]) dX4_one_172 rfl (Nat.le_of_ble_eq_true rfl) rfl ?_
            refine hv_iconst (v := 0) dX4_one_173 (by decide) ?_
            refine hv_istore (L' := [(4, .int (0 : Int32)), (3, .int (0 : Int32)), (2, .int x29), (1, .int x25), (0, .ref m0)]) dX4_one_174 (Nat.le_of_ble_eq_true rfl) rfl ?_
            refine hv_sub [4, 1, 0] rfl ?_
            refine wk_m_one_L176 KM hroom h_either h_one ?_ hk_F _ _ _ h
            · intro v34 v35 s36 h
              refine hv_iload 2 dX4_one_229 rfl ?_
              refine hv_if_ne (tgt := 241) dX4_one_231 (by decide) (fun c46 => ?_) (fun c46 => ?_)
              · replace h := hq_in c46 h
                refine hv_iload_n 1 dX4_one_241 rfl rfl ?_
                obtain ⟨h1, h2⟩ := hq_ret h
                subst h1
                subst h2
                exact hv_iret rfl dX4_one_242
              · replace h := hq_ip c46 h
                refine hv_aload_n 0 dX4_one_234 rfl rfl ?_
                obtain ⟨q47, e_q47, h⟩ := hq_ob h
                refine hv_callV [] [] [.int q47.1] (wk_m_wrong KM e_q47) cs_X4_158 KM.recv rfl ⟨by show _ ≤ fr; omega, by show _ ≤ lo; omega⟩ rfl (Nat.le_of_ble_eq_true rfl) rfl dX4_one_235 ?_
                refine hv_goto (tgt := 242) dX4_one_238 (by decide) ?_
                obtain ⟨h1, h2⟩ := hq_ret h
                subst h1
                subst h2
                exact hv_iret rfl dX4_one_242
          · replace h := hq_in c30 h
            refine hv_aload_n 2 dX4_one_154 rfl rfl ?_
            refine hv_dup dX4_one_155 rfl ?_
            refine hm_getI (f := 11) KM (fl_X4_120) dX4_one_156 ?_
            refine hv_iconst (v := 1) dX4_one_159 (by decide) ?_
            refine hv_iadd dX4_one_160 ?_
            obtain ⟨s48, e_s48, h⟩ := hq_nm h
            refine hm_putI (f := 11) KM (fp_X4_120) e_s48 dX4_one_161 ?_
            refine hv_aload_n 2 dX4_one_164 rfl rfl ?_
            refine hm_getA (j := 6) KM (fl_X4_28) rfl (Nat.le_of_ble_eq_true rfl) dX4_one_165 ?_
            refine hv_iload_n 0 dX4_one_168 rfl rfl ?_
            obtain ⟨x49, e_x49, h⟩ := hq_ob h
            refine hm_iaload KM e_x49 (Nat.le_of_ble_eq_true rfl) rfl dX4_one_169 ?_
            obtain ⟨h1, h2⟩ := hq_ret h
            subst h1
            subst h2
            exact hv_iret rfl dX4_one_170
        · replace h := hq_ip c28 h
          refine hv_sub [1, 0] rfl ?_
          exact wk32 _ _ h
  · replace h := hq_in c24 h
    refine hv_iconst (v := 0) dX4_one_7 (by decide) ?_
    obtain ⟨h1, h2⟩ := hq_ret h
    subst h1
    subst h2
    exact hv_iret rfl dX4_one_8
def m_product_L10b (rc_one : hk_Ms → Option (Int32 × hk_Ms)) (e0 : Int32 → hk_Ms → Option (Int32 × hk_Ms)) (rc : Int32 → Int32 → hk_Ms → Option (Int32 × hk_Ms)) (v3 : Int32) (v4 : Int32) (s5 : hk_Ms) : Option (Int32 × hk_Ms) :=
  hk_nm (fun (v8 : Int32) (s9 : hk_Ms) =>
    (m_byteAt  s9).bind fun x10 =>
    rc v8 x10 s9) fun k85 =>
  hk_nm (fun (v11 : Int32) (v12 : Int32) (s13 : hk_Ms) =>
    hk_nm (hm_sI s13 11 ((hm_I s13 11) + (1 : Int32))) fun s14 =>
    (rc_one  s14).bind fun q15 =>
    if v12 = (42 : Int32) then
      k85 (v11 * q15.1) q15.2
    else
    if q15.1 = 0 then
        k85 (0 : Int32) q15.2
      else
      if v12 = (47 : Int32) then
          hk_gd (decide (¬ q15.1 = 0)) <|
        k85 (v11 / q15.1) q15.2
        else
        hk_gd (decide (¬ q15.1 = 0)) <|
          k85 (v11 - v11 / q15.1 * q15.1) q15.2) fun k35 =>
  if 0 ≤ (hm_I s5 13) then
    e0 v3 s5
  else
  if v4 = (42 : Int32) then
    k35 v3 v4 s5
  else
  if v4 = (47 : Int32) then
    k35 v3 v4 s5
  else
  if v4 = (37 : Int32) then
    k35 v3 v4 s5
  else
  e0 v3 s5
def m_product_L10 (rc_one : hk_Ms → Option (Int32 × hk_Ms)) (e0 : Int32 → hk_Ms → Option (Int32 × hk_Ms)) : Nat → Int32 → Int32 → hk_Ms → Option (Int32 × hk_Ms)
  | 0 => fun _ _ _ => none
  | n + 1 => m_product_L10b rc_one e0 (m_product_L10 rc_one e0 n)
def m_product (rc_one : hk_Ms → Option (Int32 × hk_Ms)) (s0 : hk_Ms) : Option (Int32 × hk_Ms) :=
  (rc_one  s0).bind fun q1 =>
  (m_byteAt  q1.2).bind fun x2 =>
  m_product_L10 rc_one  (fun (v6 : Int32) (s7 : hk_Ms) =>
    some (v6, s7)) hk_F q1.1 x2 q1.2
abbrev N_m_product (l : Launch) (fr lo : Nat) : hk_N := (l, cX4_product, "HeadReckonsModel", 4, (some .int), fr, lo, false)
set_option maxHeartbeats 4000000 in
theorem wk_m_product_L10b {l : Launch} {Gd : hk_G} {m0 : Nat} {st : hk_St} (KM : hk_KM m0 st) {fr lo fr' lo' : Nat} (hroom : fr' + 1 ≤ fr ∧ lo' + 60 ≤ lo ∧ 20 ≤ fr ∧ 600 ≤ lo) {rc_one : hk_Ms → Option (Int32 × hk_Ms)} (h_one : ∀ (z : hk_Ms) (r : Int32) (z2 : hk_Ms), rc_one  z = some (r, z2) → hk_Met Gd l yX4_one cX4_one 5 (some .int) fr' lo' [.ref m0] (hk_mU m0 st z) (some (.int r)) (hk_mU m0 st z2)) {s0 : hk_Ms} {r : Int32} {fin : hk_Ms} {e0 : Int32 → hk_Ms → Option (Int32 × hk_Ms)} {rc : Int32 → Int32 → hk_Ms → Option (Int32 × hk_Ms)} (hrc : ∀ (v3 : Int32) (v4 : Int32) (s5 : hk_Ms), rc v3 v4 s5 = some (r, fin) → hk_V Gd (N_m_product l fr lo) (hk_end Gd (hk_mU m0 st s0) (some (.int r)) (hk_mU m0 st fin)) 10 [(0, .ref m0), (1, .int v3), (2, .int v4)] [] (hk_mU m0 st s5)) (he0 : ∀ (v6 : Int32) (s7 : hk_Ms), e0 v6 s7 = some (r, fin) → hk_V Gd (N_m_product l fr lo) (hk_end Gd (hk_mU m0 st s0) (some (.int r)) (hk_mU m0 st fin)) 94 [(1, .int v6)] [] (hk_mU m0 st s7)) {v3 : Int32} {v4 : Int32} {s5 : hk_Ms} (h : m_product_L10b rc_one e0 rc v3 v4 s5 = some (r, fin)) : hk_V Gd (N_m_product l fr lo) (hk_end Gd (hk_mU m0 st s0) (some (.int r)) (hk_mU m0 st fin)) 10 [(0, .ref m0), (1, .int v3), (2, .int v4)] [] (hk_mU m0 st s5) := by
  unfold m_product_L10b at h
  obtain ⟨k85, e_k85, h⟩ := hq_nm h
  have wk85 : ∀ (v8 : Int32) (s9 : hk_Ms), k85 v8 s9 = some (r, fin) → hk_V Gd (N_m_product l fr lo) (hk_end Gd (hk_mU m0 st s0) (some (.int r)) (hk_mU m0 st fin)) 85 [(0, .ref m0)] [.int v8] (hk_mU m0 st s9) := by
    intro v8 s9 h
    rw [e_k85] at h
    refine hv_istore_n (L' := [(1, .int v8), (0, .ref m0)]) dX4_product_85 rfl (Nat.le_of_ble_eq_true rfl) rfl ?_
    refine hv_aload_n 1 dX4_product_86 rfl rfl ?_
    obtain ⟨x10, e_x10, h⟩ := hq_ob h
    refine hv_callV [] [] [.int x10] (wk_m_byteAt KM e_x10) cs_X4_132 KM.recv rfl ⟨by show _ ≤ fr; omega, by show _ ≤ lo; omega⟩ rfl (Nat.le_of_ble_eq_true rfl) rfl dX4_product_87 ?_
    refine hv_istore_n (L' := [(2, .int x10), (1, .int v8), (0, .ref m0)]) dX4_product_90 rfl (Nat.le_of_ble_eq_true rfl) rfl ?_
    refine hv_goto (tgt := 10) dX4_product_91 (by decide) ?_
    refine hv_sub [2, 1, 0] rfl ?_
    exact hrc _ _ _ h
  clear e_k85
  obtain ⟨k35, e_k35, h⟩ := hq_nm h
  have wk35 : ∀ (v11 : Int32) (v12 : Int32) (s13 : hk_Ms), k35 v11 v12 s13 = some (r, fin) → hk_V Gd (N_m_product l fr lo) (hk_end Gd (hk_mU m0 st s0) (some (.int r)) (hk_mU m0 st fin)) 35 [(0, .ref m0), (1, .int v11), (2, .int v12)] [] (hk_mU m0 st s13) := by
    intro v11 v12 s13 h
    rw [e_k35] at h
    refine hv_aload_n 0 dX4_product_35 rfl rfl ?_
    refine hv_dup dX4_product_36 rfl ?_
    refine hm_getI (f := 11) KM (fl_X4_120) dX4_product_37 ?_
    refine hv_iconst (v := 1) dX4_product_40 (by decide) ?_
    refine hv_iadd dX4_product_41 ?_
    obtain ⟨s14, e_s14, h⟩ := hq_nm h
    refine hm_putI (f := 11) KM (fp_X4_120) e_s14 dX4_product_42 ?_
    refine hv_aload_n 0 dX4_product_45 rfl rfl ?_
    obtain ⟨q15, e_q15, h⟩ := hq_ob h
    refine hv_callV [] [] [.int q15.1] (h_one _ _ _ e_q15) cs_X4_152 KM.recv rfl ⟨by show _ ≤ fr; omega, by show _ ≤ lo; omega⟩ rfl (Nat.le_of_ble_eq_true rfl) rfl dX4_product_46 ?_
    refine hv_istore_n (L' := [(3, .int q15.1), (0, .ref m0), (1, .int v11), (2, .int v12)]) dX4_product_49 rfl (Nat.le_of_ble_eq_true rfl) rfl ?_
    refine hv_iload_n 3 dX4_product_50 rfl rfl ?_
    refine hv_bipush (v := 42) dX4_product_51 (by decide) ?_
    refine hv_icmp_ne (tgt := 62) dX4_product_53 (by decide) (fun c16 => ?_) (fun c16 => ?_)
    · replace h := hq_in c16 h
      refine hv_iload_n 0 dX4_product_62 rfl rfl ?_
      refine hv_if_ne (tgt := 70) dX4_product_63 (by decide) (fun c17 => ?_) (fun c17 => ?_)
      · replace h := hq_in c17 h
        refine hv_iload_n 3 dX4_product_70 rfl rfl ?_
        refine hv_bipush (v := 47) dX4_product_71 (by decide) ?_
        refine hv_icmp_ne (tgt := 82) dX4_product_73 (by decide) (fun c18 => ?_) (fun c18 => ?_)
        · replace h := hq_in c18 h
          refine hv_iload_n 2 dX4_product_82 rfl rfl ?_
          refine hv_iload_n 0 dX4_product_83 rfl rfl ?_
          obtain ⟨g19, h⟩ := hq_gd h
          refine hv_irem (of_decide_eq_true g19) dX4_product_84 ?_
          refine hv_sub [1] rfl ?_
          exact wk85 _ _ h
        · replace h := hq_ip c18 h
          refine hv_iload_n 2 dX4_product_76 rfl rfl ?_
          refine hv_iload_n 0 dX4_product_77 rfl rfl ?_
          obtain ⟨g20, h⟩ := hq_gd h
          refine hv_idiv (of_decide_eq_true g20) dX4_product_78 ?_
          refine hv_goto (tgt := 85) dX4_product_79 (by decide) ?_
          refine hv_sub [1] rfl ?_
          exact wk85 _ _ h
      · replace h := hq_ip c17 h
        refine hv_iconst (v := 0) dX4_product_66 (by decide) ?_
        refine hv_goto (tgt := 85) dX4_product_67 (by decide) ?_
        refine hv_sub [1] rfl ?_
        exact wk85 _ _ h
    · replace h := hq_ip c16 h
      refine hv_iload_n 2 dX4_product_56 rfl rfl ?_
      refine hv_iload_n 0 dX4_product_57 rfl rfl ?_
      refine hv_imul dX4_product_58 ?_
      refine hv_goto (tgt := 85) dX4_product_59 (by decide) ?_
      refine hv_sub [1] rfl ?_
      exact wk85 _ _ h
  clear e_k35
  refine hv_aload_n 0 dX4_product_10 rfl rfl ?_
  refine hm_getI (f := 13) KM (fl_X4_129) dX4_product_11 ?_
  refine hv_if_ge (tgt := 94) dX4_product_14 (by decide) (fun c21 => ?_) (fun c21 => ?_)
  · replace h := hq_ip c21 h
    refine hv_sub [1] rfl ?_
    exact he0 _ _ h
  · replace h := hq_in c21 h
    refine hv_iload_n 2 dX4_product_17 rfl rfl ?_
    refine hv_bipush (v := 42) dX4_product_18 (by decide) ?_
    refine hv_icmp_eq (tgt := 35) dX4_product_20 (by decide) (fun c22 => ?_) (fun c22 => ?_)
    · replace h := hq_ip c22 h
      exact wk35 _ _ _ h
    · replace h := hq_in c22 h
      refine hv_iload_n 2 dX4_product_23 rfl rfl ?_
      refine hv_bipush (v := 47) dX4_product_24 (by decide) ?_
      refine hv_icmp_eq (tgt := 35) dX4_product_26 (by decide) (fun c23 => ?_) (fun c23 => ?_)
      · replace h := hq_ip c23 h
        exact wk35 _ _ _ h
      · replace h := hq_in c23 h
        refine hv_iload_n 2 dX4_product_29 rfl rfl ?_
        refine hv_bipush (v := 37) dX4_product_30 (by decide) ?_
        refine hv_icmp_ne (tgt := 94) dX4_product_32 (by decide) (fun c24 => ?_) (fun c24 => ?_)
        · replace h := hq_in c24 h
          refine hv_sub [1] rfl ?_
          exact he0 _ _ h
        · replace h := hq_ip c24 h
          exact wk35 _ _ _ h
theorem wk_m_product_L10 {l : Launch} {Gd : hk_G} {m0 : Nat} {st : hk_St} (KM : hk_KM m0 st) {fr lo fr' lo' : Nat} (hroom : fr' + 1 ≤ fr ∧ lo' + 60 ≤ lo ∧ 20 ≤ fr ∧ 600 ≤ lo) {rc_one : hk_Ms → Option (Int32 × hk_Ms)} (h_one : ∀ (z : hk_Ms) (r : Int32) (z2 : hk_Ms), rc_one  z = some (r, z2) → hk_Met Gd l yX4_one cX4_one 5 (some .int) fr' lo' [.ref m0] (hk_mU m0 st z) (some (.int r)) (hk_mU m0 st z2)) {s0 : hk_Ms} {r : Int32} {fin : hk_Ms} {e0 : Int32 → hk_Ms → Option (Int32 × hk_Ms)} (he0 : ∀ (v6 : Int32) (s7 : hk_Ms), e0 v6 s7 = some (r, fin) → hk_V Gd (N_m_product l fr lo) (hk_end Gd (hk_mU m0 st s0) (some (.int r)) (hk_mU m0 st fin)) 94 [(1, .int v6)] [] (hk_mU m0 st s7)) : ∀ (n : Nat) (v3 : Int32) (v4 : Int32) (s5 : hk_Ms), m_product_L10 rc_one e0 n v3 v4 s5 = some (r, fin) → hk_V Gd (N_m_product l fr lo) (hk_end Gd (hk_mU m0 st s0) (some (.int r)) (hk_mU m0 st fin)) 10 [(0, .ref m0), (1, .int v3), (2, .int v4)] [] (hk_mU m0 st s5) := by
  intro n
  induction n with
  | zero => intro v3 v4 s5 h; cases h
  | succ n ih => intro v3 v4 s5 h; exact wk_m_product_L10b KM hroom h_one ih he0 h
set_option maxHeartbeats 4000000 in
theorem wk_m_product {l : Launch} {Gd : hk_G} {m0 : Nat} {st : hk_St} (KM : hk_KM m0 st) {fr lo fr' lo' : Nat} (hroom : fr' + 1 ≤ fr ∧ lo' + 60 ≤ lo ∧ 20 ≤ fr ∧ 600 ≤ lo) {rc_one : hk_Ms → Option (Int32 × hk_Ms)} (h_one : ∀ (z : hk_Ms) (r : Int32) (z2 : hk_Ms), rc_one  z = some (r, z2) → hk_Met Gd l yX4_one cX4_one 5 (some .int) fr' lo' [.ref m0] (hk_mU m0 st z) (some (.int r)) (hk_mU m0 st z2)) {s0 : hk_Ms} {r : Int32} {fin : hk_Ms} (h : m_product rc_one s0 = some (r, fin)) : hk_Met Gd l yX4_product cX4_product 4 (some .int) fr lo [.ref m0] (hk_mU m0 st s0) (some (.int r)) (hk_mU m0 st fin) := by
  refine hk_start "HeadReckonsModel" false (by decide +kernel) rfl (by decide) (Nat.le_of_ble_eq_true rfl) ?_
  show hk_V Gd (N_m_product l fr lo) (hk_end Gd (hk_mU m0 st s0) (some (.int r)) (hk_mU m0 st fin)) 0 [(0, .ref m0)] [] (hk_mU m0 st s0)
  unfold m_product at h
  refine hv_aload_n 0 dX4_product_0 rfl rfl ?_
  obtain ⟨q1, e_q1, h⟩ := hq_ob h
  refine hv_callV [] [] [.int q1.1] (h_one _ _ _ e_q1) cs_X4_152 KM.recv rfl ⟨by show _ ≤ fr; omega, by show _ ≤ lo; omega⟩ rfl (Nat.le_of_ble_eq_true rfl) rfl dX4_product_1 ?_
  refine hv_istore_n (L' := [(1, .int q1.1), (0, .ref m0)]) dX4_product_4 rfl (Nat.le_of_ble_eq_true rfl) rfl ?_
  refine hv_aload_n 1 dX4_product_5 rfl rfl ?_
  obtain ⟨x2, e_x2, h⟩ := hq_ob h
  refine hv_callV [] [] [.int x2] (wk_m_byteAt KM e_x2) cs_X4_132 KM.recv rfl ⟨by show _ ≤ fr; omega, by show _ ≤ lo; omega⟩ rfl (Nat.le_of_ble_eq_true rfl) rfl dX4_product_6 ?_
  refine hv_istore_n (L' := [(2, .int x2), (1, .int q1.1), (0, .ref m0)]) dX4_product_9 rfl (Nat.le_of_ble_eq_true rfl) rfl ?_
  refine hv_sub [2, 1, 0] rfl ?_
  refine wk_m_product_L10 KM hroom h_one ?_ hk_F _ _ _ h
  · intro v6 s7 h
    refine hv_iload_n 0 dX4_product_94 rfl rfl ?_
    obtain ⟨h1, h2⟩ := hq_ret h
    subst h1
    subst h2
    exact hv_iret rfl dX4_product_95
def m_sums_L5b (rc_product : hk_Ms → Option (Int32 × hk_Ms)) (e0 : Int32 → hk_Ms → Option (Int32 × hk_Ms)) (rc : Int32 → hk_Ms → Option (Int32 × hk_Ms)) (v2 : Int32) (s3 : hk_Ms) : Option (Int32 × hk_Ms) :=
  hk_nm (fun (v6 : Int32) (v7 : Int32) (s8 : hk_Ms) =>
    hk_nm (hm_sI s8 11 ((hm_I s8 11) + (1 : Int32))) fun s9 =>
    (rc_product  s9).bind fun q10 =>
    if v7 = 0 then
      hk_nm (v6 - q10.1) fun x12 =>
      rc x12 q10.2
    else
    hk_nm (v6 + q10.1) fun x13 =>
    rc x13 q10.2) fun k44 =>
  hk_nm (fun (v14 : Int32) (s15 : hk_Ms) =>
    (m_byteAt  s15).bind fun x16 =>
    if x16 = (43 : Int32) then
      k44 v14 (1 : Int32) s15
    else
    k44 v14 (0 : Int32) s15) fun k30 =>
  if 0 ≤ (hm_I s3 13) then
    e0 v2 s3
  else
  (m_byteAt  s3).bind fun x19 =>
  if x19 = (43 : Int32) then
    k30 v2 s3
  else
  (m_byteAt  s3).bind fun x21 =>
  if x21 = (45 : Int32) then
    k30 v2 s3
  else
  e0 v2 s3
def m_sums_L5 (rc_product : hk_Ms → Option (Int32 × hk_Ms)) (e0 : Int32 → hk_Ms → Option (Int32 × hk_Ms)) : Nat → Int32 → hk_Ms → Option (Int32 × hk_Ms)
  | 0 => fun _ _ => none
  | n + 1 => m_sums_L5b rc_product e0 (m_sums_L5 rc_product e0 n)
def m_sums (rc_product : hk_Ms → Option (Int32 × hk_Ms)) (s0 : hk_Ms) : Option (Int32 × hk_Ms) :=
  (rc_product  s0).bind fun q1 =>
  m_sums_L5 rc_product  (fun (v4 : Int32) (s5 : hk_Ms) =>
    some (v4, s5)) hk_F q1.1 q1.2
abbrev N_m_sums (l : Launch) (fr lo : Nat) : hk_N := (l, cX4_sums, "HeadReckonsModel", 4, (some .int), fr, lo, false)
set_option maxHeartbeats 4000000 in
theorem wk_m_sums_L5b {l : Launch} {Gd : hk_G} {m0 : Nat} {st : hk_St} (KM : hk_KM m0 st) {fr lo fr' lo' : Nat} (hroom : fr' + 1 ≤ fr ∧ lo' + 60 ≤ lo ∧ 20 ≤ fr ∧ 600 ≤ lo) {rc_product : hk_Ms → Option (Int32 × hk_Ms)} (h_product : ∀ (z : hk_Ms) (r : Int32) (z2 : hk_Ms), rc_product  z = some (r, z2) → hk_Met Gd l yX4_product cX4_product 4 (some .int) fr' lo' [.ref m0] (hk_mU m0 st z) (some (.int r)) (hk_mU m0 st z2)) {s0 : hk_Ms} {r : Int32} {fin : hk_Ms} {e0 : Int32 → hk_Ms → Option (Int32 × hk_Ms)} {rc : Int32 → hk_Ms → Option (Int32 × hk_Ms)} (hrc : ∀ (v2 : Int32) (s3 : hk_Ms), rc v2 s3 = some (r, fin) → hk_V Gd (N_m_sums l fr lo) (hk_end Gd (hk_mU m0 st s0) (some (.int r)) (hk_mU m0 st fin)) 5 [(0, .ref m0), (1, .int v2)] [] (hk_mU m0 st s3)) (he0 : ∀ (v4 : Int32) (s5 : hk_Ms), e0 v4 s5 = some (r, fin) → hk_V Gd (N_m_sums l fr lo) (hk_end Gd (hk_mU m0 st s0) (some (.int r)) (hk_mU m0 st fin)) 77 [(1, .int v4)] [] (hk_mU m0 st s5)) {v2 : Int32} {s3 : hk_Ms} (h : m_sums_L5b rc_product e0 rc v2 s3 = some (r, fin)) : hk_V Gd (N_m_sums l fr lo) (hk_end Gd (hk_mU m0 st s0) (some (.int r)) (hk_mU m0 st fin)) 5 [(0, .ref m0), (1, .int v2)] [] (hk_mU m0 st s3) := by
  unfold m_sums_L5b at h
  obtain ⟨k44, e_k44, h⟩ := hq_nm h
  have wk44 : ∀ (v6 : Int32) (v7 : Int32) (s8 : hk_Ms), k44 v6 v7 s8 = some (r, fin) → hk_V Gd (N_m_sums l fr lo) (hk_end Gd (hk_mU m0 st s0) (some (.int r)) (hk_mU m0 st fin)) 44 [(0, .ref m0), (1, .int v6)] [.int v7] (hk_mU m0 st s8) := by
    intro v6 v7 s8 h
    rw [e_k44] at h
    refine hv_istore_n (L' := [(2, .int v7), (0, .ref m0), (1, .int v6)]) dX4_sums_44 rfl (Nat.le_of_ble_eq_true rfl) rfl ?_
    refine hv_aload_n 1 dX4_sums_45 rfl rfl ?_
    refine hv_dup dX4_sums_46 rfl ?_
    refine hm_getI (f := 11) KM (fl_X4_120) dX4_sums_47 ?_
    refine hv_iconst (v := 1) dX4_sums_50 (by decide) ?_
    refine hv_iadd dX4_sums_51 ?_
    obtain ⟨s9, e_s9, h⟩ := hq_nm h
    refine hm_putI (f := 11) KM (fp_X4_120) e_s9 dX4_sums_52 ?_
    refine hv_aload_n 1 dX4_sums_55 rfl rfl ?_
    obtain ⟨q10, e_q10, h⟩ := hq_ob h
    refine hv_callV [] [] [.int q10.1] (h_product _ _ _ e_q10) cs_X4_149 KM.recv rfl ⟨by show _ ≤ fr; omega, by show _ ≤ lo; omega⟩ rfl (Nat.le_of_ble_eq_true rfl) rfl dX4_sums_56 ?_
    refine hv_istore_n (L' := [(3, .int q10.1), (2, .int v7), (0, .ref m0), (1, .int v6)]) dX4_sums_59 rfl (Nat.le_of_ble_eq_true rfl) rfl ?_
    refine hv_iload_n 1 dX4_sums_60 rfl rfl ?_
    refine hv_if_eq (tgt := 70) dX4_sums_61 (by decide) (fun c11 => ?_) (fun c11 => ?_)
    · replace h := hq_ip c11 h
      refine hv_iload_n 3 dX4_sums_70 rfl rfl ?_
      refine hv_iload_n 0 dX4_sums_71 rfl rfl ?_
      refine hv_isub dX4_sums_72 ?_
      obtain ⟨x12, e_x12, h⟩ := hq_nm h
      rw [← e_x12]
      refine hv_istore_n (L' := [(1, .int x12), (3, .int q10.1), (2, .int v7), (0, .ref m0)]) dX4_sums_73 rfl (Nat.le_of_ble_eq_true rfl) rfl ?_
      refine hv_goto (tgt := 5) dX4_sums_74 (by decide) ?_
      refine hv_sub [3, 0] rfl ?_
      exact hrc _ _ h
    · replace h := hq_in c11 h
      refine hv_iload_n 3 dX4_sums_64 rfl rfl ?_
      refine hv_iload_n 0 dX4_sums_65 rfl rfl ?_
      refine hv_iadd dX4_sums_66 ?_
      refine hv_goto (tgt := 73) dX4_sums_67 (by decide) ?_
      obtain ⟨x13, e_x13, h⟩ := hq_nm h
      rw [← e_x13]
      refine hv_istore_n (L' := [(1, .int x13), (3, .int q10.1), (2, .int v7), (0, .ref m0)]) dX4_sums_73 rfl (Nat.le_of_ble_eq_true rfl) rfl ?_
      refine hv_goto (tgt := 5) dX4_sums_74 (by decide) ?_
      refine hv_sub [3, 0] rfl ?_
      exact hrc _ _ h
  clear e_k44
  obtain ⟨k30, e_k30, h⟩ := hq_nm h
  have wk30 : ∀ (v14 : Int32) (s15 : hk_Ms), k30 v14 s15 = some (r, fin) → hk_V Gd (N_m_sums l fr lo) (hk_end Gd (hk_mU m0 st s0) (some (.int r)) (hk_mU m0 st fin)) 30 [(0, .ref m0), (1, .int v14)] [] (hk_mU m0 st s15) := by
    intro v14 s15 h
    rw [e_k30] at h
    refine hv_aload_n 0 dX4_sums_30 rfl rfl ?_
    obtain ⟨x16, e_x16, h⟩ := hq_ob h
    refine hv_callV [] [] [.int x16] (wk_m_byteAt KM e_x16) cs_X4_132 KM.recv rfl ⟨by show _ ≤ fr; omega, by show _ ≤ lo; omega⟩ rfl (Nat.le_of_ble_eq_true rfl) rfl dX4_sums_31 ?_
    refine hv_bipush (v := 43) dX4_sums_34 (by decide) ?_
    refine hv_icmp_ne (tgt := 43) dX4_sums_36 (by decide) (fun c17 => ?_) (fun c17 => ?_)
    · replace h := hq_in c17 h
      refine hv_iconst (v := 0) dX4_sums_43 (by decide) ?_
      exact wk44 _ _ _ h
    · replace h := hq_ip c17 h
      refine hv_iconst (v := 1) dX4_sums_39 (by decide) ?_
      refine hv_goto (tgt := 44) dX4_sums_40 (by decide) ?_
      exact wk44 _ _ _ h
  clear e_k30
  refine hv_aload_n 0 dX4_sums_5 rfl rfl ?_
  refine hm_getI (f := 13) KM (fl_X4_129) dX4_sums_6 ?_
  refine hv_if_ge (tgt := 77) dX4_sums_9 (by decide) (fun c18 => ?_) (fun c18 => ?_)
  · replace h := hq_ip c18 h
    refine hv_sub [1] rfl ?_
    exact he0 _ _ h
  · replace h := hq_in c18 h
    refine hv_aload_n 0 dX4_sums_12 rfl rfl ?_
    obtain ⟨x19, e_x19, h⟩ := hq_ob h
    refine hv_callV [] [] [.int x19] (wk_m_byteAt KM e_x19) cs_X4_132 KM.recv rfl ⟨by show _ ≤ fr; omega, by show _ ≤ lo; omega⟩ rfl (Nat.le_of_ble_eq_true rfl) rfl dX4_sums_13 ?_
    refine hv_bipush (v := 43) dX4_sums_16 (by decide) ?_
    refine hv_icmp_eq (tgt := 30) dX4_sums_18 (by decide) (fun c20 => ?_) (fun c20 => ?_)
    · replace h := hq_ip c20 h
      exact wk30 _ _ h
    · replace h := hq_in c20 h
      refine hv_aload_n 0 dX4_sums_21 rfl rfl ?_
      obtain ⟨x21, e_x21, h⟩ := hq_ob h
      refine hv_callV [] [] [.int x21] (wk_m_byteAt KM e_x21) cs_X4_132 KM.recv rfl ⟨by show _ ≤ fr; omega, by show _ ≤ lo; omega⟩ rfl (Nat.le_of_ble_eq_true rfl) rfl dX4_sums_22 ?_
      refine hv_bipush (v := 45) dX4_sums_25 (by decide) ?_
      refine hv_icmp_ne (tgt := 77) dX4_sums_27 (by decide) (fun c22 => ?_) (fun c22 => ?_)
      · replace h := hq_in c22 h
        refine hv_sub [1] rfl ?_
        exact he0 _ _ h
      · replace h := hq_ip c22 h
        exact wk30 _ _ h
theorem wk_m_sums_L5 {l : Launch} {Gd : hk_G} {m0 : Nat} {st : hk_St} (KM : hk_KM m0 st) {fr lo fr' lo' : Nat} (hroom : fr' + 1 ≤ fr ∧ lo' + 60 ≤ lo ∧ 20 ≤ fr ∧ 600 ≤ lo) {rc_product : hk_Ms → Option (Int32 × hk_Ms)} (h_product : ∀ (z : hk_Ms) (r : Int32) (z2 : hk_Ms), rc_product  z = some (r, z2) → hk_Met Gd l yX4_product cX4_product 4 (some .int) fr' lo' [.ref m0] (hk_mU m0 st z) (some (.int r)) (hk_mU m0 st z2)) {s0 : hk_Ms} {r : Int32} {fin : hk_Ms} {e0 : Int32 → hk_Ms → Option (Int32 × hk_Ms)} (he0 : ∀ (v4 : Int32) (s5 : hk_Ms), e0 v4 s5 = some (r, fin) → hk_V Gd (N_m_sums l fr lo) (hk_end Gd (hk_mU m0 st s0) (some (.int r)) (hk_mU m0 st fin)) 77 [(1, .int v4)] [] (hk_mU m0 st s5)) : ∀ (n : Nat) (v2 : Int32) (s3 : hk_Ms), m_sums_L5 rc_product e0 n v2 s3 = some (r, fin) → hk_V Gd (N_m_sums l fr lo) (hk_end Gd (hk_mU m0 st s0) (some (.int r)) (hk_mU m0 st fin)) 5 [(0, .ref m0), (1, .int v2)] [] (hk_mU m0 st s3) := by
  intro n
  induction n with
  | zero => intro v2 s3 h; cases h
  | succ n ih => intro v2 s3 h; exact wk_m_sums_L5b KM hroom h_product ih he0 h
set_option maxHeartbeats 4000000 in
theorem wk_m_sums {l : Launch} {Gd : hk_G} {m0 : Nat} {st : hk_St} (KM : hk_KM m0 st) {fr lo fr' lo' : Nat} (hroom : fr' + 1 ≤ fr ∧ lo' + 60 ≤ lo ∧ 20 ≤ fr ∧ 600 ≤ lo) {rc_product : hk_Ms → Option (Int32 × hk_Ms)} (h_product : ∀ (z : hk_Ms) (r : Int32) (z2 : hk_Ms), rc_product  z = some (r, z2) → hk_Met Gd l yX4_product cX4_product 4 (some .int) fr' lo' [.ref m0] (hk_mU m0 st z) (some (.int r)) (hk_mU m0 st z2)) {s0 : hk_Ms} {r : Int32} {fin : hk_Ms} (h : m_sums rc_product s0 = some (r, fin)) : hk_Met Gd l yX4_sums cX4_sums 4 (some .int) fr lo [.ref m0] (hk_mU m0 st s0) (some (.int r)) (hk_mU m0 st fin) := by
  refine hk_start "HeadReckonsModel" false (by decide +kernel) rfl (by decide) (Nat.le_of_ble_eq_true rfl) ?_
  show hk_V Gd (N_m_sums l fr lo) (hk_end Gd (hk_mU m0 st s0) (some (.int r)) (hk_mU m0 st fin)) 0 [(0, .ref m0)] [] (hk_mU m0 st s0)
  unfold m_sums at h
  refine hv_aload_n 0 dX4_sums_0 rfl rfl ?_
  obtain ⟨q1, e_q1, h⟩ := hq_ob h
  refine hv_callV [] [] [.int q1.1] (h_product _ _ _ e_q1) cs_X4_149 KM.recv rfl ⟨by show _ ≤ fr; omega, by show _ ≤ lo; omega⟩ rfl (Nat.le_of_ble_eq_true rfl) rfl dX4_sums_1 ?_
  refine hv_istore_n (L' := [(1, .int q1.1), (0, .ref m0)]) dX4_sums_4 rfl (Nat.le_of_ble_eq_true rfl) rfl ?_
  refine hv_sub [1, 0] rfl ?_
  refine wk_m_sums_L5 KM hroom h_product ?_ hk_F _ _ h
  · intro v4 s5 h
    refine hv_iload_n 0 dX4_sums_77 rfl rfl ?_
    obtain ⟨h1, h2⟩ := hq_ret h
    subst h1
    subst h2
    exact hv_iret rfl dX4_sums_78
def m_compared (rc_sums : hk_Ms → Option (Int32 × hk_Ms)) (s0 : hk_Ms) : Option (Int32 × hk_Ms) :=
  hk_nm (fun (v1 : Int32) (v2 : Int32) (s3 : hk_Ms) =>
    hk_nm (hm_sI s3 11 ((hm_I s3 11) + (1 : Int32))) fun s4 =>
    (rc_sums  s4).bind fun q5 =>
    if v2 = (60 : Int32) then
      if q5.1 ≤ v1 then
      some ((0 : Int32), q5.2)
    else
    some ((1 : Int32), q5.2)
    else
    if v2 = (61 : Int32) then
        if v1 = q5.1 then
        some ((1 : Int32), q5.2)
      else
      some ((0 : Int32), q5.2)
      else
      if v1 ≤ q5.1 then
          some ((0 : Int32), q5.2)
        else
        some ((1 : Int32), q5.2)) fun k37 =>
  (rc_sums  s0).bind fun q11 =>
  (m_byteAt  q11.2).bind fun x12 =>
  if 0 ≤ (hm_I q11.2 13) then
    some (q11.1, q11.2)
  else
  if x12 = (60 : Int32) then
    k37 q11.1 x12 q11.2
  else
  if x12 = (61 : Int32) then
    k37 q11.1 x12 q11.2
  else
  if x12 = (62 : Int32) then
    k37 q11.1 x12 q11.2
  else
  some (q11.1, q11.2)
abbrev N_m_compared (l : Launch) (fr lo : Nat) : hk_N := (l, cX4_compared, "HeadReckonsModel", 4, (some .int), fr, lo, false)
set_option maxHeartbeats 4000000 in
theorem wk_m_compared {l : Launch} {Gd : hk_G} {m0 : Nat} {st : hk_St} (KM : hk_KM m0 st) {fr lo fr' lo' : Nat} (hroom : fr' + 1 ≤ fr ∧ lo' + 60 ≤ lo ∧ 20 ≤ fr ∧ 600 ≤ lo) {rc_sums : hk_Ms → Option (Int32 × hk_Ms)} (h_sums : ∀ (z : hk_Ms) (r : Int32) (z2 : hk_Ms), rc_sums  z = some (r, z2) → hk_Met Gd l yX4_sums cX4_sums 4 (some .int) fr' lo' [.ref m0] (hk_mU m0 st z) (some (.int r)) (hk_mU m0 st z2)) {s0 : hk_Ms} {r : Int32} {fin : hk_Ms} (h : m_compared rc_sums s0 = some (r, fin)) : hk_Met Gd l yX4_compared cX4_compared 4 (some .int) fr lo [.ref m0] (hk_mU m0 st s0) (some (.int r)) (hk_mU m0 st fin) := by
  refine hk_start "HeadReckonsModel" false (by decide +kernel) rfl (by decide) (Nat.le_of_ble_eq_true rfl) ?_
  show hk_V Gd (N_m_compared l fr lo) (hk_end Gd (hk_mU m0 st s0) (some (.int r)) (hk_mU m0 st fin)) 0 [(0, .ref m0)] [] (hk_mU m0 st s0)
  unfold m_compared at h
  obtain ⟨k37, e_k37, h⟩ := hq_nm h
  have wk37 : ∀ (v1 : Int32) (v2 : Int32) (s3 : hk_Ms), k37 v1 v2 s3 = some (r, fin) → hk_V Gd (N_m_compared l fr lo) (hk_end Gd (hk_mU m0 st s0) (some (.int r)) (hk_mU m0 st fin)) 37 [(0, .ref m0), (1, .int v1), (2, .int v2)] [] (hk_mU m0 st s3) := by
    intro v1 v2 s3 h
    rw [e_k37] at h
    refine hv_aload_n 0 dX4_compared_37 rfl rfl ?_
    refine hv_dup dX4_compared_38 rfl ?_
    refine hm_getI (f := 11) KM (fl_X4_120) dX4_compared_39 ?_
    refine hv_iconst (v := 1) dX4_compared_42 (by decide) ?_
    refine hv_iadd dX4_compared_43 ?_
    obtain ⟨s4, e_s4, h⟩ := hq_nm h
    refine hm_putI (f := 11) KM (fp_X4_120) e_s4 dX4_compared_44 ?_
    refine hv_aload_n 0 dX4_compared_47 rfl rfl ?_
    obtain ⟨q5, e_q5, h⟩ := hq_ob h
    refine hv_callV [] [] [.int q5.1] (h_sums _ _ _ e_q5) cs_X4_146 KM.recv rfl ⟨by show _ ≤ fr; omega, by show _ ≤ lo; omega⟩ rfl (Nat.le_of_ble_eq_true rfl) rfl dX4_compared_48 ?_
    refine hv_istore_n (L' := [(3, .int q5.1), (0, .ref m0), (1, .int v1), (2, .int v2)]) dX4_compared_51 rfl (Nat.le_of_ble_eq_true rfl) rfl ?_
    refine hv_iload_n 3 dX4_compared_52 rfl rfl ?_
    refine hv_bipush (v := 60) dX4_compared_53 (by decide) ?_
    refine hv_icmp_ne (tgt := 66) dX4_compared_55 (by decide) (fun c6 => ?_) (fun c6 => ?_)
    · replace h := hq_in c6 h
      refine hv_iload_n 3 dX4_compared_66 rfl rfl ?_
      refine hv_bipush (v := 61) dX4_compared_67 (by decide) ?_
      refine hv_icmp_ne (tgt := 80) dX4_compared_69 (by decide) (fun c7 => ?_) (fun c7 => ?_)
      · replace h := hq_in c7 h
        refine hv_iload_n 2 dX4_compared_80 rfl rfl ?_
        refine hv_iload_n 0 dX4_compared_81 rfl rfl ?_
        refine hv_icmp_le (tgt := 89) dX4_compared_82 (by decide) (fun c8 => ?_) (fun c8 => ?_)
        · replace h := hq_ip c8 h
          refine hv_iconst (v := 0) dX4_compared_89 (by decide) ?_
          obtain ⟨h1, h2⟩ := hq_ret h
          subst h1
          subst h2
          exact hv_iret rfl dX4_compared_90
        · replace h := hq_in c8 h
          refine hv_iconst (v := 1) dX4_compared_85 (by decide) ?_
          refine hv_goto (tgt := 90) dX4_compared_86 (by decide) ?_
          obtain ⟨h1, h2⟩ := hq_ret h
          subst h1
          subst h2
          exact hv_iret rfl dX4_compared_90
      · replace h := hq_ip c7 h
        refine hv_iload_n 2 dX4_compared_72 rfl rfl ?_
        refine hv_iload_n 0 dX4_compared_73 rfl rfl ?_
        refine hv_icmp_ne (tgt := 89) dX4_compared_74 (by decide) (fun c9 => ?_) (fun c9 => ?_)
        · replace h := hq_in c9 h
          refine hv_iconst (v := 0) dX4_compared_89 (by decide) ?_
          obtain ⟨h1, h2⟩ := hq_ret h
          subst h1
          subst h2
          exact hv_iret rfl dX4_compared_90
        · replace h := hq_ip c9 h
          refine hv_goto (tgt := 85) dX4_compared_77 (by decide) ?_
          refine hv_iconst (v := 1) dX4_compared_85 (by decide) ?_
          refine hv_goto (tgt := 90) dX4_compared_86 (by decide) ?_
          obtain ⟨h1, h2⟩ := hq_ret h
          subst h1
          subst h2
          exact hv_iret rfl dX4_compared_90
    · replace h := hq_ip c6 h
      refine hv_iload_n 2 dX4_compared_58 rfl rfl ?_
      refine hv_iload_n 0 dX4_compared_59 rfl rfl ?_
      refine hv_icmp_ge (tgt := 89) dX4_compared_60 (by decide) (fun c10 => ?_) (fun c10 => ?_)
      · replace h := hq_ip c10 h
        refine hv_iconst (v := 0) dX4_compared_89 (by decide) ?_
        obtain ⟨h1, h2⟩ := hq_ret h
        subst h1
        subst h2
        exact hv_iret rfl dX4_compared_90
      · replace h := hq_in c10 h
        refine hv_goto (tgt := 85) dX4_compared_63 (by decide) ?_
        refine hv_iconst (v := 1) dX4_compared_85 (by decide) ?_
        refine hv_goto (tgt := 90) dX4_compared_86 (by decide) ?_
        obtain ⟨h1, h2⟩ := hq_ret h
        subst h1
        subst h2
        exact hv_iret rfl dX4_compared_90
  clear e_k37
  refine hv_aload_n 0 dX4_compared_0 rfl rfl ?_
  obtain ⟨q11, e_q11, h⟩ := hq_ob h
  refine hv_callV [] [] [.int q11.1] (h_sums _ _ _ e_q11) cs_X4_146 KM.recv rfl ⟨by show _ ≤ fr; omega, by show _ ≤ lo; omega⟩ rfl (Nat.le_of_ble_eq_true rfl) rfl dX4_compared_1 ?_
  refine hv_istore_n (L' := [(1, .int q11.1), (0, .ref m0)]) dX4_compared_4 rfl (Nat.le_of_ble_eq_true rfl) rfl ?_
  refine hv_aload_n 1 dX4_compared_5 rfl rfl ?_
  obtain ⟨x12, e_x12, h⟩ := hq_ob h
  refine hv_callV [] [] [.int x12] (wk_m_byteAt KM e_x12) cs_X4_132 KM.recv rfl ⟨by show _ ≤ fr; omega, by show _ ≤ lo; omega⟩ rfl (Nat.le_of_ble_eq_true rfl) rfl dX4_compared_6 ?_
  refine hv_istore_n (L' := [(2, .int x12), (1, .int q11.1), (0, .ref m0)]) dX4_compared_9 rfl (Nat.le_of_ble_eq_true rfl) rfl ?_
  refine hv_aload_n 2 dX4_compared_10 rfl rfl ?_
  refine hm_getI (f := 13) KM (fl_X4_129) dX4_compared_11 ?_
  refine hv_if_ge (tgt := 35) dX4_compared_14 (by decide) (fun c13 => ?_) (fun c13 => ?_)
  · replace h := hq_ip c13 h
    refine hv_iload_n 1 dX4_compared_35 rfl rfl ?_
    obtain ⟨h1, h2⟩ := hq_ret h
    subst h1
    subst h2
    exact hv_iret rfl dX4_compared_36
  · replace h := hq_in c13 h
    refine hv_iload_n 0 dX4_compared_17 rfl rfl ?_
    refine hv_bipush (v := 60) dX4_compared_18 (by decide) ?_
    refine hv_icmp_eq (tgt := 37) dX4_compared_20 (by decide) (fun c14 => ?_) (fun c14 => ?_)
    · replace h := hq_ip c14 h
      refine hv_sub [2, 1, 0] rfl ?_
      exact wk37 _ _ _ h
    · replace h := hq_in c14 h
      refine hv_iload_n 0 dX4_compared_23 rfl rfl ?_
      refine hv_bipush (v := 61) dX4_compared_24 (by decide) ?_
      refine hv_icmp_eq (tgt := 37) dX4_compared_26 (by decide) (fun c15 => ?_) (fun c15 => ?_)
      · replace h := hq_ip c15 h
        refine hv_sub [2, 1, 0] rfl ?_
        exact wk37 _ _ _ h
      · replace h := hq_in c15 h
        refine hv_iload_n 0 dX4_compared_29 rfl rfl ?_
        refine hv_bipush (v := 62) dX4_compared_30 (by decide) ?_
        refine hv_icmp_eq (tgt := 37) dX4_compared_32 (by decide) (fun c16 => ?_) (fun c16 => ?_)
        · replace h := hq_ip c16 h
          refine hv_sub [2, 1, 0] rfl ?_
          exact wk37 _ _ _ h
        · replace h := hq_in c16 h
          refine hv_iload_n 1 dX4_compared_35 rfl rfl ?_
          obtain ⟨h1, h2⟩ := hq_ret h
          subst h1
          subst h2
          exact hv_iret rfl dX4_compared_36
def m_both_L5b (rc_compared : hk_Ms → Option (Int32 × hk_Ms)) (e0 : Int32 → hk_Ms → Option (Int32 × hk_Ms)) (rc : Int32 → hk_Ms → Option (Int32 × hk_Ms)) (v2 : Int32) (s3 : hk_Ms) : Option (Int32 × hk_Ms) :=
  (m_takes (38 : Int32) s3).bind fun q6 =>
  if q6.1 = 0 then
    e0 v2 q6.2
  else
  (rc_compared  q6.2).bind fun q8 =>
  if v2 = 0 then
    rc (0 : Int32) q8.2
  else
  if q8.1 = 0 then
    rc (0 : Int32) q8.2
  else
  rc (1 : Int32) q8.2
def m_both_L5 (rc_compared : hk_Ms → Option (Int32 × hk_Ms)) (e0 : Int32 → hk_Ms → Option (Int32 × hk_Ms)) : Nat → Int32 → hk_Ms → Option (Int32 × hk_Ms)
  | 0 => fun _ _ => none
  | n + 1 => m_both_L5b rc_compared e0 (m_both_L5 rc_compared e0 n)
def m_both (rc_compared : hk_Ms → Option (Int32 × hk_Ms)) (s0 : hk_Ms) : Option (Int32 × hk_Ms) :=
  (rc_compared  s0).bind fun q1 =>
  m_both_L5 rc_compared  (fun (v4 : Int32) (s5 : hk_Ms) =>
    some (v4, s5)) hk_F q1.1 q1.2
abbrev N_m_both (l : Launch) (fr lo : Nat) : hk_N := (l, cX4_both, "HeadReckonsModel", 3, (some .int), fr, lo, false)
set_option maxHeartbeats 4000000 in
theorem wk_m_both_L5b {l : Launch} {Gd : hk_G} {m0 : Nat} {st : hk_St} (KM : hk_KM m0 st) {fr lo fr' lo' : Nat} (hroom : fr' + 1 ≤ fr ∧ lo' + 60 ≤ lo ∧ 20 ≤ fr ∧ 600 ≤ lo) {rc_compared : hk_Ms → Option (Int32 × hk_Ms)} (h_compared : ∀ (z : hk_Ms) (r : Int32) (z2 : hk_Ms), rc_compared  z = some (r, z2) → hk_Met Gd l yX4_compared cX4_compared 4 (some .int) fr' lo' [.ref m0] (hk_mU m0 st z) (some (.int r)) (hk_mU m0 st z2)) {s0 : hk_Ms} {r : Int32} {fin : hk_Ms} {e0 : Int32 → hk_Ms → Option (Int32 × hk_Ms)} {rc : Int32 → hk_Ms → Option (Int32 × hk_Ms)} (hrc : ∀ (v2 : Int32) (s3 : hk_Ms), rc v2 s3 = some (r, fin) → hk_V Gd (N_m_both l fr lo) (hk_end Gd (hk_mU m0 st s0) (some (.int r)) (hk_mU m0 st fin)) 5 [(0, .ref m0), (1, .int v2)] [] (hk_mU m0 st s3)) (he0 : ∀ (v4 : Int32) (s5 : hk_Ms), e0 v4 s5 = some (r, fin) → hk_V Gd (N_m_both l fr lo) (hk_end Gd (hk_mU m0 st s0) (some (.int r)) (hk_mU m0 st fin)) 36 [(1, .int v4)] [] (hk_mU m0 st s5)) {v2 : Int32} {s3 : hk_Ms} (h : m_both_L5b rc_compared e0 rc v2 s3 = some (r, fin)) : hk_V Gd (N_m_both l fr lo) (hk_end Gd (hk_mU m0 st s0) (some (.int r)) (hk_mU m0 st fin)) 5 [(0, .ref m0), (1, .int v2)] [] (hk_mU m0 st s3) := by
  unfold m_both_L5b at h
  refine hv_aload_n 0 dX4_both_5 rfl rfl ?_
  refine hv_bipush (v := 38) dX4_both_6 (by decide) ?_
  obtain ⟨q6, e_q6, h⟩ := hq_ob h
  refine hv_callV [.int (38 : Int32)] [] [.int q6.1] (wk_m_takes KM e_q6) cs_X4_139 KM.recv rfl ⟨by show _ ≤ fr; omega, by show _ ≤ lo; omega⟩ rfl (Nat.le_of_ble_eq_true rfl) rfl dX4_both_8 ?_
  refine hv_if_eq (tgt := 36) dX4_both_11 (by decide) (fun c7 => ?_) (fun c7 => ?_)
  · replace h := hq_ip c7 h
    refine hv_sub [1] rfl ?_
    exact he0 _ _ h
  · replace h := hq_in c7 h
    refine hv_aload_n 0 dX4_both_14 rfl rfl ?_
    obtain ⟨q8, e_q8, h⟩ := hq_ob h
    refine hv_callV [] [] [.int q8.1] (h_compared _ _ _ e_q8) cs_X4_143 KM.recv rfl ⟨by show _ ≤ fr; omega, by show _ ≤ lo; omega⟩ rfl (Nat.le_of_ble_eq_true rfl) rfl dX4_both_15 ?_
    refine hv_istore_n (L' := [(2, .int q8.1), (0, .ref m0), (1, .int v2)]) dX4_both_18 rfl (Nat.le_of_ble_eq_true rfl) rfl ?_
    refine hv_iload_n 2 dX4_both_19 rfl rfl ?_
    refine hv_if_eq (tgt := 31) dX4_both_20 (by decide) (fun c9 => ?_) (fun c9 => ?_)
    · replace h := hq_ip c9 h
      refine hv_iconst (v := 0) dX4_both_31 (by decide) ?_
      refine hv_istore_n (L' := [(1, .int (0 : Int32)), (2, .int q8.1), (0, .ref m0)]) dX4_both_32 rfl (Nat.le_of_ble_eq_true rfl) rfl ?_
      refine hv_goto (tgt := 5) dX4_both_33 (by decide) ?_
      refine hv_sub [2, 0] rfl ?_
      exact hrc _ _ h
    · replace h := hq_in c9 h
      refine hv_iload_n 0 dX4_both_23 rfl rfl ?_
      refine hv_if_eq (tgt := 31) dX4_both_24 (by decide) (fun c10 => ?_) (fun c10 => ?_)
      · replace h := hq_ip c10 h
        refine hv_iconst (v := 0) dX4_both_31 (by decide) ?_
        refine hv_istore_n (L' := [(1, .int (0 : Int32)), (2, .int q8.1), (0, .ref m0)]) dX4_both_32 rfl (Nat.le_of_ble_eq_true rfl) rfl ?_
        refine hv_goto (tgt := 5) dX4_both_33 (by decide) ?_
        refine hv_sub [2, 0] rfl ?_
        exact hrc _ _ h
      · replace h := hq_in c10 h
        refine hv_iconst (v := 1) dX4_both_27 (by decide) ?_
        refine hv_goto (tgt := 32) dX4_both_28 (by decide) ?_
        refine hv_istore_n (L' := [(1, .int (1 : Int32)), (2, .int q8.1), (0, .ref m0)]) dX4_both_32 rfl (Nat.le_of_ble_eq_true rfl) rfl ?_
        refine hv_goto (tgt := 5) dX4_both_33 (by decide) ?_
        refine hv_sub [2, 0] rfl ?_
        exact hrc _ _ h
theorem wk_m_both_L5 {l : Launch} {Gd : hk_G} {m0 : Nat} {st : hk_St} (KM : hk_KM m0 st) {fr lo fr' lo' : Nat} (hroom : fr' + 1 ≤ fr ∧ lo' + 60 ≤ lo ∧ 20 ≤ fr ∧ 600 ≤ lo) {rc_compared : hk_Ms → Option (Int32 × hk_Ms)} (h_compared : ∀ (z : hk_Ms) (r : Int32) (z2 : hk_Ms), rc_compared  z = some (r, z2) → hk_Met Gd l yX4_compared cX4_compared 4 (some .int) fr' lo' [.ref m0] (hk_mU m0 st z) (some (.int r)) (hk_mU m0 st z2)) {s0 : hk_Ms} {r : Int32} {fin : hk_Ms} {e0 : Int32 → hk_Ms → Option (Int32 × hk_Ms)} (he0 : ∀ (v4 : Int32) (s5 : hk_Ms), e0 v4 s5 = some (r, fin) → hk_V Gd (N_m_both l fr lo) (hk_end Gd (hk_mU m0 st s0) (some (.int r)) (hk_mU m0 st fin)) 36 [(1, .int v4)] [] (hk_mU m0 st s5)) : ∀ (n : Nat) (v2 : Int32) (s3 : hk_Ms), m_both_L5 rc_compared e0 n v2 s3 = some (r, fin) → hk_V Gd (N_m_both l fr lo) (hk_end Gd (hk_mU m0 st s0) (some (.int r)) (hk_mU m0 st fin)) 5 [(0, .ref m0), (1, .int v2)] [] (hk_mU m0 st s3) := by
  intro n
  induction n with
  | zero => intro v2 s3 h; cases h
  | succ n ih => intro v2 s3 h; exact wk_m_both_L5b KM hroom h_compared ih he0 h
set_option maxHeartbeats 4000000 in
theorem wk_m_both {l : Launch} {Gd : hk_G} {m0 : Nat} {st : hk_St} (KM : hk_KM m0 st) {fr lo fr' lo' : Nat} (hroom : fr' + 1 ≤ fr ∧ lo' + 60 ≤ lo ∧ 20 ≤ fr ∧ 600 ≤ lo) {rc_compared : hk_Ms → Option (Int32 × hk_Ms)} (h_compared : ∀ (z : hk_Ms) (r : Int32) (z2 : hk_Ms), rc_compared  z = some (r, z2) → hk_Met Gd l yX4_compared cX4_compared 4 (some .int) fr' lo' [.ref m0] (hk_mU m0 st z) (some (.int r)) (hk_mU m0 st z2)) {s0 : hk_Ms} {r : Int32} {fin : hk_Ms} (h : m_both rc_compared s0 = some (r, fin)) : hk_Met Gd l yX4_both cX4_both 3 (some .int) fr lo [.ref m0] (hk_mU m0 st s0) (some (.int r)) (hk_mU m0 st fin) := by
  refine hk_start "HeadReckonsModel" false (by decide +kernel) rfl (by decide) (Nat.le_of_ble_eq_true rfl) ?_
  show hk_V Gd (N_m_both l fr lo) (hk_end Gd (hk_mU m0 st s0) (some (.int r)) (hk_mU m0 st fin)) 0 [(0, .ref m0)] [] (hk_mU m0 st s0)
  unfold m_both at h
  refine hv_aload_n 0 dX4_both_0 rfl rfl ?_
  obtain ⟨q1, e_q1, h⟩ := hq_ob h
  refine hv_callV [] [] [.int q1.1] (h_compared _ _ _ e_q1) cs_X4_143 KM.recv rfl ⟨by show _ ≤ fr; omega, by show _ ≤ lo; omega⟩ rfl (Nat.le_of_ble_eq_true rfl) rfl dX4_both_1 ?_
  refine hv_istore_n (L' := [(1, .int q1.1), (0, .ref m0)]) dX4_both_4 rfl (Nat.le_of_ble_eq_true rfl) rfl ?_
  refine hv_sub [1, 0] rfl ?_
  refine wk_m_both_L5 KM hroom h_compared ?_ hk_F _ _ h
  · intro v4 s5 h
    refine hv_iload_n 0 dX4_both_36 rfl rfl ?_
    obtain ⟨h1, h2⟩ := hq_ret h
    subst h1
    subst h2
    exact hv_iret rfl dX4_both_37
def m_either_L5b (rc_both : hk_Ms → Option (Int32 × hk_Ms)) (e0 : Int32 → hk_Ms → Option (Int32 × hk_Ms)) (rc : Int32 → hk_Ms → Option (Int32 × hk_Ms)) (v2 : Int32) (s3 : hk_Ms) : Option (Int32 × hk_Ms) :=
  (m_takes (124 : Int32) s3).bind fun q6 =>
  if q6.1 = 0 then
    e0 v2 q6.2
  else
  (rc_both  q6.2).bind fun q8 =>
  if v2 = 0 then
    if q8.1 = 0 then
    rc (0 : Int32) q8.2
  else
  rc (1 : Int32) q8.2
  else
  rc (1 : Int32) q8.2
def m_either_L5 (rc_both : hk_Ms → Option (Int32 × hk_Ms)) (e0 : Int32 → hk_Ms → Option (Int32 × hk_Ms)) : Nat → Int32 → hk_Ms → Option (Int32 × hk_Ms)
  | 0 => fun _ _ => none
  | n + 1 => m_either_L5b rc_both e0 (m_either_L5 rc_both e0 n)
def m_either (rc_both : hk_Ms → Option (Int32 × hk_Ms)) (s0 : hk_Ms) : Option (Int32 × hk_Ms) :=
  (rc_both  s0).bind fun q1 =>
  m_either_L5 rc_both  (fun (v4 : Int32) (s5 : hk_Ms) =>
    some (v4, s5)) hk_F q1.1 q1.2
abbrev N_m_either (l : Launch) (fr lo : Nat) : hk_N := (l, cX4_either, "HeadReckonsModel", 3, (some .int), fr, lo, false)
set_option maxHeartbeats 4000000 in
theorem wk_m_either_L5b {l : Launch} {Gd : hk_G} {m0 : Nat} {st : hk_St} (KM : hk_KM m0 st) {fr lo fr' lo' : Nat} (hroom : fr' + 1 ≤ fr ∧ lo' + 60 ≤ lo ∧ 20 ≤ fr ∧ 600 ≤ lo) {rc_both : hk_Ms → Option (Int32 × hk_Ms)} (h_both : ∀ (z : hk_Ms) (r : Int32) (z2 : hk_Ms), rc_both  z = some (r, z2) → hk_Met Gd l yX4_both cX4_both 3 (some .int) fr' lo' [.ref m0] (hk_mU m0 st z) (some (.int r)) (hk_mU m0 st z2)) {s0 : hk_Ms} {r : Int32} {fin : hk_Ms} {e0 : Int32 → hk_Ms → Option (Int32 × hk_Ms)} {rc : Int32 → hk_Ms → Option (Int32 × hk_Ms)} (hrc : ∀ (v2 : Int32) (s3 : hk_Ms), rc v2 s3 = some (r, fin) → hk_V Gd (N_m_either l fr lo) (hk_end Gd (hk_mU m0 st s0) (some (.int r)) (hk_mU m0 st fin)) 5 [(0, .ref m0), (1, .int v2)] [] (hk_mU m0 st s3)) (he0 : ∀ (v4 : Int32) (s5 : hk_Ms), e0 v4 s5 = some (r, fin) → hk_V Gd (N_m_either l fr lo) (hk_end Gd (hk_mU m0 st s0) (some (.int r)) (hk_mU m0 st fin)) 36 [(1, .int v4)] [] (hk_mU m0 st s5)) {v2 : Int32} {s3 : hk_Ms} (h : m_either_L5b rc_both e0 rc v2 s3 = some (r, fin)) : hk_V Gd (N_m_either l fr lo) (hk_end Gd (hk_mU m0 st s0) (some (.int r)) (hk_mU m0 st fin)) 5 [(0, .ref m0), (1, .int v2)] [] (hk_mU m0 st s3) := by
  unfold m_either_L5b at h
  refine hv_aload_n 0 dX4_either_5 rfl rfl ?_
  refine hv_bipush (v := 124) dX4_either_6 (by decide) ?_
  obtain ⟨q6, e_q6, h⟩ := hq_ob h
  refine hv_callV [.int (124 : Int32)] [] [.int q6.1] (wk_m_takes KM e_q6) cs_X4_139 KM.recv rfl ⟨by show _ ≤ fr; omega, by show _ ≤ lo; omega⟩ rfl (Nat.le_of_ble_eq_true rfl) rfl dX4_either_8 ?_
  refine hv_if_eq (tgt := 36) dX4_either_11 (by decide) (fun c7 => ?_) (fun c7 => ?_)
  · replace h := hq_ip c7 h
    refine hv_sub [1] rfl ?_
    exact he0 _ _ h
  · replace h := hq_in c7 h
    refine hv_aload_n 0 dX4_either_14 rfl rfl ?_
    obtain ⟨q8, e_q8, h⟩ := hq_ob h
    refine hv_callV [] [] [.int q8.1] (h_both _ _ _ e_q8) cs_X4_136 KM.recv rfl ⟨by show _ ≤ fr; omega, by show _ ≤ lo; omega⟩ rfl (Nat.le_of_ble_eq_true rfl) rfl dX4_either_15 ?_
    refine hv_istore_n (L' := [(2, .int q8.1), (0, .ref m0), (1, .int v2)]) dX4_either_18 rfl (Nat.le_of_ble_eq_true rfl) rfl ?_
    refine hv_iload_n 2 dX4_either_19 rfl rfl ?_
    refine hv_if_ne (tgt := 27) dX4_either_20 (by decide) (fun c9 => ?_) (fun c9 => ?_)
    · replace h := hq_in c9 h
      refine hv_iconst (v := 1) dX4_either_27 (by decide) ?_
      refine hv_goto (tgt := 32) dX4_either_28 (by decide) ?_
      refine hv_istore_n (L' := [(1, .int (1 : Int32)), (2, .int q8.1), (0, .ref m0)]) dX4_either_32 rfl (Nat.le_of_ble_eq_true rfl) rfl ?_
      refine hv_goto (tgt := 5) dX4_either_33 (by decide) ?_
      refine hv_sub [2, 0] rfl ?_
      exact hrc _ _ h
    · replace h := hq_ip c9 h
      refine hv_iload_n 0 dX4_either_23 rfl rfl ?_
      refine hv_if_eq (tgt := 31) dX4_either_24 (by decide) (fun c10 => ?_) (fun c10 => ?_)
      · replace h := hq_ip c10 h
        refine hv_iconst (v := 0) dX4_either_31 (by decide) ?_
        refine hv_istore_n (L' := [(1, .int (0 : Int32)), (2, .int q8.1), (0, .ref m0)]) dX4_either_32 rfl (Nat.le_of_ble_eq_true rfl) rfl ?_
        refine hv_goto (tgt := 5) dX4_either_33 (by decide) ?_
        refine hv_sub [2, 0] rfl ?_
        exact hrc _ _ h
      · replace h := hq_in c10 h
        refine hv_iconst (v := 1) dX4_either_27 (by decide) ?_
        refine hv_goto (tgt := 32) dX4_either_28 (by decide) ?_
        refine hv_istore_n (L' := [(1, .int (1 : Int32)), (2, .int q8.1), (0, .ref m0)]) dX4_either_32 rfl (Nat.le_of_ble_eq_true rfl) rfl ?_
        refine hv_goto (tgt := 5) dX4_either_33 (by decide) ?_
        refine hv_sub [2, 0] rfl ?_
        exact hrc _ _ h
theorem wk_m_either_L5 {l : Launch} {Gd : hk_G} {m0 : Nat} {st : hk_St} (KM : hk_KM m0 st) {fr lo fr' lo' : Nat} (hroom : fr' + 1 ≤ fr ∧ lo' + 60 ≤ lo ∧ 20 ≤ fr ∧ 600 ≤ lo) {rc_both : hk_Ms → Option (Int32 × hk_Ms)} (h_both : ∀ (z : hk_Ms) (r : Int32) (z2 : hk_Ms), rc_both  z = some (r, z2) → hk_Met Gd l yX4_both cX4_both 3 (some .int) fr' lo' [.ref m0] (hk_mU m0 st z) (some (.int r)) (hk_mU m0 st z2)) {s0 : hk_Ms} {r : Int32} {fin : hk_Ms} {e0 : Int32 → hk_Ms → Option (Int32 × hk_Ms)} (he0 : ∀ (v4 : Int32) (s5 : hk_Ms), e0 v4 s5 = some (r, fin) → hk_V Gd (N_m_either l fr lo) (hk_end Gd (hk_mU m0 st s0) (some (.int r)) (hk_mU m0 st fin)) 36 [(1, .int v4)] [] (hk_mU m0 st s5)) : ∀ (n : Nat) (v2 : Int32) (s3 : hk_Ms), m_either_L5 rc_both e0 n v2 s3 = some (r, fin) → hk_V Gd (N_m_either l fr lo) (hk_end Gd (hk_mU m0 st s0) (some (.int r)) (hk_mU m0 st fin)) 5 [(0, .ref m0), (1, .int v2)] [] (hk_mU m0 st s3) := by
  intro n
  induction n with
  | zero => intro v2 s3 h; cases h
  | succ n ih => intro v2 s3 h; exact wk_m_either_L5b KM hroom h_both ih he0 h
set_option maxHeartbeats 4000000 in
theorem wk_m_either {l : Launch} {Gd : hk_G} {m0 : Nat} {st : hk_St} (KM : hk_KM m0 st) {fr lo fr' lo' : Nat} (hroom : fr' + 1 ≤ fr ∧ lo' + 60 ≤ lo ∧ 20 ≤ fr ∧ 600 ≤ lo) {rc_both : hk_Ms → Option (Int32 × hk_Ms)} (h_both : ∀ (z : hk_Ms) (r : Int32) (z2 : hk_Ms), rc_both  z = some (r, z2) → hk_Met Gd l yX4_both cX4_both 3 (some .int) fr' lo' [.ref m0] (hk_mU m0 st z) (some (.int r)) (hk_mU m0 st z2)) {s0 : hk_Ms} {r : Int32} {fin : hk_Ms} (h : m_either rc_both s0 = some (r, fin)) : hk_Met Gd l yX4_either cX4_either 3 (some .int) fr lo [.ref m0] (hk_mU m0 st s0) (some (.int r)) (hk_mU m0 st fin) := by
  refine hk_start "HeadReckonsModel" false (by decide +kernel) rfl (by decide) (Nat.le_of_ble_eq_true rfl) ?_
  show hk_V Gd (N_m_either l fr lo) (hk_end Gd (hk_mU m0 st s0) (some (.int r)) (hk_mU m0 st fin)) 0 [(0, .ref m0)] [] (hk_mU m0 st s0)
  unfold m_either at h
  refine hv_aload_n 0 dX4_either_0 rfl rfl ?_
  obtain ⟨q1, e_q1, h⟩ := hq_ob h
  refine hv_callV [] [] [.int q1.1] (h_both _ _ _ e_q1) cs_X4_136 KM.recv rfl ⟨by show _ ≤ fr; omega, by show _ ≤ lo; omega⟩ rfl (Nat.le_of_ble_eq_true rfl) rfl dX4_either_1 ?_
  refine hv_istore_n (L' := [(1, .int q1.1), (0, .ref m0)]) dX4_either_4 rfl (Nat.le_of_ble_eq_true rfl) rfl ?_
  refine hv_sub [1, 0] rfl ?_
  refine wk_m_either_L5 KM hroom h_both ?_ hk_F _ _ h
  · intro v4 s5 h
    refine hv_iload_n 0 dX4_either_36 rfl rfl ?_
    obtain ⟨h1, h2⟩ := hq_ret h
    subst h1
    subst h2
    exact hv_iret rfl dX4_either_37
def g_P : Nat → Nat → hk_Ms → Option (Int32 × hk_Ms)
  | 0 => fun _  _ => none
  | d + 1 => fun w => match w with
    | 0 => m_either (g_P d 1)
    | 1 => m_both (g_P d 2)
    | 2 => m_compared (g_P d 3)
    | 3 => m_sums (g_P d 4)
    | 4 => m_product (g_P d 5)
    | _ => m_one (g_P d 0) (g_P d 5)
theorem wk_gA_P {l : Launch} {Gd : hk_G} {m0 : Nat} {st : hk_St} (KM : hk_KM m0 st) : ∀ d : Nat, (∀ (z : hk_Ms) (r : Int32) (z2 : hk_Ms), g_P d 0  z = some (r, z2) → hk_Met Gd l yX4_either cX4_either 3 (some .int) (20 + d) (600 + 60 * d) [.ref m0] (hk_mU m0 st z) (some (.int r)) (hk_mU m0 st z2)) ∧
    (∀ (z : hk_Ms) (r : Int32) (z2 : hk_Ms), g_P d 1  z = some (r, z2) → hk_Met Gd l yX4_both cX4_both 3 (some .int) (20 + d) (600 + 60 * d) [.ref m0] (hk_mU m0 st z) (some (.int r)) (hk_mU m0 st z2)) ∧
    (∀ (z : hk_Ms) (r : Int32) (z2 : hk_Ms), g_P d 2  z = some (r, z2) → hk_Met Gd l yX4_compared cX4_compared 4 (some .int) (20 + d) (600 + 60 * d) [.ref m0] (hk_mU m0 st z) (some (.int r)) (hk_mU m0 st z2)) ∧
    (∀ (z : hk_Ms) (r : Int32) (z2 : hk_Ms), g_P d 3  z = some (r, z2) → hk_Met Gd l yX4_sums cX4_sums 4 (some .int) (20 + d) (600 + 60 * d) [.ref m0] (hk_mU m0 st z) (some (.int r)) (hk_mU m0 st z2)) ∧
    (∀ (z : hk_Ms) (r : Int32) (z2 : hk_Ms), g_P d 4  z = some (r, z2) → hk_Met Gd l yX4_product cX4_product 4 (some .int) (20 + d) (600 + 60 * d) [.ref m0] (hk_mU m0 st z) (some (.int r)) (hk_mU m0 st z2)) ∧
    (∀ (z : hk_Ms) (r : Int32) (z2 : hk_Ms), g_P d 5  z = some (r, z2) → hk_Met Gd l yX4_one cX4_one 5 (some .int) (20 + d) (600 + 60 * d) [.ref m0] (hk_mU m0 st z) (some (.int r)) (hk_mU m0 st z2)) := by
  intro d
  induction d with
  | zero => refine ⟨?_, ?_, ?_, ?_, ?_, ?_⟩ <;> (intros; rename_i h; cases h)
  | succ d ih =>
    exact ⟨fun _ _ _ h => wk_m_either KM ⟨by omega, by omega, by omega, by omega⟩ ih.2.1 h,
      fun _ _ _ h => wk_m_both KM ⟨by omega, by omega, by omega, by omega⟩ ih.2.2.1 h,
      fun _ _ _ h => wk_m_compared KM ⟨by omega, by omega, by omega, by omega⟩ ih.2.2.2.1 h,
      fun _ _ _ h => wk_m_sums KM ⟨by omega, by omega, by omega, by omega⟩ ih.2.2.2.2.1 h,
      fun _ _ _ h => wk_m_product KM ⟨by omega, by omega, by omega, by omega⟩ ih.2.2.2.2.2 h,
      fun _ _ _ h => wk_m_one KM ⟨by omega, by omega, by omega, by omega⟩ ih.1 ih.2.2.2.2.2 h⟩
theorem wk_g_P_either {l : Launch} {Gd : hk_G} {m0 : Nat} {st : hk_St} (KM : hk_KM m0 st) {z : hk_Ms} {r : Int32} {z2 : hk_Ms} (h : g_P 60 0  z = some (r, z2)) : hk_Met Gd l yX4_either cX4_either 3 (some .int) 80 4200 [.ref m0] (hk_mU m0 st z) (some (.int r)) (hk_mU m0 st z2) :=
  (wk_gA_P KM 60).1 _ _ _ h
theorem wk_g_P_both {l : Launch} {Gd : hk_G} {m0 : Nat} {st : hk_St} (KM : hk_KM m0 st) {z : hk_Ms} {r : Int32} {z2 : hk_Ms} (h : g_P 60 1  z = some (r, z2)) : hk_Met Gd l yX4_both cX4_both 3 (some .int) 80 4200 [.ref m0] (hk_mU m0 st z) (some (.int r)) (hk_mU m0 st z2) :=
  (wk_gA_P KM 60).2.1 _ _ _ h
theorem wk_g_P_compared {l : Launch} {Gd : hk_G} {m0 : Nat} {st : hk_St} (KM : hk_KM m0 st) {z : hk_Ms} {r : Int32} {z2 : hk_Ms} (h : g_P 60 2  z = some (r, z2)) : hk_Met Gd l yX4_compared cX4_compared 4 (some .int) 80 4200 [.ref m0] (hk_mU m0 st z) (some (.int r)) (hk_mU m0 st z2) :=
  (wk_gA_P KM 60).2.2.1 _ _ _ h
theorem wk_g_P_sums {l : Launch} {Gd : hk_G} {m0 : Nat} {st : hk_St} (KM : hk_KM m0 st) {z : hk_Ms} {r : Int32} {z2 : hk_Ms} (h : g_P 60 3  z = some (r, z2)) : hk_Met Gd l yX4_sums cX4_sums 4 (some .int) 80 4200 [.ref m0] (hk_mU m0 st z) (some (.int r)) (hk_mU m0 st z2) :=
  (wk_gA_P KM 60).2.2.2.1 _ _ _ h
theorem wk_g_P_product {l : Launch} {Gd : hk_G} {m0 : Nat} {st : hk_St} (KM : hk_KM m0 st) {z : hk_Ms} {r : Int32} {z2 : hk_Ms} (h : g_P 60 4  z = some (r, z2)) : hk_Met Gd l yX4_product cX4_product 4 (some .int) 80 4200 [.ref m0] (hk_mU m0 st z) (some (.int r)) (hk_mU m0 st z2) :=
  (wk_gA_P KM 60).2.2.2.2.1 _ _ _ h
theorem wk_g_P_one {l : Launch} {Gd : hk_G} {m0 : Nat} {st : hk_St} (KM : hk_KM m0 st) {z : hk_Ms} {r : Int32} {z2 : hk_Ms} (h : g_P 60 5  z = some (r, z2)) : hk_Met Gd l yX4_one cX4_one 5 (some .int) 80 4200 [.ref m0] (hk_mU m0 st z) (some (.int r)) (hk_mU m0 st z2) :=
  (wk_gA_P KM 60).2.2.2.2.2 _ _ _ h
