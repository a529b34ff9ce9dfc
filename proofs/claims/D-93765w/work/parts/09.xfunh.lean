set_option maxRecDepth 100000
def x_rootOf_L7b (p1 : Int64) (p2 : Int32) (e0 : Int64 → Option (Int64)) (rc : Int64 → Int64 → Option (Int64)) (v1 : Int64) (v2 : Int64) : Option (Int64) :=
  if (v2 - v1) ≤ (1 : Int64) then
    e0 v1
  else
  hk_nm ((v1 + v2) / (2 : Int64)) fun x5 =>
  (x_isAbove x5 p2 p1).bind fun x6 =>
  if x6 = 0 then
    rc x5 v2
  else
  rc v1 x5
def x_rootOf_L7 (p1 : Int64) (p2 : Int32) (e0 : Int64 → Option (Int64)) : Nat → Int64 → Int64 → Option (Int64)
  | 0 => fun _ _ => none
  | n + 1 => x_rootOf_L7b p1 p2 e0 (x_rootOf_L7 p1 p2 e0 n)
def x_rootOf (p1 : Int64) (p2 : Int32) : Option (Int64) :=
  x_rootOf_L7 p1 p2  (fun (v3 : Int64) =>
    some v3) hk_F (0 : Int64) (1000000001 : Int64) 
abbrev N_x_rootOf (l : Launch) : hk_N := (l, cX0_rootOf, "HeadReckons", 9, (some .long), 1, 27, false)
set_option maxHeartbeats 4000000 in
theorem wk_x_rootOf_L7b {l : Launch} {Gd : hk_G} {st : hk_St} {p1 : Int64} {p2 : Int32} {r : Int64} {e0 : Int64 → Option (Int64)} {rc : Int64 → Int64 → Option (Int64)} (hrc : ∀ (v1 : Int64) (v2 : Int64), rc v1 v2 = some r → hk_V Gd (N_x_rootOf l) (hk_end Gd st (some (.long r)) st) 7 [(0, .long p1), (2, .int p2), (3, .long v1), (5, .long v2)] [] st) (he0 : ∀ (v3 : Int64), e0 v3 = some r → hk_V Gd (N_x_rootOf l) (hk_end Gd st (some (.long r)) st) 49 [(3, .long v3)] [] st) {v1 : Int64} {v2 : Int64} (h : x_rootOf_L7b p1 p2 e0 rc v1 v2 = some r) : hk_V Gd (N_x_rootOf l) (hk_end Gd st (some (.long r)) st) 7 [(0, .long p1), (2, .int p2), (3, .long v1), (5, .long v2)] [] st := by
  unfold x_rootOf_L7b at h
  refine hv_lload 3 dX0_rootOf_7 rfl ?_
  refine hv_lload_n 2 dX0_rootOf_9 rfl rfl ?_
  refine hv_lsub dX0_rootOf_10 ?_
  refine hv_lconst (v := 1) dX0_rootOf_11 (by decide) ?_
  refine hv_lcmp_le (tgt := 49) dX0_rootOf_12 dX0_rootOf_13 (by decide) (fun c4 => ?_) (fun c4 => ?_)
  · replace h := hq_ip c4 h
    refine hv_sub [2] rfl ?_
    exact he0 _ h
  · replace h := hq_in c4 h
    refine hv_lload_n 2 dX0_rootOf_16 rfl rfl ?_
    refine hv_lload 3 dX0_rootOf_17 rfl ?_
    refine hv_ladd dX0_rootOf_19 ?_
    refine hv_ldc2 q1096 dX0_rootOf_20 ?_
    refine hv_ldiv (by decide) dX0_rootOf_23 ?_
    obtain ⟨x5, e_x5, h⟩ := hq_nm h
    rw [← e_x5]
    refine hv_lstore (L' := [(7, .long x5), (0, .long p1), (2, .int p2), (3, .long v1), (5, .long v2)]) dX0_rootOf_24 (Nat.le_of_ble_eq_true rfl) rfl ?_
    refine hv_lload 0 dX0_rootOf_26 rfl ?_
    refine hv_iload_n 2 dX0_rootOf_28 rfl rfl ?_
    refine hv_lload_n 1 dX0_rootOf_29 rfl rfl ?_
    obtain ⟨x6, e_x6, h⟩ := hq_ob h
    refine hv_callS [.long x5, .int p2, .long p1] [] [.int x6] (wk_x_isAbove e_x6) cs_X0_327 rfl ⟨Nat.le_of_ble_eq_true rfl, Nat.le_of_ble_eq_true rfl⟩ rfl (Nat.le_of_ble_eq_true rfl) rfl dX0_rootOf_30 ?_
    refine hv_if_eq (tgt := 43) dX0_rootOf_33 (by decide) (fun c7 => ?_) (fun c7 => ?_)
    · replace h := hq_ip c7 h
      refine hv_lload 0 dX0_rootOf_43 rfl ?_
      refine hv_lstore_n (L' := [(3, .long x5), (7, .long x5), (0, .long p1), (2, .int p2), (5, .long v2)]) dX0_rootOf_45 rfl (Nat.le_of_ble_eq_true rfl) rfl ?_
      refine hv_goto (tgt := 7) dX0_rootOf_46 (by decide) ?_
      refine hv_sub [2, 3, 0, 4] rfl ?_
      exact hrc _ _ h
    · replace h := hq_in c7 h
      refine hv_lload 0 dX0_rootOf_36 rfl ?_
      refine hv_lstore (L' := [(5, .long x5), (7, .long x5), (0, .long p1), (2, .int p2), (3, .long v1)]) dX0_rootOf_38 (Nat.le_of_ble_eq_true rfl) rfl ?_
      refine hv_goto (tgt := 46) dX0_rootOf_40 (by decide) ?_
      refine hv_goto (tgt := 7) dX0_rootOf_46 (by decide) ?_
      refine hv_sub [2, 3, 4, 0] rfl ?_
      exact hrc _ _ h
theorem wk_x_rootOf_L7 {l : Launch} {Gd : hk_G} {st : hk_St} {p1 : Int64} {p2 : Int32} {r : Int64} {e0 : Int64 → Option (Int64)} (he0 : ∀ (v3 : Int64), e0 v3 = some r → hk_V Gd (N_x_rootOf l) (hk_end Gd st (some (.long r)) st) 49 [(3, .long v3)] [] st) : ∀ (n : Nat) (v1 : Int64) (v2 : Int64), x_rootOf_L7 p1 p2 e0 n v1 v2 = some r → hk_V Gd (N_x_rootOf l) (hk_end Gd st (some (.long r)) st) 7 [(0, .long p1), (2, .int p2), (3, .long v1), (5, .long v2)] [] st := by
  intro n
  induction n with
  | zero => intro v1 v2 h; cases h
  | succ n ih => intro v1 v2 h; exact wk_x_rootOf_L7b  ih he0 h
set_option maxHeartbeats 4000000 in
theorem wk_x_rootOf {l : Launch} {Gd : hk_G} {st : hk_St} {p1 : Int64} {p2 : Int32} {r : Int64} (h : x_rootOf p1 p2 = some r) : hk_Met Gd l yX0_rootOf cX0_rootOf 9 (some .long) 1 27 [.long p1, .int p2] st (some (.long r)) st := by
  refine hk_start "HeadReckons" false (by decide +kernel) rfl (by decide) (Nat.le_of_ble_eq_true rfl) ?_
  show hk_V Gd (N_x_rootOf l) (hk_end Gd st (some (.long r)) st) 0 [(0, .long p1), (2, .int p2)] [] st
  unfold x_rootOf at h
  refine hv_lconst (v := 0) dX0_rootOf_0 (by decide) ?_
  refine hv_lstore_n (L' := [(3, .long (0 : Int64)), (0, .long p1), (2, .int p2)]) dX0_rootOf_1 rfl (Nat.le_of_ble_eq_true rfl) rfl ?_
  refine hv_ldc2 q1095 dX0_rootOf_2 ?_
  refine hv_lstore (L' := [(5, .long (1000000001 : Int64)), (3, .long (0 : Int64)), (0, .long p1), (2, .int p2)]) dX0_rootOf_5 (Nat.le_of_ble_eq_true rfl) rfl ?_
  refine hv_sub [2, 3, 1, 0] rfl ?_
  refine wk_x_rootOf_L7  ?_ hk_F _ _ h
  · intro v3 h
    refine hv_lload_n 0 dX0_rootOf_49 rfl rfl ?_
    have h := Option.some.inj h
    subst h
    exact hv_lret rfl dX0_rootOf_50
def x_raise_L5b (p1 : Int64) (p2 : Int32) (e0 : Int64 → Option (Int64)) (rc : Int64 → Int32 → Option (Int64)) (v1 : Int64) (v2 : Int32) : Option (Int64) :=
  if p2 ≤ v2 then
    e0 v1
  else
  hk_nm (v1 * p1) fun x5 =>
  hk_nm (v2 + (1 : Int32)) fun x6 =>
  rc x5 x6
def x_raise_L5 (p1 : Int64) (p2 : Int32) (e0 : Int64 → Option (Int64)) : Nat → Int64 → Int32 → Option (Int64)
  | 0 => fun _ _ => none
  | n + 1 => x_raise_L5b p1 p2 e0 (x_raise_L5 p1 p2 e0 n)
def x_raise (p1 : Int64) (p2 : Int32) : Option (Int64) :=
  x_raise_L5 p1 p2  (fun (v3 : Int64) =>
    some v3) hk_F (1 : Int64) (0 : Int32) 
abbrev N_x_raise (l : Launch) : hk_N := (l, cX0_raise, "HeadReckons", 6, (some .long), 0, 0, false)
set_option maxHeartbeats 4000000 in
theorem wk_x_raise_L5b {l : Launch} {Gd : hk_G} {st : hk_St} {p1 : Int64} {p2 : Int32} {r : Int64} {e0 : Int64 → Option (Int64)} {rc : Int64 → Int32 → Option (Int64)} (hrc : ∀ (v1 : Int64) (v2 : Int32), rc v1 v2 = some r → hk_V Gd (N_x_raise l) (hk_end Gd st (some (.long r)) st) 5 [(0, .long p1), (2, .int p2), (3, .long v1), (5, .int v2)] [] st) (he0 : ∀ (v3 : Int64), e0 v3 = some r → hk_V Gd (N_x_raise l) (hk_end Gd st (some (.long r)) st) 21 [(3, .long v3)] [] st) {v1 : Int64} {v2 : Int32} (h : x_raise_L5b p1 p2 e0 rc v1 v2 = some r) : hk_V Gd (N_x_raise l) (hk_end Gd st (some (.long r)) st) 5 [(0, .long p1), (2, .int p2), (3, .long v1), (5, .int v2)] [] st := by
  unfold x_raise_L5b at h
  refine hv_iload 3 dX0_raise_5 rfl ?_
  refine hv_iload_n 1 dX0_raise_7 rfl rfl ?_
  refine hv_icmp_ge (tgt := 21) dX0_raise_8 (by decide) (fun c4 => ?_) (fun c4 => ?_)
  · replace h := hq_ip c4 h
    refine hv_sub [2] rfl ?_
    exact he0 _ h
  · replace h := hq_in c4 h
    refine hv_lload_n 2 dX0_raise_11 rfl rfl ?_
    refine hv_lload_n 0 dX0_raise_12 rfl rfl ?_
    refine hv_lmul dX0_raise_13 ?_
    obtain ⟨x5, e_x5, h⟩ := hq_nm h
    rw [← e_x5]
    refine hv_lstore_n (L' := [(3, .long x5), (0, .long p1), (2, .int p2), (5, .int v2)]) dX0_raise_14 rfl (Nat.le_of_ble_eq_true rfl) rfl ?_
    obtain ⟨x6, e_x6, h⟩ := hq_nm h
    refine hv_iinc (v := x6) (L' := [(5, .int x6), (3, .long x5), (0, .long p1), (2, .int p2)]) 3 dX0_raise_15 rfl (by rw [e_x6]; rfl) (Nat.le_of_ble_eq_true rfl) rfl ?_
    refine hv_goto (tgt := 5) dX0_raise_18 (by decide) ?_
    refine hv_sub [2, 3, 1, 0] rfl ?_
    exact hrc _ _ h
theorem wk_x_raise_L5 {l : Launch} {Gd : hk_G} {st : hk_St} {p1 : Int64} {p2 : Int32} {r : Int64} {e0 : Int64 → Option (Int64)} (he0 : ∀ (v3 : Int64), e0 v3 = some r → hk_V Gd (N_x_raise l) (hk_end Gd st (some (.long r)) st) 21 [(3, .long v3)] [] st) : ∀ (n : Nat) (v1 : Int64) (v2 : Int32), x_raise_L5 p1 p2 e0 n v1 v2 = some r → hk_V Gd (N_x_raise l) (hk_end Gd st (some (.long r)) st) 5 [(0, .long p1), (2, .int p2), (3, .long v1), (5, .int v2)] [] st := by
  intro n
  induction n with
  | zero => intro v1 v2 h; cases h
  | succ n ih => intro v1 v2 h; exact wk_x_raise_L5b  ih he0 h
set_option maxHeartbeats 4000000 in
theorem wk_x_raise {l : Launch} {Gd : hk_G} {st : hk_St} {p1 : Int64} {p2 : Int32} {r : Int64} (h : x_raise p1 p2 = some r) : hk_Met Gd l yX0_raise cX0_raise 6 (some .long) 0 0 [.long p1, .int p2] st (some (.long r)) st := by
  refine hk_start "HeadReckons" false (by decide +kernel) rfl (by decide) (Nat.le_of_ble_eq_true rfl) ?_
  show hk_V Gd (N_x_raise l) (hk_end Gd st (some (.long r)) st) 0 [(0, .long p1), (2, .int p2)] [] st
  unfold x_raise at h
  refine hv_lconst (v := 1) dX0_raise_0 (by decide) ?_
  refine hv_lstore_n (L' := [(3, .long (1 : Int64)), (0, .long p1), (2, .int p2)]) dX0_raise_1 rfl (Nat.le_of_ble_eq_true rfl) rfl ?_
  refine hv_iconst (v := 0) dX0_raise_2 (by decide) ?_
  refine hv_istore (L' := [(5, .int (0 : Int32)), (3, .long (1 : Int64)), (0, .long p1), (2, .int p2)]) dX0_raise_3 (Nat.le_of_ble_eq_true rfl) rfl ?_
  refine hv_sub [2, 3, 1, 0] rfl ?_
  refine wk_x_raise_L5  ?_ hk_F _ _ h
  · intro v3 h
    refine hv_lload_n 0 dX0_raise_21 rfl rfl ?_
    have h := Option.some.inj h
    subst h
    exact hv_lret rfl dX0_raise_22
def x_root (th : Nat) (p1 : Int64) (p2 : Int32) : Option (Int32) :=
  if (x_isNumber p1) = 0 then
    some (-1 : Int32)
  else
  if (x_isPower p2) = 0 then
    some (-1 : Int32)
  else
  (x_rootOf p1 p2).bind fun x3 =>
    (x_raise x3 p2).bind fun x4 =>
    if x4 = p1 then
      some x3.toInt32
    else
    some (0 : Int32)
abbrev N_x_root (l : Launch) : hk_N := (l, cX0_root, "HeadReckons", 6, (some .int), 2, 55, false)
set_option maxHeartbeats 4000000 in
theorem wk_x_root {l : Launch} {Gd : hk_G} {st : hk_St} {th : Nat} {p1 : Int64} {p2 : Int32} {r : Int32} (h : x_root th p1 p2 = some r) : hk_Met Gd l yX0_root cX0_root 6 (some .int) 2 55 [.ref th, .long p1, .int p2] st (some (.int r)) st := by
  refine hk_start "HeadReckons" false (by decide +kernel) rfl (by decide) (Nat.le_of_ble_eq_true rfl) ?_
  show hk_V Gd (N_x_root l) (hk_end Gd st (some (.int r)) st) 0 [(0, .ref th), (1, .long p1), (3, .int p2)] [] st
  unfold x_root at h
  refine hv_lload_n 1 dX0_root_0 rfl rfl ?_
  refine hv_callS [.long p1] [] [.int (x_isNumber p1)] (wk_x_isNumber rfl) cs_X0_331 rfl ⟨Nat.le_of_ble_eq_true rfl, Nat.le_of_ble_eq_true rfl⟩ rfl (Nat.le_of_ble_eq_true rfl) rfl dX0_root_1 ?_
  refine hv_if_eq (tgt := 14) dX0_root_4 (by decide) (fun c1 => ?_) (fun c1 => ?_)
  · replace h := hq_ip c1 h
    refine hv_iconst (v := -1) dX0_root_14 (by decide) ?_
    have h := Option.some.inj h
    subst h
    exact hv_iret rfl dX0_root_15
  · replace h := hq_in c1 h
    refine hv_iload_n 2 dX0_root_7 rfl rfl ?_
    refine hv_callS [.int p2] [] [.int (x_isPower p2)] (wk_x_isPower rfl) cs_X0_334 rfl ⟨Nat.le_of_ble_eq_true rfl, Nat.le_of_ble_eq_true rfl⟩ rfl (Nat.le_of_ble_eq_true rfl) rfl dX0_root_8 ?_
    refine hv_if_ne (tgt := 16) dX0_root_11 (by decide) (fun c2 => ?_) (fun c2 => ?_)
    · replace h := hq_in c2 h
      refine hv_lload_n 1 dX0_root_16 rfl rfl ?_
      refine hv_iload_n 2 dX0_root_17 rfl rfl ?_
      obtain ⟨x3, e_x3, h⟩ := hq_ob h
      refine hv_callS [.long p1, .int p2] [] [.long x3] (wk_x_rootOf e_x3) cs_X0_337 rfl ⟨Nat.le_of_ble_eq_true rfl, Nat.le_of_ble_eq_true rfl⟩ rfl (Nat.le_of_ble_eq_true rfl) rfl dX0_root_18 ?_
      refine hv_lstore (L' := [(4, .long x3), (0, .ref th), (1, .long p1), (3, .int p2)]) dX0_root_21 (Nat.le_of_ble_eq_true rfl) rfl ?_
      refine hv_lload 0 dX0_root_23 rfl ?_
      refine hv_iload_n 3 dX0_root_25 rfl rfl ?_
      obtain ⟨x4, e_x4, h⟩ := hq_ob h
      refine hv_callS [.long x3, .int p2] [] [.long x4] (wk_x_raise e_x4) cs_X0_341 rfl ⟨Nat.le_of_ble_eq_true rfl, Nat.le_of_ble_eq_true rfl⟩ rfl (Nat.le_of_ble_eq_true rfl) rfl dX0_root_26 ?_
      refine hv_lload_n 2 dX0_root_29 rfl rfl ?_
      refine hv_lcmp_ne (tgt := 40) dX0_root_30 dX0_root_31 (by decide) (fun c5 => ?_) (fun c5 => ?_)
      · replace h := hq_in c5 h
        refine hv_iconst (v := 0) dX0_root_40 (by decide) ?_
        have h := Option.some.inj h
        subst h
        exact hv_iret rfl dX0_root_41
      · replace h := hq_ip c5 h
        refine hv_lload 0 dX0_root_34 rfl ?_
        refine hv_l2i dX0_root_36 ?_
        refine hv_goto (tgt := 41) dX0_root_37 (by decide) ?_
        have h := Option.some.inj h
        subst h
        exact hv_iret rfl dX0_root_41
    · replace h := hq_ip c2 h
      refine hv_iconst (v := -1) dX0_root_14 (by decide) ?_
      have h := Option.some.inj h
      subst h
      exact hv_iret rfl dX0_root_15
def j_floorMod_j (p1 : Int64) (p2 : Int64) : Option (Int64) :=
  hk_gd (decide (¬ p2 = 0)) <|
  hk_nm (p1 - p1 / p2 * p2) fun x2 =>
  if (0 : Int64) ≤ (p1 ^^^ p2) then
    some x2
  else
  if x2 = (0 : Int64) then
    some x2
  else
  some (x2 + p2)
abbrev N_j_floorMod_j (l : Launch) : hk_N := (l, cJ2_floorMod, "java/lang/Math", 6, (some .long), 0, 0, false)
set_option maxHeartbeats 4000000 in
theorem wk_j_floorMod_j {l : Launch} {Gd : hk_G} {st : hk_St} {p1 : Int64} {p2 : Int64} {r : Int64} (h : j_floorMod_j p1 p2 = some r) : hk_Met Gd l yJ2_floorMod cJ2_floorMod 6 (some .long) 0 0 [.long p1, .long p2] st (some (.long r)) st := by
  refine hk_start "java/lang/Math" false (by decide +kernel) rfl (by decide) (Nat.le_of_ble_eq_true rfl) ?_
  show hk_V Gd (N_j_floorMod_j l) (hk_end Gd st (some (.long r)) st) 0 [(0, .long p1), (2, .long p2)] [] st
  unfold j_floorMod_j at h
  refine hv_lload_n 0 dJ2_floorMod_0 rfl rfl ?_
  refine hv_lload_n 1 dJ2_floorMod_1 rfl rfl ?_
  obtain ⟨g1, h⟩ := hq_gd h
  refine hv_lrem (of_decide_eq_true g1) dJ2_floorMod_2 ?_
  obtain ⟨x2, e_x2, h⟩ := hq_nm h
  rw [← e_x2]
  refine hv_lstore (L' := [(4, .long x2), (0, .long p1), (2, .long p2)]) dJ2_floorMod_3 (Nat.le_of_ble_eq_true rfl) rfl ?_
  refine hv_lload_n 1 dJ2_floorMod_5 rfl rfl ?_
  refine hv_lload_n 2 dJ2_floorMod_6 rfl rfl ?_
  refine hv_lxor dJ2_floorMod_7 ?_
  refine hv_lconst (v := 0) dJ2_floorMod_8 (by decide) ?_
  refine hv_lcmp_ge (tgt := 25) dJ2_floorMod_9 dJ2_floorMod_10 (by decide) (fun c3 => ?_) (fun c3 => ?_)
  · replace h := hq_ip c3 h
    refine hv_lload 0 dJ2_floorMod_25 rfl ?_
    have h := Option.some.inj h
    subst h
    exact hv_lret rfl dJ2_floorMod_27
  · replace h := hq_in c3 h
    refine hv_lload 0 dJ2_floorMod_13 rfl ?_
    refine hv_lconst (v := 0) dJ2_floorMod_15 (by decide) ?_
    refine hv_lcmp_eq (tgt := 25) dJ2_floorMod_16 dJ2_floorMod_17 (by decide) (fun c4 => ?_) (fun c4 => ?_)
    · replace h := hq_ip c4 h
      refine hv_lload 0 dJ2_floorMod_25 rfl ?_
      have h := Option.some.inj h
      subst h
      exact hv_lret rfl dJ2_floorMod_27
    · replace h := hq_in c4 h
      refine hv_lload 0 dJ2_floorMod_20 rfl ?_
      refine hv_lload_n 2 dJ2_floorMod_22 rfl rfl ?_
      refine hv_ladd dJ2_floorMod_23 ?_
      have h := Option.some.inj h
      subst h
      exact hv_lret rfl dJ2_floorMod_24
def x_rootsBy_L57b (th : Nat) (p1 : Int64) (p2 : Int32) (p3 : Int32) (v9 : Int64) (v10 : Int64) (e0 : Int64 → hk_St → Option (Int64 × hk_St)) (rc : Int64 → Int64 → hk_St → Option (Int64 × hk_St)) (v11 : Int64) (v12 : Int64) (s13 : hk_St) : Option (Int64 × hk_St) :=
  hk_nm (fun (v16 : Int64) (v17 : Int64) (v18 : Int64) (s19 : hk_St) =>
    (hk_pL [0] 17 s19 th v18).bind fun s20 =>
    hk_nm (v17 + (1 : Int64)) fun x21 =>
    rc v16 x21 s20) fun k150 =>
  if (10 : Int64) ≤ v12 then
    e0 v11 s13
  else
  (x_raise v12 p2).bind fun x23 =>
  if (x23 - x23 / (10 : Int64) * (10 : Int64)) = (p1 - p1 / (10 : Int64) * (10 : Int64)) then
    (j_floorMod_j (v12 - v9) (10 : Int64)).bind fun x25 =>
    hk_nm (v9 + x25) fun x26 =>
    if x26 ≤ v10 then
      hk_nm (v11 + (((v10 - x26) / (10 : Int64)) + (1 : Int64))) fun x28 =>
      (hk_gL [0] 17 s13 th).bind fun x29 =>
      if x29 = (0 : Int64) then
        k150 x28 v12 x26 s13
      else
      (hk_gL [0] 17 s13 th).bind fun x31 =>
      if x31 ≤ x26 then
        hk_nm (v12 + (1 : Int64)) fun x33 =>
        rc x28 x33 s13
      else
      k150 x28 v12 x26 s13
    else
    hk_nm (v12 + (1 : Int64)) fun x34 =>
    rc v11 x34 s13
  else
  hk_nm (v12 + (1 : Int64)) fun x35 =>
  rc v11 x35 s13
def x_rootsBy_L57 (th : Nat) (p1 : Int64) (p2 : Int32) (p3 : Int32) (v9 : Int64) (v10 : Int64) (e0 : Int64 → hk_St → Option (Int64 × hk_St)) : Nat → Int64 → Int64 → hk_St → Option (Int64 × hk_St)
  | 0 => fun _ _ _ => none
  | n + 1 => x_rootsBy_L57b th p1 p2 p3 v9 v10 e0 (x_rootsBy_L57 th p1 p2 p3 v9 v10 e0 n)
def x_rootsBy (th : Nat) (p1 : Int64) (p2 : Int32) (p3 : Int32) (s0 : hk_St) : Option (Int64 × hk_St) :=
  (x_sizeOf p1).bind fun x1 =>
  (x_tenTo (x1 - p3)).bind fun x2 =>
  hk_gd (decide (¬ x2 = 0)) <|
  hk_nm ((p1 / x2) * x2) fun x4 =>
  (x_rootOf (x4 - (1 : Int64)) p2).bind fun x5 =>
  hk_nm (x5 + (1 : Int64)) fun x6 =>
  (x_rootOf ((x4 + x2) - (1 : Int64)) p2).bind fun x7 =>
  (hk_pL [0] 17 s0 th (0 : Int64)).bind fun s8 =>
  x_rootsBy_L57 th p1 p2 p3 x6 x7 (fun (v14 : Int64) (s15 : hk_St) =>
    some (v14, s15)) hk_F (0 : Int64) (0 : Int64) s8
abbrev N_x_rootsBy (l : Launch) : hk_N := (l, cX0_rootsBy, "HeadReckons", 19, (some .long), 2, 55, false)
set_option maxHeartbeats 4000000 in
theorem wk_x_rootsBy_L57b {l : Launch} {Gd : hk_G} {th : Nat} {p1 : Int64} {p2 : Int32} {p3 : Int32} {s0 : hk_St} {r : Int64} {fin : hk_St} {v9 : Int64} {v10 : Int64} {e0 : Int64 → hk_St → Option (Int64 × hk_St)} {rc : Int64 → Int64 → hk_St → Option (Int64 × hk_St)} (hrc : ∀ (v11 : Int64) (v12 : Int64) (s13 : hk_St), rc v11 v12 s13 = some (r, fin) → hk_V Gd (N_x_rootsBy l) (hk_end Gd s0 (some (.long r)) fin) 57 [(0, .ref th), (1, .long p1), (3, .int p2), (9, .long v9), (11, .long v10), (13, .long v11), (15, .long v12)] [] s13) (he0 : ∀ (v14 : Int64) (s15 : hk_St), e0 v14 s15 = some (r, fin) → hk_V Gd (N_x_rootsBy l) (hk_end Gd s0 (some (.long r)) fin) 165 [(13, .long v14)] [] s15) {v11 : Int64} {v12 : Int64} {s13 : hk_St} (h : x_rootsBy_L57b th p1 p2 p3 v9 v10 e0 rc v11 v12 s13 = some (r, fin)) : hk_V Gd (N_x_rootsBy l) (hk_end Gd s0 (some (.long r)) fin) 57 [(0, .ref th), (1, .long p1), (3, .int p2), (9, .long v9), (11, .long v10), (13, .long v11), (15, .long v12)] [] s13 := by
  unfold x_rootsBy_L57b at h
  obtain ⟨k150, e_k150, h⟩ := hq_nm h
  have wk150 : ∀ (v16 : Int64) (v17 : Int64) (v18 : Int64) (s19 : hk_St), k150 v16 v17 v18 s19 = some (r, fin) → hk_V Gd (N_x_rootsBy l) (hk_end Gd s0 (some (.long r)) fin) 150 [(0, .ref th), (1, .long p1), (3, .int p2), (9, .long v9), (11, .long v10), (13, .long v16), (15, .long v17), (17, .long v18)] [] s19 := by
    intro v16 v17 v18 s19 h
    rw [e_k150] at h
    refine hv_aload_n 0 dX0_rootsBy_150 rfl rfl ?_
    refine hv_lload 7 dX0_rootsBy_151 rfl ?_
    obtain ⟨s20, e_s20, h⟩ := hq_ob h
    refine hv_putL fp_X0_347 e_s20 (fun q => by cases q) dX0_rootsBy_153 ?_
    refine hv_lload 6 dX0_rootsBy_156 rfl ?_
    refine hv_lconst (v := 1) dX0_rootsBy_158 (by decide) ?_
    refine hv_ladd dX0_rootsBy_159 ?_
    obtain ⟨x21, e_x21, h⟩ := hq_nm h
    rw [← e_x21]
    refine hv_lstore (L' := [(15, .long x21), (0, .ref th), (1, .long p1), (3, .int p2), (9, .long v9), (11, .long v10), (13, .long v16), (17, .long v18)]) dX0_rootsBy_160 (Nat.le_of_ble_eq_true rfl) rfl ?_
    refine hv_goto (tgt := 57) dX0_rootsBy_162 (by decide) ?_
    refine hv_sub [1, 2, 3, 4, 5, 6, 0] rfl ?_
    exact hrc _ _ _ h
  clear e_k150
  refine hv_lload 6 dX0_rootsBy_57 rfl ?_
  refine hv_ldc2 q678 dX0_rootsBy_59 ?_
  refine hv_lcmp_ge (tgt := 165) dX0_rootsBy_62 dX0_rootsBy_63 (by decide) (fun c22 => ?_) (fun c22 => ?_)
  · replace h := hq_ip c22 h
    refine hv_sub [5] rfl ?_
    exact he0 _ _ h
  · replace h := hq_in c22 h
    refine hv_lload 6 dX0_rootsBy_66 rfl ?_
    refine hv_iload_n 2 dX0_rootsBy_68 rfl rfl ?_
    obtain ⟨x23, e_x23, h⟩ := hq_ob h
    refine hv_callS [.long v12, .int p2] [] [.long x23] (wk_x_raise e_x23) cs_X0_341 rfl ⟨Nat.le_of_ble_eq_true rfl, Nat.le_of_ble_eq_true rfl⟩ rfl (Nat.le_of_ble_eq_true rfl) rfl dX0_rootsBy_69 ?_
    refine hv_ldc2 q678 dX0_rootsBy_72 ?_
    refine hv_lrem (by decide) dX0_rootsBy_75 ?_
    refine hv_lload_n 1 dX0_rootsBy_76 rfl rfl ?_
    refine hv_ldc2 q678 dX0_rootsBy_77 ?_
    refine hv_lrem (by decide) dX0_rootsBy_80 ?_
    refine hv_lcmp_eq (tgt := 88) dX0_rootsBy_81 dX0_rootsBy_82 (by decide) (fun c24 => ?_) (fun c24 => ?_)
    · replace h := hq_ip c24 h
      refine hv_lload 3 dX0_rootsBy_88 rfl ?_
      refine hv_lload 6 dX0_rootsBy_90 rfl ?_
      refine hv_lload 3 dX0_rootsBy_92 rfl ?_
      refine hv_lsub dX0_rootsBy_94 ?_
      refine hv_ldc2 q678 dX0_rootsBy_95 ?_
      obtain ⟨x25, e_x25, h⟩ := hq_ob h
      refine hv_callS [.long (v12 - v9), .long (10 : Int64)] [.long v9] [.long x25, .long v9] (wk_j_floorMod_j e_x25) cs_X0_351 rfl ⟨Nat.le_of_ble_eq_true rfl, Nat.le_of_ble_eq_true rfl⟩ rfl (Nat.le_of_ble_eq_true rfl) rfl dX0_rootsBy_98 ?_
      refine hv_ladd dX0_rootsBy_101 ?_
      obtain ⟨x26, e_x26, h⟩ := hq_nm h
      rw [← e_x26]
      refine hv_lstore (L' := [(17, .long x26), (0, .ref th), (1, .long p1), (3, .int p2), (9, .long v9), (11, .long v10), (13, .long v11), (15, .long v12)]) dX0_rootsBy_102 (Nat.le_of_ble_eq_true rfl) rfl ?_
      refine hv_lload 0 dX0_rootsBy_104 rfl ?_
      refine hv_lload 5 dX0_rootsBy_106 rfl ?_
      refine hv_lcmp_le (tgt := 115) dX0_rootsBy_108 dX0_rootsBy_109 (by decide) (fun c27 => ?_) (fun c27 => ?_)
      · replace h := hq_ip c27 h
        refine hv_lload 6 dX0_rootsBy_115 rfl ?_
        refine hv_lload 5 dX0_rootsBy_117 rfl ?_
        refine hv_lload 0 dX0_rootsBy_119 rfl ?_
        refine hv_lsub dX0_rootsBy_121 ?_
        refine hv_ldc2 q678 dX0_rootsBy_122 ?_
        refine hv_ldiv (by decide) dX0_rootsBy_125 ?_
        refine hv_lconst (v := 1) dX0_rootsBy_126 (by decide) ?_
        refine hv_ladd dX0_rootsBy_127 ?_
        refine hv_ladd dX0_rootsBy_128 ?_
        obtain ⟨x28, e_x28, h⟩ := hq_nm h
        rw [← e_x28]
        refine hv_lstore (L' := [(13, .long x28), (17, .long x26), (0, .ref th), (1, .long p1), (3, .int p2), (9, .long v9), (11, .long v10), (15, .long v12)]) dX0_rootsBy_129 (Nat.le_of_ble_eq_true rfl) rfl ?_
        refine hv_aload_n 2 dX0_rootsBy_131 rfl rfl ?_
        obtain ⟨x29, e_x29, h⟩ := hq_ob h
        refine hv_getL fl_X0_347 e_x29 dX0_rootsBy_132 ?_
        refine hv_lconst (v := 0) dX0_rootsBy_135 (by decide) ?_
        refine hv_lcmp_eq (tgt := 150) dX0_rootsBy_136 dX0_rootsBy_137 (by decide) (fun c30 => ?_) (fun c30 => ?_)
        · replace h := hq_ip c30 h
          refine hv_sub [2, 3, 4, 5, 6, 0, 7, 1] rfl ?_
          exact wk150 _ _ _ _ h
        · replace h := hq_in c30 h
          refine hv_lload 1 dX0_rootsBy_140 rfl ?_
          refine hv_aload_n 2 dX0_rootsBy_142 rfl rfl ?_
          obtain ⟨x31, e_x31, h⟩ := hq_ob h
          refine hv_getL fl_X0_347 e_x31 dX0_rootsBy_143 ?_
          refine hv_lcmp_ge (tgt := 156) dX0_rootsBy_146 dX0_rootsBy_147 (by decide) (fun c32 => ?_) (fun c32 => ?_)
          · replace h := hq_ip c32 h
            refine hv_lload 7 dX0_rootsBy_156 rfl ?_
            refine hv_lconst (v := 1) dX0_rootsBy_158 (by decide) ?_
            refine hv_ladd dX0_rootsBy_159 ?_
            obtain ⟨x33, e_x33, h⟩ := hq_nm h
            rw [← e_x33]
            refine hv_lstore (L' := [(15, .long x33), (13, .long x28), (17, .long x26), (0, .ref th), (1, .long p1), (3, .int p2), (9, .long v9), (11, .long v10)]) dX0_rootsBy_160 (Nat.le_of_ble_eq_true rfl) rfl ?_
            refine hv_goto (tgt := 57) dX0_rootsBy_162 (by decide) ?_
            refine hv_sub [3, 4, 5, 6, 7, 1, 0] rfl ?_
            exact hrc _ _ _ h
          · replace h := hq_in c32 h
            refine hv_sub [2, 3, 4, 5, 6, 0, 7, 1] rfl ?_
            exact wk150 _ _ _ _ h
      · replace h := hq_in c27 h
        refine hv_goto (tgt := 156) dX0_rootsBy_112 (by decide) ?_
        refine hv_lload 7 dX0_rootsBy_156 rfl ?_
        refine hv_lconst (v := 1) dX0_rootsBy_158 (by decide) ?_
        refine hv_ladd dX0_rootsBy_159 ?_
        obtain ⟨x34, e_x34, h⟩ := hq_nm h
        rw [← e_x34]
        refine hv_lstore (L' := [(15, .long x34), (17, .long x26), (0, .ref th), (1, .long p1), (3, .int p2), (9, .long v9), (11, .long v10), (13, .long v11)]) dX0_rootsBy_160 (Nat.le_of_ble_eq_true rfl) rfl ?_
        refine hv_goto (tgt := 57) dX0_rootsBy_162 (by decide) ?_
        refine hv_sub [2, 3, 4, 5, 6, 7, 0] rfl ?_
        exact hrc _ _ _ h
    · replace h := hq_in c24 h
      refine hv_goto (tgt := 156) dX0_rootsBy_85 (by decide) ?_
      refine hv_lload 6 dX0_rootsBy_156 rfl ?_
      refine hv_lconst (v := 1) dX0_rootsBy_158 (by decide) ?_
      refine hv_ladd dX0_rootsBy_159 ?_
      obtain ⟨x35, e_x35, h⟩ := hq_nm h
      rw [← e_x35]
      refine hv_lstore (L' := [(15, .long x35), (0, .ref th), (1, .long p1), (3, .int p2), (9, .long v9), (11, .long v10), (13, .long v11)]) dX0_rootsBy_160 (Nat.le_of_ble_eq_true rfl) rfl ?_
      refine hv_goto (tgt := 57) dX0_rootsBy_162 (by decide) ?_
      refine hv_sub [1, 2, 3, 4, 5, 6, 0] rfl ?_
      exact hrc _ _ _ h
theorem wk_x_rootsBy_L57 {l : Launch} {Gd : hk_G} {th : Nat} {p1 : Int64} {p2 : Int32} {p3 : Int32} {s0 : hk_St} {r : Int64} {fin : hk_St} {v9 : Int64} {v10 : Int64} {e0 : Int64 → hk_St → Option (Int64 × hk_St)} (he0 : ∀ (v14 : Int64) (s15 : hk_St), e0 v14 s15 = some (r, fin) → hk_V Gd (N_x_rootsBy l) (hk_end Gd s0 (some (.long r)) fin) 165 [(13, .long v14)] [] s15) : ∀ (n : Nat) (v11 : Int64) (v12 : Int64) (s13 : hk_St), x_rootsBy_L57 th p1 p2 p3 v9 v10 e0 n v11 v12 s13 = some (r, fin) → hk_V Gd (N_x_rootsBy l) (hk_end Gd s0 (some (.long r)) fin) 57 [(0, .ref th), (1, .long p1), (3, .int p2), (9, .long v9), (11, .long v10), (13, .long v11), (15, .long v12)] [] s13 := by
  intro n
  induction n with
  | zero => intro v11 v12 s13 h; cases h
  | succ n ih => intro v11 v12 s13 h; exact wk_x_rootsBy_L57b  ih he0 h
set_option maxHeartbeats 4000000 in
theorem wk_x_rootsBy {l : Launch} {Gd : hk_G} {th : Nat} {p1 : Int64} {p2 : Int32} {p3 : Int32} {s0 : hk_St} {r : Int64} {fin : hk_St} (h : x_rootsBy th p1 p2 p3 s0 = some (r, fin)) : hk_Met Gd l yX0_rootsBy cX0_rootsBy 19 (some .long) 2 55 [.ref th, .long p1, .int p2, .int p3] s0 (some (.long r)) fin := by
  refine hk_start "HeadReckons" false (by decide +kernel) rfl (by decide) (Nat.le_of_ble_eq_true rfl) ?_
  show hk_V Gd (N_x_rootsBy l) (hk_end Gd s0 (some (.long r)) fin) 0 [(0, .ref th), (1, .long p1), (3, .int p2), (4, .int p3)] [] s0
  unfold x_rootsBy at h
  refine hv_lload_n 1 dX0_rootsBy_0 rfl rfl ?_
  obtain ⟨x1, e_x1, h⟩ := hq_ob h
  refine hv_callS [.long p1] [] [.int x1] (wk_x_sizeOf e_x1) cs_X0_192 rfl ⟨Nat.le_of_ble_eq_true rfl, Nat.le_of_ble_eq_true rfl⟩ rfl (Nat.le_of_ble_eq_true rfl) rfl dX0_rootsBy_1 ?_
  refine hv_iload 3 dX0_rootsBy_4 rfl ?_
  refine hv_isub dX0_rootsBy_6 ?_
  obtain ⟨x2, e_x2, h⟩ := hq_ob h
  refine hv_callS [.int (x1 - p3)] [] [.long x2] (wk_x_tenTo e_x2) cs_X0_344 rfl ⟨Nat.le_of_ble_eq_true rfl, Nat.le_of_ble_eq_true rfl⟩ rfl (Nat.le_of_ble_eq_true rfl) rfl dX0_rootsBy_7 ?_
  refine hv_lstore (L' := [(5, .long x2), (0, .ref th), (1, .long p1), (3, .int p2), (4, .int p3)]) dX0_rootsBy_10 (Nat.le_of_ble_eq_true rfl) rfl ?_
  refine hv_lload_n 2 dX0_rootsBy_12 rfl rfl ?_
  refine hv_lload 0 dX0_rootsBy_13 rfl ?_
  obtain ⟨g3, h⟩ := hq_gd h
  refine hv_ldiv (of_decide_eq_true g3) dX0_rootsBy_15 ?_
  refine hv_lload 0 dX0_rootsBy_16 rfl ?_
  refine hv_lmul dX0_rootsBy_18 ?_
  obtain ⟨x4, e_x4, h⟩ := hq_nm h
  rw [← e_x4]
  refine hv_lstore (L' := [(7, .long x4), (5, .long x2), (0, .ref th), (1, .long p1), (3, .int p2), (4, .int p3)]) dX0_rootsBy_19 (Nat.le_of_ble_eq_true rfl) rfl ?_
  refine hv_lload 0 dX0_rootsBy_21 rfl ?_
  refine hv_lconst (v := 1) dX0_rootsBy_23 (by decide) ?_
  refine hv_lsub dX0_rootsBy_24 ?_
  refine hv_iload_n 4 dX0_rootsBy_25 rfl rfl ?_
  obtain ⟨x5, e_x5, h⟩ := hq_ob h
  refine hv_callS [.long (x4 - (1 : Int64)), .int p2] [] [.long x5] (wk_x_rootOf e_x5) cs_X0_337 rfl ⟨Nat.le_of_ble_eq_true rfl, Nat.le_of_ble_eq_true rfl⟩ rfl (Nat.le_of_ble_eq_true rfl) rfl dX0_rootsBy_26 ?_
  refine hv_lconst (v := 1) dX0_rootsBy_29 (by decide) ?_
  refine hv_ladd dX0_rootsBy_30 ?_
  obtain ⟨x6, e_x6, h⟩ := hq_nm h
  rw [← e_x6]
  refine hv_lstore (L' := [(9, .long x6), (7, .long x4), (5, .long x2), (0, .ref th), (1, .long p1), (3, .int p2), (4, .int p3)]) dX0_rootsBy_31 (Nat.le_of_ble_eq_true rfl) rfl ?_
  refine hv_lload 1 dX0_rootsBy_33 rfl ?_
  refine hv_lload 2 dX0_rootsBy_35 rfl ?_
  refine hv_ladd dX0_rootsBy_37 ?_
  refine hv_lconst (v := 1) dX0_rootsBy_38 (by decide) ?_
  refine hv_lsub dX0_rootsBy_39 ?_
  refine hv_iload_n 5 dX0_rootsBy_40 rfl rfl ?_
  obtain ⟨x7, e_x7, h⟩ := hq_ob h
  refine hv_callS [.long ((x4 + x2) - (1 : Int64)), .int p2] [] [.long x7] (wk_x_rootOf e_x7) cs_X0_337 rfl ⟨Nat.le_of_ble_eq_true rfl, Nat.le_of_ble_eq_true rfl⟩ rfl (Nat.le_of_ble_eq_true rfl) rfl dX0_rootsBy_41 ?_
  refine hv_lstore (L' := [(11, .long x7), (9, .long x6), (7, .long x4), (5, .long x2), (0, .ref th), (1, .long p1), (3, .int p2), (4, .int p3)]) dX0_rootsBy_44 (Nat.le_of_ble_eq_true rfl) rfl ?_
  refine hv_lconst (v := 0) dX0_rootsBy_46 (by decide) ?_
  refine hv_lstore (L' := [(13, .long (0 : Int64)), (11, .long x7), (9, .long x6), (7, .long x4), (5, .long x2), (0, .ref th), (1, .long p1), (3, .int p2), (4, .int p3)]) dX0_rootsBy_47 (Nat.le_of_ble_eq_true rfl) rfl ?_
  refine hv_aload_n 5 dX0_rootsBy_49 rfl rfl ?_
  refine hv_lconst (v := 0) dX0_rootsBy_50 (by decide) ?_
  obtain ⟨s8, e_s8, h⟩ := hq_ob h
  refine hv_putL fp_X0_347 e_s8 (fun q => by cases q) dX0_rootsBy_51 ?_
  refine hv_lconst (v := 0) dX0_rootsBy_54 (by decide) ?_
  refine hv_lstore (L' := [(15, .long (0 : Int64)), (13, .long (0 : Int64)), (11, .long x7), (9, .long x6), (7, .long x4), (5, .long x2), (0, .ref th), (1, .long p1), (3, .int p2), (4, .int p3)]) dX0_rootsBy_55 (Nat.le_of_ble_eq_true rfl) rfl ?_
  refine hv_sub [6, 7, 8, 3, 2, 1, 0] rfl ?_
  refine wk_x_rootsBy_L57  ?_ hk_F _ _ _ h
  · intro v14 s15 h
    refine hv_lload 0 dX0_rootsBy_165 rfl ?_
    obtain ⟨h1, h2⟩ := hq_ret h
    subst h1
    subst h2
    exact hv_lret rfl dX0_rootsBy_167
def x_firsts (th : Nat) (p1 : Int64) (p2 : Int32) (p3 : Int32) (s0 : hk_St) : Option (Int32 × hk_St) :=
  if (x_isNumber p1) = 0 then
    some ((-1 : Int32), s0)
  else
  if p2 < 0 then
    some ((-1 : Int32), s0)
  else
  if (x_isPower (p2 / (100 : Int32))) = 0 then
    some ((-1 : Int32), s0)
  else
  (x_sizeOf p1).bind fun x4 =>
  if (x_in (p2 - p2 / (100 : Int32) * (100 : Int32)) (1 : Int32) x4) = 0 then
    some ((-1 : Int32), s0)
  else
  if (x_in p3 (0 : Int32) (1 : Int32)) = 0 then
    some ((-1 : Int32), s0)
  else
  (x_rootsBy th p1 (p2 / (100 : Int32)) (p2 - p2 / (100 : Int32) * (100 : Int32)) s0).bind fun q7 =>
    hk_gd (hk_bf [0] s0 th) <|
    if p3 = 0 then
      some (q7.1.toInt32, q7.2)
    else
    (hk_gL [0] 17 q7.2 th).bind fun x10 =>
      some (x10.toInt32, q7.2)
abbrev N_x_firsts (l : Launch) : hk_N := (l, cX0_firsts, "HeadReckons", 7, (some .int), 3, 93, false)
set_option maxHeartbeats 4000000 in
theorem wk_x_firsts {l : Launch} {Gd : hk_G} {th : Nat} {p1 : Int64} {p2 : Int32} {p3 : Int32} {s0 : hk_St} {r : Int32} {fin : hk_St} (h : x_firsts th p1 p2 p3 s0 = some (r, fin)) : hk_Met Gd l yX0_firsts cX0_firsts 7 (some .int) 3 93 [.ref th, .long p1, .int p2, .int p3] s0 (some (.int r)) fin := by
  refine hk_start "HeadReckons" false (by decide +kernel) rfl (by decide) (Nat.le_of_ble_eq_true rfl) ?_
  show hk_V Gd (N_x_firsts l) (hk_end Gd s0 (some (.int r)) fin) 0 [(0, .ref th), (1, .long p1), (3, .int p2), (4, .int p3)] [] s0
  unfold x_firsts at h
  refine hv_lload_n 1 dX0_firsts_0 rfl rfl ?_
  refine hv_callS [.long p1] [] [.int (x_isNumber p1)] (wk_x_isNumber rfl) cs_X0_331 rfl ⟨Nat.le_of_ble_eq_true rfl, Nat.le_of_ble_eq_true rfl⟩ rfl (Nat.le_of_ble_eq_true rfl) rfl dX0_firsts_1 ?_
  refine hv_if_eq (tgt := 46) dX0_firsts_4 (by decide) (fun c1 => ?_) (fun c1 => ?_)
  · replace h := hq_ip c1 h
    refine hv_iconst (v := -1) dX0_firsts_46 (by decide) ?_
    obtain ⟨h1, h2⟩ := hq_ret h
    subst h1
    subst h2
    exact hv_iret rfl dX0_firsts_47
  · replace h := hq_in c1 h
    refine hv_iload_n 2 dX0_firsts_7 rfl rfl ?_
    refine hv_if_lt (tgt := 46) dX0_firsts_8 (by decide) (fun c2 => ?_) (fun c2 => ?_)
    · replace h := hq_ip c2 h
      refine hv_iconst (v := -1) dX0_firsts_46 (by decide) ?_
      obtain ⟨h1, h2⟩ := hq_ret h
      subst h1
      subst h2
      exact hv_iret rfl dX0_firsts_47
    · replace h := hq_in c2 h
      refine hv_iload_n 2 dX0_firsts_11 rfl rfl ?_
      refine hv_bipush (v := 100) dX0_firsts_12 (by decide) ?_
      refine hv_idiv (by decide) dX0_firsts_14 ?_
      refine hv_callS [.int (p2 / (100 : Int32))] [] [.int (x_isPower (p2 / (100 : Int32)))] (wk_x_isPower rfl) cs_X0_334 rfl ⟨Nat.le_of_ble_eq_true rfl, Nat.le_of_ble_eq_true rfl⟩ rfl (Nat.le_of_ble_eq_true rfl) rfl dX0_firsts_15 ?_
      refine hv_if_eq (tgt := 46) dX0_firsts_18 (by decide) (fun c3 => ?_) (fun c3 => ?_)
      · replace h := hq_ip c3 h
        refine hv_iconst (v := -1) dX0_firsts_46 (by decide) ?_
        obtain ⟨h1, h2⟩ := hq_ret h
        subst h1
        subst h2
        exact hv_iret rfl dX0_firsts_47
      · replace h := hq_in c3 h
        refine hv_iload_n 2 dX0_firsts_21 rfl rfl ?_
        refine hv_bipush (v := 100) dX0_firsts_22 (by decide) ?_
        refine hv_irem (by decide) dX0_firsts_24 ?_
        refine hv_iconst (v := 1) dX0_firsts_25 (by decide) ?_
        refine hv_lload_n 1 dX0_firsts_26 rfl rfl ?_
        obtain ⟨x4, e_x4, h⟩ := hq_ob h
        refine hv_callS [.long p1] [.int (1 : Int32), .int (p2 - p2 / (100 : Int32) * (100 : Int32))] [.int x4, .int (1 : Int32), .int (p2 - p2 / (100 : Int32) * (100 : Int32))] (wk_x_sizeOf e_x4) cs_X0_192 rfl ⟨Nat.le_of_ble_eq_true rfl, Nat.le_of_ble_eq_true rfl⟩ rfl (Nat.le_of_ble_eq_true rfl) rfl dX0_firsts_27 ?_
        refine hv_callS [.int (p2 - p2 / (100 : Int32) * (100 : Int32)), .int (1 : Int32), .int x4] [] [.int (x_in (p2 - p2 / (100 : Int32) * (100 : Int32)) (1 : Int32) x4)] (wk_x_in rfl) cs_X0_73 rfl ⟨Nat.le_of_ble_eq_true rfl, Nat.le_of_ble_eq_true rfl⟩ rfl (Nat.le_of_ble_eq_true rfl) rfl dX0_firsts_30 ?_
        refine hv_if_eq (tgt := 46) dX0_firsts_33 (by decide) (fun c5 => ?_) (fun c5 => ?_)
        · replace h := hq_ip c5 h
          refine hv_iconst (v := -1) dX0_firsts_46 (by decide) ?_
          obtain ⟨h1, h2⟩ := hq_ret h
          subst h1
          subst h2
          exact hv_iret rfl dX0_firsts_47
        · replace h := hq_in c5 h
          refine hv_iload 3 dX0_firsts_36 rfl ?_
          refine hv_iconst (v := 0) dX0_firsts_38 (by decide) ?_
          refine hv_iconst (v := 1) dX0_firsts_39 (by decide) ?_
          refine hv_callS [.int p3, .int (0 : Int32), .int (1 : Int32)] [] [.int (x_in p3 (0 : Int32) (1 : Int32))] (wk_x_in rfl) cs_X0_73 rfl ⟨Nat.le_of_ble_eq_true rfl, Nat.le_of_ble_eq_true rfl⟩ rfl (Nat.le_of_ble_eq_true rfl) rfl dX0_firsts_40 ?_
          refine hv_if_ne (tgt := 48) dX0_firsts_43 (by decide) (fun c6 => ?_) (fun c6 => ?_)
          · replace h := hq_in c6 h
            refine hv_aload_n 0 dX0_firsts_48 rfl rfl ?_
            refine hv_lload_n 1 dX0_firsts_49 rfl rfl ?_
            refine hv_iload_n 2 dX0_firsts_50 rfl rfl ?_
            refine hv_bipush (v := 100) dX0_firsts_51 (by decide) ?_
            refine hv_idiv (by decide) dX0_firsts_53 ?_
            refine hv_iload_n 2 dX0_firsts_54 rfl rfl ?_
            refine hv_bipush (v := 100) dX0_firsts_55 (by decide) ?_
            refine hv_irem (by decide) dX0_firsts_57 ?_
            obtain ⟨q7, e_q7, h⟩ := hq_ob h
            obtain ⟨g8, h⟩ := hq_gd h
            refine hv_callV [.long p1, .int (p2 / (100 : Int32)), .int (p2 - p2 / (100 : Int32) * (100 : Int32))] [] [.long q7.1] (wk_x_rootsBy e_q7) cs_X0_355 g8 rfl ⟨Nat.le_of_ble_eq_true rfl, Nat.le_of_ble_eq_true rfl⟩ rfl (Nat.le_of_ble_eq_true rfl) rfl dX0_firsts_58 ?_
            refine hv_lstore (L' := [(5, .long q7.1), (0, .ref th), (1, .long p1), (3, .int p2), (4, .int p3)]) dX0_firsts_61 (Nat.le_of_ble_eq_true rfl) rfl ?_
            refine hv_iload 4 dX0_firsts_63 rfl ?_
            refine hv_if_ne (tgt := 73) dX0_firsts_65 (by decide) (fun c9 => ?_) (fun c9 => ?_)
            · replace h := hq_in c9 h
              refine hv_aload_n 1 dX0_firsts_73 rfl rfl ?_
              obtain ⟨x10, e_x10, h⟩ := hq_ob h
              refine hv_getL fl_X0_347 e_x10 dX0_firsts_74 ?_
              refine hv_l2i dX0_firsts_77 ?_
              obtain ⟨h1, h2⟩ := hq_ret h
              subst h1
              subst h2
              exact hv_iret rfl dX0_firsts_78
            · replace h := hq_ip c9 h
              refine hv_lload 0 dX0_firsts_68 rfl ?_
              refine hv_goto (tgt := 77) dX0_firsts_70 (by decide) ?_
              refine hv_l2i dX0_firsts_77 ?_
              obtain ⟨h1, h2⟩ := hq_ret h
              subst h1
              subst h2
              exact hv_iret rfl dX0_firsts_78
          · replace h := hq_ip c6 h
            refine hv_iconst (v := -1) dX0_firsts_46 (by decide) ?_
            obtain ⟨h1, h2⟩ := hq_ret h
            subst h1
            subst h2
            exact hv_iret rfl dX0_firsts_47
def x_enough_L36b (th : Nat) (p1 : Int64) (p2 : Int32) (e0 : Int32 → hk_St → Option (Int32 × hk_St)) (rc : Int32 → hk_St → Option (Int32 × hk_St)) (v6 : Int32) (s7 : hk_St) : Option (Int32 × hk_St) :=
  (x_rootsBy th p1 p2 v6 s7).bind fun q10 =>
  hk_gd (hk_bf [0] s7 th) <|
  if q10.1 ≤ (1 : Int64) then
    e0 v6 q10.2
  else
  hk_nm (v6 + (1 : Int32)) fun x13 =>
  rc x13 q10.2
def x_enough_L36 (th : Nat) (p1 : Int64) (p2 : Int32) (e0 : Int32 → hk_St → Option (Int32 × hk_St)) : Nat → Int32 → hk_St → Option (Int32 × hk_St)
  | 0 => fun _ _ => none
  | n + 1 => x_enough_L36b th p1 p2 e0 (x_enough_L36 th p1 p2 e0 n)
def x_enough (th : Nat) (p1 : Int64) (p2 : Int32) (s0 : hk_St) : Option (Int32 × hk_St) :=
  if (x_isNumber p1) = 0 then
    some ((-1 : Int32), s0)
  else
  if (x_isPower p2) = 0 then
    some ((-1 : Int32), s0)
  else
  (x_rootOf p1 p2).bind fun x3 =>
    (x_raise x3 p2).bind fun x4 =>
    if x4 = p1 then
      x_enough_L36 th p1 p2  (fun (v8 : Int32) (s9 : hk_St) =>
        some (v8, s9)) hk_F (1 : Int32) s0
    else
    some ((-2 : Int32), s0)
abbrev N_x_enough (l : Launch) : hk_N := (l, cX0_enough, "HeadReckons", 5, (some .int), 3, 93, false)
set_option maxHeartbeats 4000000 in
theorem wk_x_enough_L36b {l : Launch} {Gd : hk_G} {th : Nat} {p1 : Int64} {p2 : Int32} {s0 : hk_St} {r : Int32} {fin : hk_St} {e0 : Int32 → hk_St → Option (Int32 × hk_St)} {rc : Int32 → hk_St → Option (Int32 × hk_St)} (hrc : ∀ (v6 : Int32) (s7 : hk_St), rc v6 s7 = some (r, fin) → hk_V Gd (N_x_enough l) (hk_end Gd s0 (some (.int r)) fin) 36 [(0, .ref th), (1, .long p1), (3, .int p2), (4, .int v6)] [] s7) (he0 : ∀ (v8 : Int32) (s9 : hk_St), e0 v8 s9 = some (r, fin) → hk_V Gd (N_x_enough l) (hk_end Gd s0 (some (.int r)) fin) 55 [(4, .int v8)] [] s9) {v6 : Int32} {s7 : hk_St} (h : x_enough_L36b th p1 p2 e0 rc v6 s7 = some (r, fin)) : hk_V Gd (N_x_enough l) (hk_end Gd s0 (some (.int r)) fin) 36 [(0, .ref th), (1, .long p1), (3, .int p2), (4, .int v6)] [] s7 := by
  unfold x_enough_L36b at h
  refine hv_aload_n 0 dX0_enough_36 rfl rfl ?_
  refine hv_lload_n 1 dX0_enough_37 rfl rfl ?_
  refine hv_iload_n 2 dX0_enough_38 rfl rfl ?_
  refine hv_iload 3 dX0_enough_39 rfl ?_
  obtain ⟨q10, e_q10, h⟩ := hq_ob h
  obtain ⟨g11, h⟩ := hq_gd h
  refine hv_callV [.long p1, .int p2, .int v6] [] [.long q10.1] (wk_x_rootsBy e_q10) cs_X0_355 g11 rfl ⟨Nat.le_of_ble_eq_true rfl, Nat.le_of_ble_eq_true rfl⟩ rfl (Nat.le_of_ble_eq_true rfl) rfl dX0_enough_41 ?_
  refine hv_lconst (v := 1) dX0_enough_44 (by decide) ?_
  refine hv_lcmp_le (tgt := 55) dX0_enough_45 dX0_enough_46 (by decide) (fun c12 => ?_) (fun c12 => ?_)
  · replace h := hq_ip c12 h
    refine hv_sub [3] rfl ?_
    exact he0 _ _ h
  · replace h := hq_in c12 h
    obtain ⟨x13, e_x13, h⟩ := hq_nm h
    refine hv_iinc (v := x13) (L' := [(4, .int x13), (0, .ref th), (1, .long p1), (3, .int p2)]) 3 dX0_enough_49 rfl (by rw [e_x13]; rfl) (Nat.le_of_ble_eq_true rfl) rfl ?_
    refine hv_goto (tgt := 36) dX0_enough_52 (by decide) ?_
    refine hv_sub [1, 2, 3, 0] rfl ?_
    exact hrc _ _ h
theorem wk_x_enough_L36 {l : Launch} {Gd : hk_G} {th : Nat} {p1 : Int64} {p2 : Int32} {s0 : hk_St} {r : Int32} {fin : hk_St} {e0 : Int32 → hk_St → Option (Int32 × hk_St)} (he0 : ∀ (v8 : Int32) (s9 : hk_St), e0 v8 s9 = some (r, fin) → hk_V Gd (N_x_enough l) (hk_end Gd s0 (some (.int r)) fin) 55 [(4, .int v8)] [] s9) : ∀ (n : Nat) (v6 : Int32) (s7 : hk_St), x_enough_L36 th p1 p2 e0 n v6 s7 = some (r, fin) → hk_V Gd (N_x_enough l) (hk_end Gd s0 (some (.int r)) fin) 36 [(0, .ref th), (1, .long p1), (3, .int p2), (4, .int v6)] [] s7 := by
  intro n
  induction n with
  | zero => intro v6 s7 h; cases h
  | succ n ih => intro v6 s7 h; exact wk_x_enough_L36b  ih he0 h
set_option maxHeartbeats 4000000 in
theorem wk_x_enough {l : Launch} {Gd : hk_G} {th : Nat} {p1 : Int64} {p2 : Int32} {s0 : hk_St} {r : Int32} {fin : hk_St} (h : x_enough th p1 p2 s0 = some (r, fin)) : hk_Met Gd l yX0_enough cX0_enough 5 (some .int) 3 93 [.ref th, .long p1, .int p2] s0 (some (.int r)) fin := by
  refine hk_start "HeadReckons" false (by decide +kernel) rfl (by decide) (Nat.le_of_ble_eq_true rfl) ?_
  show hk_V Gd (N_x_enough l) (hk_end Gd s0 (some (.int r)) fin) 0 [(0, .ref th), (1, .long p1), (3, .int p2)] [] s0
  unfold x_enough at h
  refine hv_lload_n 1 dX0_enough_0 rfl rfl ?_
  refine hv_callS [.long p1] [] [.int (x_isNumber p1)] (wk_x_isNumber rfl) cs_X0_331 rfl ⟨Nat.le_of_ble_eq_true rfl, Nat.le_of_ble_eq_true rfl⟩ rfl (Nat.le_of_ble_eq_true rfl) rfl dX0_enough_1 ?_
  refine hv_if_eq (tgt := 14) dX0_enough_4 (by decide) (fun c1 => ?_) (fun c1 => ?_)
  · replace h := hq_ip c1 h
    refine hv_iconst (v := -1) dX0_enough_14 (by decide) ?_
    obtain ⟨h1, h2⟩ := hq_ret h
    subst h1
    subst h2
    exact hv_iret rfl dX0_enough_15
  · replace h := hq_in c1 h
    refine hv_iload_n 2 dX0_enough_7 rfl rfl ?_
    refine hv_callS [.int p2] [] [.int (x_isPower p2)] (wk_x_isPower rfl) cs_X0_334 rfl ⟨Nat.le_of_ble_eq_true rfl, Nat.le_of_ble_eq_true rfl⟩ rfl (Nat.le_of_ble_eq_true rfl) rfl dX0_enough_8 ?_
    refine hv_if_ne (tgt := 16) dX0_enough_11 (by decide) (fun c2 => ?_) (fun c2 => ?_)
    · replace h := hq_in c2 h
      refine hv_lload_n 1 dX0_enough_16 rfl rfl ?_
      refine hv_iload_n 2 dX0_enough_17 rfl rfl ?_
      obtain ⟨x3, e_x3, h⟩ := hq_ob h
      refine hv_callS [.long p1, .int p2] [] [.long x3] (wk_x_rootOf e_x3) cs_X0_337 rfl ⟨Nat.le_of_ble_eq_true rfl, Nat.le_of_ble_eq_true rfl⟩ rfl (Nat.le_of_ble_eq_true rfl) rfl dX0_enough_18 ?_
      refine hv_iload_n 2 dX0_enough_21 rfl rfl ?_
      obtain ⟨x4, e_x4, h⟩ := hq_ob h
      refine hv_callS [.long x3, .int p2] [] [.long x4] (wk_x_raise e_x4) cs_X0_341 rfl ⟨Nat.le_of_ble_eq_true rfl, Nat.le_of_ble_eq_true rfl⟩ rfl (Nat.le_of_ble_eq_true rfl) rfl dX0_enough_22 ?_
      refine hv_lload_n 1 dX0_enough_25 rfl rfl ?_
      refine hv_lcmp_eq (tgt := 33) dX0_enough_26 dX0_enough_27 (by decide) (fun c5 => ?_) (fun c5 => ?_)
      · replace h := hq_ip c5 h
        refine hv_iconst (v := 1) dX0_enough_33 (by decide) ?_
        refine hv_istore (L' := [(4, .int (1 : Int32)), (0, .ref th), (1, .long p1), (3, .int p2)]) dX0_enough_34 (Nat.le_of_ble_eq_true rfl) rfl ?_
        refine hv_sub [1, 2, 3, 0] rfl ?_
        refine wk_x_enough_L36  ?_ hk_F _ _ h
        · intro v8 s9 h
          refine hv_iload 0 dX0_enough_55 rfl ?_
          obtain ⟨h1, h2⟩ := hq_ret h
          subst h1
          subst h2
          exact hv_iret rfl dX0_enough_57
      · replace h := hq_in c5 h
        refine hv_bipush (v := -2) dX0_enough_30 (by decide) ?_
        obtain ⟨h1, h2⟩ := hq_ret h
        subst h1
        subst h2
        exact hv_iret rfl dX0_enough_32
    · replace h := hq_ip c2 h
      refine hv_iconst (v := -1) dX0_enough_14 (by decide) ?_
      obtain ⟨h1, h2⟩ := hq_ret h
      subst h1
      subst h2
      exact hv_iret rfl dX0_enough_15
def xHeld_init (th : Nat) (s0 : hk_St) : Option hk_St :=
  some s0
abbrev N_xHeld_init (l : Launch) : hk_N := (l, cX16_init, "HeadReckons$Held", 1, none, 1, 20, true)
set_option maxHeartbeats 4000000 in
theorem wk_xHeld_init {l : Launch} {Gd : hk_G} {th : Nat} {s0 : hk_St} {fin : hk_St} (h : xHeld_init th s0 = some fin) : hk_Met Gd l yX16_init cX16_init 1 none 1 20 [.ref th] s0 none fin := by
  refine hk_start "HeadReckons$Held" true (by decide +kernel) rfl (by decide) (Nat.le_of_ble_eq_true rfl) ?_
  show hk_V Gd (N_xHeld_init l) (hk_end Gd s0 none fin) 0 [(0, .ref th)] [] s0
  unfold xHeld_init at h
  refine hv_aload_n 0 dX16_init_0 rfl rfl ?_
  refine hv_objInit q1138 q144 q145 dX16_init_1 (Nat.le_of_ble_eq_true rfl) (Nat.le_of_ble_eq_true rfl) ?_
  have h := Option.some.inj h
  subst h
  exact hv_vret rfl dX16_init_4
def xWay_init (th : Nat) (p1 : Nat) (p2 : Int32) (s0 : hk_St) : Option hk_St :=
  (hk_pR [15, 16, 17, 18, 19, 20, 21, 22] 1501 s0 th (some p1)).bind fun s1 =>
  (xHeld_init th s1).bind fun s2 =>
  (hk_pI [15, 16, 17, 18, 19, 20, 21, 22] 1500 s2 th p2).bind fun s3 =>
  some s3
abbrev N_xWay_init (l : Launch) : hk_N := (l, cX17_init, "HeadReckons$Way", 3, none, 2, 40, true)
set_option maxHeartbeats 4000000 in
theorem wk_xWay_init {l : Launch} {Gd : hk_G} {th : Nat} {p1 : Nat} {p2 : Int32} {s0 : hk_St} {fin : hk_St} (h : xWay_init th p1 p2 s0 = some fin) : hk_Met Gd l yX17_init cX17_init 3 none 2 40 [.ref th, .ref p1, .int p2] s0 none fin := by
  refine hk_start "HeadReckons$Way" true (by decide +kernel) rfl (by decide) (Nat.le_of_ble_eq_true rfl) ?_
  show hk_V Gd (N_xWay_init l) (hk_end Gd s0 none fin) 0 [(0, .ref th), (1, .ref p1), (2, .int p2)] [] s0
  unfold xWay_init at h
  refine hv_aload_n 0 dX17_init_0 rfl rfl ?_
  refine hv_aload_n 1 dX17_init_1 rfl rfl ?_
  obtain ⟨s1, e_s1, h⟩ := hq_ob h
  refine hv_putR fp_X17_3 e_s1 (fun _ => rfl) dX17_init_2 ?_
  refine hv_aload_n 0 dX17_init_5 rfl rfl ?_
  obtain ⟨s2, e_s2, h⟩ := hq_ob h
  refine hv_callIN [] [] [] (wk_xHeld_init e_s2) cs_X17_9 rfl ⟨Nat.le_of_ble_eq_true rfl, Nat.le_of_ble_eq_true rfl⟩ rfl (Nat.le_of_ble_eq_true rfl) rfl dX17_init_6 ?_
  refine hv_aload_n 0 dX17_init_9 rfl rfl ?_
  refine hv_iload_n 2 dX17_init_10 rfl rfl ?_
  obtain ⟨s3, e_s3, h⟩ := hq_ob h
  refine hv_putI fp_X17_15 e_s3 (fun _ => rfl) dX17_init_11 ?_
  have h := Option.some.inj h
  subst h
  exact hv_vret rfl dX17_init_14
def xFromLeft_init (th : Nat) (p1 : Nat) (p2 : Int32) (s0 : hk_St) : Option hk_St :=
  (hk_pR [16, 20] 1600 s0 th (some p1)).bind fun s1 =>
  (xWay_init th p1 p2 s1).bind fun s2 =>
  some s2
abbrev N_xFromLeft_init (l : Launch) : hk_N := (l, cX18_init, "HeadReckons$FromLeft", 3, none, 3, 62, true)
set_option maxHeartbeats 4000000 in
theorem wk_xFromLeft_init {l : Launch} {Gd : hk_G} {th : Nat} {p1 : Nat} {p2 : Int32} {s0 : hk_St} {fin : hk_St} (h : xFromLeft_init th p1 p2 s0 = some fin) : hk_Met Gd l yX18_init cX18_init 3 none 3 62 [.ref th, .ref p1, .int p2] s0 none fin := by
  refine hk_start "HeadReckons$FromLeft" true (by decide +kernel) rfl (by decide) (Nat.le_of_ble_eq_true rfl) ?_
  show hk_V Gd (N_xFromLeft_init l) (hk_end Gd s0 none fin) 0 [(0, .ref th), (1, .ref p1), (2, .int p2)] [] s0
  unfold xFromLeft_init at h
  refine hv_aload_n 0 dX18_init_0 rfl rfl ?_
  refine hv_aload_n 1 dX18_init_1 rfl rfl ?_
  obtain ⟨s1, e_s1, h⟩ := hq_ob h
  refine hv_putR fp_X18_1 e_s1 (fun _ => rfl) dX18_init_2 ?_
  refine hv_aload_n 0 dX18_init_5 rfl rfl ?_
  refine hv_aload_n 1 dX18_init_6 rfl rfl ?_
  refine hv_iload_n 2 dX18_init_7 rfl rfl ?_
  obtain ⟨s2, e_s2, h⟩ := hq_ob h
  refine hv_callI [.ref p1, .int p2] [] [] (wk_xWay_init e_s2) cs_X18_7 rfl ⟨Nat.le_of_ble_eq_true rfl, Nat.le_of_ble_eq_true rfl⟩ rfl (Nat.le_of_ble_eq_true rfl) rfl dX18_init_8 ?_
  have h := Option.some.inj h
  subst h
  exact hv_vret rfl dX18_init_11
def xFromRight_init (th : Nat) (p1 : Nat) (p2 : Int32) (s0 : hk_St) : Option hk_St :=
  (hk_pR [17, 18] 1700 s0 th (some p1)).bind fun s1 =>
  (xWay_init th p1 p2 s1).bind fun s2 =>
  some s2
abbrev N_xFromRight_init (l : Launch) : hk_N := (l, cX19_init, "HeadReckons$FromRight", 3, none, 3, 62, true)
set_option maxHeartbeats 4000000 in
theorem wk_xFromRight_init {l : Launch} {Gd : hk_G} {th : Nat} {p1 : Nat} {p2 : Int32} {s0 : hk_St} {fin : hk_St} (h : xFromRight_init th p1 p2 s0 = some fin) : hk_Met Gd l yX19_init cX19_init 3 none 3 62 [.ref th, .ref p1, .int p2] s0 none fin := by
  refine hk_start "HeadReckons$FromRight" true (by decide +kernel) rfl (by decide) (Nat.le_of_ble_eq_true rfl) ?_
  show hk_V Gd (N_xFromRight_init l) (hk_end Gd s0 none fin) 0 [(0, .ref th), (1, .ref p1), (2, .int p2)] [] s0
  unfold xFromRight_init at h
  refine hv_aload_n 0 dX19_init_0 rfl rfl ?_
  refine hv_aload_n 1 dX19_init_1 rfl rfl ?_
  obtain ⟨s1, e_s1, h⟩ := hq_ob h
  refine hv_putR fp_X19_1 e_s1 (fun _ => rfl) dX19_init_2 ?_
  refine hv_aload_n 0 dX19_init_5 rfl rfl ?_
  refine hv_aload_n 1 dX19_init_6 rfl rfl ?_
  refine hv_iload_n 2 dX19_init_7 rfl rfl ?_
  obtain ⟨s2, e_s2, h⟩ := hq_ob h
  refine hv_callI [.ref p1, .int p2] [] [] (wk_xWay_init e_s2) cs_X19_7 rfl ⟨Nat.le_of_ble_eq_true rfl, Nat.le_of_ble_eq_true rfl⟩ rfl (Nat.le_of_ble_eq_true rfl) rfl dX19_init_8 ?_
  have h := Option.some.inj h
  subst h
  exact hv_vret rfl dX19_init_11
def xCrosswise_init (th : Nat) (p1 : Nat) (p2 : Int32) (s0 : hk_St) : Option hk_St :=
  (hk_pR [18] 1800 s0 th (some p1)).bind fun s1 =>
  (xFromRight_init th p1 p2 s1).bind fun s2 =>
  some s2
abbrev N_xCrosswise_init (l : Launch) : hk_N := (l, cX20_init, "HeadReckons$Crosswise", 3, none, 4, 84, true)
set_option maxHeartbeats 4000000 in
theorem wk_xCrosswise_init {l : Launch} {Gd : hk_G} {th : Nat} {p1 : Nat} {p2 : Int32} {s0 : hk_St} {fin : hk_St} (h : xCrosswise_init th p1 p2 s0 = some fin) : hk_Met Gd l yX20_init cX20_init 3 none 4 84 [.ref th, .ref p1, .int p2] s0 none fin := by
  refine hk_start "HeadReckons$Crosswise" true (by decide +kernel) rfl (by decide) (Nat.le_of_ble_eq_true rfl) ?_
  show hk_V Gd (N_xCrosswise_init l) (hk_end Gd s0 none fin) 0 [(0, .ref th), (1, .ref p1), (2, .int p2)] [] s0
  unfold xCrosswise_init at h
  refine hv_aload_n 0 dX20_init_0 rfl rfl ?_
  refine hv_aload_n 1 dX20_init_1 rfl rfl ?_
  obtain ⟨s1, e_s1, h⟩ := hq_ob h
  refine hv_putR fp_X20_1 e_s1 (fun _ => rfl) dX20_init_2 ?_
  refine hv_aload_n 0 dX20_init_5 rfl rfl ?_
  refine hv_aload_n 1 dX20_init_6 rfl rfl ?_
  refine hv_iload_n 2 dX20_init_7 rfl rfl ?_
  obtain ⟨s2, e_s2, h⟩ := hq_ob h
  refine hv_callI [.ref p1, .int p2] [] [] (wk_xFromRight_init e_s2) cs_X20_7 rfl ⟨Nat.le_of_ble_eq_true rfl, Nat.le_of_ble_eq_true rfl⟩ rfl (Nat.le_of_ble_eq_true rfl) rfl dX20_init_8 ?_
  have h := Option.some.inj h
  subst h
  exact hv_vret rfl dX20_init_11
def xBySquares_init (th : Nat) (p1 : Nat) (p2 : Int32) (s0 : hk_St) : Option hk_St :=
  (hk_pR [19] 1900 s0 th (some p1)).bind fun s1 =>
  (xWay_init th p1 p2 s1).bind fun s2 =>
  some s2
abbrev N_xBySquares_init (l : Launch) : hk_N := (l, cX21_init, "HeadReckons$BySquares", 3, none, 3, 62, true)
set_option maxHeartbeats 4000000 in
theorem wk_xBySquares_init {l : Launch} {Gd : hk_G} {th : Nat} {p1 : Nat} {p2 : Int32} {s0 : hk_St} {fin : hk_St} (h : xBySquares_init th p1 p2 s0 = some fin) : hk_Met Gd l yX21_init cX21_init 3 none 3 62 [.ref th, .ref p1, .int p2] s0 none fin := by
  refine hk_start "HeadReckons$BySquares" true (by decide +kernel) rfl (by decide) (Nat.le_of_ble_eq_true rfl) ?_
  show hk_V Gd (N_xBySquares_init l) (hk_end Gd s0 none fin) 0 [(0, .ref th), (1, .ref p1), (2, .int p2)] [] s0
  unfold xBySquares_init at h
  refine hv_aload_n 0 dX21_init_0 rfl rfl ?_
  refine hv_aload_n 1 dX21_init_1 rfl rfl ?_
  obtain ⟨s1, e_s1, h⟩ := hq_ob h
  refine hv_putR fp_X21_1 e_s1 (fun _ => rfl) dX21_init_2 ?_
  refine hv_aload_n 0 dX21_init_5 rfl rfl ?_
  refine hv_aload_n 1 dX21_init_6 rfl rfl ?_
  refine hv_iload_n 2 dX21_init_7 rfl rfl ?_
  obtain ⟨s2, e_s2, h⟩ := hq_ob h
  refine hv_callI [.ref p1, .int p2] [] [] (wk_xWay_init e_s2) cs_X21_7 rfl ⟨Nat.le_of_ble_eq_true rfl, Nat.le_of_ble_eq_true rfl⟩ rfl (Nat.le_of_ble_eq_true rfl) rfl dX21_init_8 ?_
  have h := Option.some.inj h
  subst h
  exact hv_vret rfl dX21_init_11
def xByFactors_init (th : Nat) (p1 : Nat) (p2 : Int32) (s0 : hk_St) : Option hk_St :=
  (hk_pR [20] 2000 s0 th (some p1)).bind fun s1 =>
  (xFromLeft_init th p1 p2 s1).bind fun s2 =>
  some s2
abbrev N_xByFactors_init (l : Launch) : hk_N := (l, cX22_init, "HeadReckons$ByFactors", 3, none, 4, 84, true)
set_option maxHeartbeats 4000000 in
theorem wk_xByFactors_init {l : Launch} {Gd : hk_G} {th : Nat} {p1 : Nat} {p2 : Int32} {s0 : hk_St} {fin : hk_St} (h : xByFactors_init th p1 p2 s0 = some fin) : hk_Met Gd l yX22_init cX22_init 3 none 4 84 [.ref th, .ref p1, .int p2] s0 none fin := by
  refine hk_start "HeadReckons$ByFactors" true (by decide +kernel) rfl (by decide) (Nat.le_of_ble_eq_true rfl) ?_
  show hk_V Gd (N_xByFactors_init l) (hk_end Gd s0 none fin) 0 [(0, .ref th), (1, .ref p1), (2, .int p2)] [] s0
  unfold xByFactors_init at h
  refine hv_aload_n 0 dX22_init_0 rfl rfl ?_
  refine hv_aload_n 1 dX22_init_1 rfl rfl ?_
  obtain ⟨s1, e_s1, h⟩ := hq_ob h
  refine hv_putR fp_X22_1 e_s1 (fun _ => rfl) dX22_init_2 ?_
  refine hv_aload_n 0 dX22_init_5 rfl rfl ?_
  refine hv_aload_n 1 dX22_init_6 rfl rfl ?_
  refine hv_iload_n 2 dX22_init_7 rfl rfl ?_
  obtain ⟨s2, e_s2, h⟩ := hq_ob h
  refine hv_callI [.ref p1, .int p2] [] [] (wk_xFromLeft_init e_s2) cs_X22_7 rfl ⟨Nat.le_of_ble_eq_true rfl, Nat.le_of_ble_eq_true rfl⟩ rfl (Nat.le_of_ble_eq_true rfl) rfl dX22_init_8 ?_
  have h := Option.some.inj h
  subst h
  exact hv_vret rfl dX22_init_11
def xByHeart_init (th : Nat) (p1 : Nat) (p2 : Int32) (s0 : hk_St) : Option hk_St :=
  (hk_pR [21, 22] 2100 s0 th (some p1)).bind fun s1 =>
  (xWay_init th p1 p2 s1).bind fun s2 =>
  some s2
abbrev N_xByHeart_init (l : Launch) : hk_N := (l, cX23_init, "HeadReckons$ByHeart", 3, none, 3, 62, true)
set_option maxHeartbeats 4000000 in
theorem wk_xByHeart_init {l : Launch} {Gd : hk_G} {th : Nat} {p1 : Nat} {p2 : Int32} {s0 : hk_St} {fin : hk_St} (h : xByHeart_init th p1 p2 s0 = some fin) : hk_Met Gd l yX23_init cX23_init 3 none 3 62 [.ref th, .ref p1, .int p2] s0 none fin := by
  refine hk_start "HeadReckons$ByHeart" true (by decide +kernel) rfl (by decide) (Nat.le_of_ble_eq_true rfl) ?_
  show hk_V Gd (N_xByHeart_init l) (hk_end Gd s0 none fin) 0 [(0, .ref th), (1, .ref p1), (2, .int p2)] [] s0
  unfold xByHeart_init at h
  refine hv_aload_n 0 dX23_init_0 rfl rfl ?_
  refine hv_aload_n 1 dX23_init_1 rfl rfl ?_
  obtain ⟨s1, e_s1, h⟩ := hq_ob h
  refine hv_putR fp_X23_1 e_s1 (fun _ => rfl) dX23_init_2 ?_
  refine hv_aload_n 0 dX23_init_5 rfl rfl ?_
  refine hv_aload_n 1 dX23_init_6 rfl rfl ?_
  refine hv_iload_n 2 dX23_init_7 rfl rfl ?_
  obtain ⟨s2, e_s2, h⟩ := hq_ob h
  refine hv_callI [.ref p1, .int p2] [] [] (wk_xWay_init e_s2) cs_X23_7 rfl ⟨Nat.le_of_ble_eq_true rfl, Nat.le_of_ble_eq_true rfl⟩ rfl (Nat.le_of_ble_eq_true rfl) rfl dX23_init_8 ?_
  have h := Option.some.inj h
  subst h
  exact hv_vret rfl dX23_init_11
def xRooted_init (th : Nat) (p1 : Nat) (p2 : Int32) (s0 : hk_St) : Option hk_St :=
  (hk_pR [22] 2200 s0 th (some p1)).bind fun s1 =>
  (xByHeart_init th p1 p2 s1).bind fun s2 =>
  some s2
abbrev N_xRooted_init (l : Launch) : hk_N := (l, cX24_init, "HeadReckons$Rooted", 3, none, 4, 84, true)
set_option maxHeartbeats 4000000 in
theorem wk_xRooted_init {l : Launch} {Gd : hk_G} {th : Nat} {p1 : Nat} {p2 : Int32} {s0 : hk_St} {fin : hk_St} (h : xRooted_init th p1 p2 s0 = some fin) : hk_Met Gd l yX24_init cX24_init 3 none 4 84 [.ref th, .ref p1, .int p2] s0 none fin := by
  refine hk_start "HeadReckons$Rooted" true (by decide +kernel) rfl (by decide) (Nat.le_of_ble_eq_true rfl) ?_
  show hk_V Gd (N_xRooted_init l) (hk_end Gd s0 none fin) 0 [(0, .ref th), (1, .ref p1), (2, .int p2)] [] s0
  unfold xRooted_init at h
  refine hv_aload_n 0 dX24_init_0 rfl rfl ?_
  refine hv_aload_n 1 dX24_init_1 rfl rfl ?_
  obtain ⟨s1, e_s1, h⟩ := hq_ob h
  refine hv_putR fp_X24_1 e_s1 (fun _ => rfl) dX24_init_2 ?_
  refine hv_aload_n 0 dX24_init_5 rfl rfl ?_
  refine hv_aload_n 1 dX24_init_6 rfl rfl ?_
  refine hv_iload_n 2 dX24_init_7 rfl rfl ?_
  obtain ⟨s2, e_s2, h⟩ := hq_ob h
  refine hv_callI [.ref p1, .int p2] [] [] (wk_xByHeart_init e_s2) cs_X24_7 rfl ⟨Nat.le_of_ble_eq_true rfl, Nat.le_of_ble_eq_true rfl⟩ rfl (Nat.le_of_ble_eq_true rfl) rfl dX24_init_8 ?_
  have h := Option.some.inj h
  subst h
  exact hv_vret rfl dX24_init_11
def x_made (th : Nat) (p1 : Int32) (s0 : hk_St) : Option (Option Nat × hk_St) :=
  if p1 = 1 then
    hk_nm (hk_nx s0) fun a1 =>
    hk_nm (hk_mk s0 16 0 3) fun s2 =>
    (hk_gI [0] 21 s2 th).bind fun x3 =>
    (xFromLeft_init a1 th x3 s2).bind fun s4 =>
    some (some a1, s4)
  else
  if p1 = 2 then
    hk_nm (hk_nx s0) fun a6 =>
    hk_nm (hk_mk s0 17 0 3) fun s7 =>
    (hk_gI [0] 21 s7 th).bind fun x8 =>
    (xFromRight_init a6 th x8 s7).bind fun s9 =>
    some (some a6, s9)
  else
  if p1 = 3 then
    hk_nm (hk_nx s0) fun a11 =>
    hk_nm (hk_mk s0 18 0 4) fun s12 =>
    (hk_gI [0] 21 s12 th).bind fun x13 =>
    (xCrosswise_init a11 th x13 s12).bind fun s14 =>
    some (some a11, s14)
  else
  if p1 = 4 then
    hk_nm (hk_nx s0) fun a16 =>
    hk_nm (hk_mk s0 19 0 3) fun s17 =>
    (hk_gI [0] 21 s17 th).bind fun x18 =>
    (xBySquares_init a16 th x18 s17).bind fun s19 =>
    some (some a16, s19)
  else
  if p1 = 5 then
    hk_nm (hk_nx s0) fun a21 =>
    hk_nm (hk_mk s0 20 0 4) fun s22 =>
    (hk_gI [0] 21 s22 th).bind fun x23 =>
    (xByFactors_init a21 th x23 s22).bind fun s24 =>
    some (some a21, s24)
  else
  if p1 = 6 then
    hk_nm (hk_nx s0) fun a26 =>
    hk_nm (hk_mk s0 21 0 3) fun s27 =>
    (hk_gI [0] 21 s27 th).bind fun x28 =>
    (xByHeart_init a26 th x28 s27).bind fun s29 =>
    some (some a26, s29)
  else
  if p1 = 7 then
    hk_nm (hk_nx s0) fun a31 =>
    hk_nm (hk_mk s0 22 0 4) fun s32 =>
    (hk_gI [0] 21 s32 th).bind fun x33 =>
    (xRooted_init a31 th x33 s32).bind fun s34 =>
    some (some a31, s34)
  else
  hk_nm (hk_nx s0) fun a36 =>
  hk_nm (hk_mk s0 15 0 2) fun s37 =>
  (hk_gI [0] 21 s37 th).bind fun x38 =>
  (xWay_init a36 th x38 s37).bind fun s39 =>
  some (some a36, s39)
abbrev N_x_made (l : Launch) : hk_N := (l, cX0_made, "HeadReckons", 2, (some (.object "HeadReckons$Way")), 5, 106, false)
set_option maxHeartbeats 4000000 in
theorem wk_x_made {l : Launch} {Gd : hk_G} {th : Nat} {p1 : Int32} {s0 : hk_St} {r : Option Nat} {fin : hk_St} (h : x_made th p1 s0 = some (r, fin)) : hk_Met Gd l yX0_made cX0_made 2 (some (.object "HeadReckons$Way")) 5 106 [.ref th, .int p1] s0 (some (va_rf r)) fin := by
  refine hk_start "HeadReckons" false (by decide +kernel) rfl (by decide) (Nat.le_of_ble_eq_true rfl) ?_
  show hk_V Gd (N_x_made l) (hk_end Gd s0 (some (va_rf r)) fin) 0 [(0, .ref th), (1, .int p1)] [] s0
  unfold x_made at h
  refine hv_iload_n 1 dX0_made_0 rfl rfl ?_
  by_cases c5 : p1 = 1
  · replace h := hq_ip c5 h
    refine hv_tableIn (tgt := 44) (off := 43) dX0_made_1 (by rw [c5]; decide) (by rw [c5]; decide) (by rw [c5]; rfl) (by decide) ?_
    obtain ⟨a1, e_a1, h⟩ := hq_nm h
    obtain ⟨s2, e_s2, h⟩ := hq_nm h
    refine hv_new (ci := 16) (r := (RX18, TX18, 3)) rfl hk_ok16 (by decide) q1127 q1128 q123 dX0_made_44 ?_
    rw [show hk_mk s0 16 0 ((RX18, TX18, 3) : vw_C).2.2 = s2 from e_s2.symm, ← e_a1]
    refine hv_dup dX0_made_47 rfl ?_
    refine hv_aload_n 0 dX0_made_48 rfl rfl ?_
    refine hv_aload_n 0 dX0_made_49 rfl rfl ?_
    obtain ⟨x3, e_x3, h⟩ := hq_ob h
    refine hv_getI fl_X0_362 e_x3 dX0_made_50 ?_
    obtain ⟨s4, e_s4, h⟩ := hq_ob h
    refine hv_callI [.ref th, .int x3] [.ref a1] [.ref a1] (wk_xFromLeft_init e_s4) cs_X0_367 rfl ⟨Nat.le_of_ble_eq_true rfl, Nat.le_of_ble_eq_true rfl⟩ rfl (Nat.le_of_ble_eq_true rfl) rfl dX0_made_53 ?_
    obtain ⟨h1, h2⟩ := hq_ret h
    subst h1
    subst h2
    exact hv_aret rfl dX0_made_56
  replace h := hq_in c5 h
  by_cases c10 : p1 = 2
  · replace h := hq_ip c10 h
    refine hv_tableIn (tgt := 57) (off := 56) dX0_made_1 (by rw [c10]; decide) (by rw [c10]; decide) (by rw [c10]; rfl) (by decide) ?_
    obtain ⟨a6, e_a6, h⟩ := hq_nm h
    obtain ⟨s7, e_s7, h⟩ := hq_nm h
    refine hv_new (ci := 17) (r := (RX19, TX19, 3)) rfl hk_ok17 (by decide) q1149 q1150 q124 dX0_made_57 ?_
    rw [show hk_mk s0 17 0 ((RX19, TX19, 3) : vw_C).2.2 = s7 from e_s7.symm, ← e_a6]
    refine hv_dup dX0_made_60 rfl ?_
    refine hv_aload_n 0 dX0_made_61 rfl rfl ?_
    refine hv_aload_n 0 dX0_made_62 rfl rfl ?_
    obtain ⟨x8, e_x8, h⟩ := hq_ob h
    refine hv_getI fl_X0_362 e_x8 dX0_made_63 ?_
    obtain ⟨s9, e_s9, h⟩ := hq_ob h
    refine hv_callI [.ref th, .int x8] [.ref a6] [.ref a6] (wk_xFromRight_init e_s9) cs_X0_372 rfl ⟨Nat.le_of_ble_eq_true rfl, Nat.le_of_ble_eq_true rfl⟩ rfl (Nat.le_of_ble_eq_true rfl) rfl dX0_made_66 ?_
    obtain ⟨h1, h2⟩ := hq_ret h
    subst h1
    subst h2
    exact hv_aret rfl dX0_made_69
  replace h := hq_in c10 h
  by_cases c15 : p1 = 3
  · replace h := hq_ip c15 h
    refine hv_tableIn (tgt := 70) (off := 69) dX0_made_1 (by rw [c15]; decide) (by rw [c15]; decide) (by rw [c15]; rfl) (by decide) ?_
    obtain ⟨a11, e_a11, h⟩ := hq_nm h
    obtain ⟨s12, e_s12, h⟩ := hq_nm h
    refine hv_new (ci := 18) (r := (RX20, TX20, 4)) rfl hk_ok18 (by decide) q1161 q1162 q125 dX0_made_70 ?_
    rw [show hk_mk s0 18 0 ((RX20, TX20, 4) : vw_C).2.2 = s12 from e_s12.symm, ← e_a11]
    refine hv_dup dX0_made_73 rfl ?_
    refine hv_aload_n 0 dX0_made_74 rfl rfl ?_
    refine hv_aload_n 0 dX0_made_75 rfl rfl ?_
    obtain ⟨x13, e_x13, h⟩ := hq_ob h
    refine hv_getI fl_X0_362 e_x13 dX0_made_76 ?_
    obtain ⟨s14, e_s14, h⟩ := hq_ob h
    refine hv_callI [.ref th, .int x13] [.ref a11] [.ref a11] (wk_xCrosswise_init e_s14) cs_X0_375 rfl ⟨Nat.le_of_ble_eq_true rfl, Nat.le_of_ble_eq_true rfl⟩ rfl (Nat.le_of_ble_eq_true rfl) rfl dX0_made_79 ?_
    obtain ⟨h1, h2⟩ := hq_ret h
    subst h1
    subst h2
    exact hv_aret rfl dX0_made_82
  replace h := hq_in c15 h
  by_cases c20 : p1 = 4
  · replace h := hq_ip c20 h
    refine hv_tableIn (tgt := 83) (off := 82) dX0_made_1 (by rw [c20]; decide) (by rw [c20]; decide) (by rw [c20]; rfl) (by decide) ?_
    obtain ⟨a16, e_a16, h⟩ := hq_nm h
    obtain ⟨s17, e_s17, h⟩ := hq_nm h
    refine hv_new (ci := 19) (r := (RX21, TX21, 3)) rfl hk_ok19 (by decide) q1174 q1175 q126 dX0_made_83 ?_
    rw [show hk_mk s0 19 0 ((RX21, TX21, 3) : vw_C).2.2 = s17 from e_s17.symm, ← e_a16]
    refine hv_dup dX0_made_86 rfl ?_
    refine hv_aload_n 0 dX0_made_87 rfl rfl ?_
    refine hv_aload_n 0 dX0_made_88 rfl rfl ?_
    obtain ⟨x18, e_x18, h⟩ := hq_ob h
    refine hv_getI fl_X0_362 e_x18 dX0_made_89 ?_
    obtain ⟨s19, e_s19, h⟩ := hq_ob h
    refine hv_callI [.ref th, .int x18] [.ref a16] [.ref a16] (wk_xBySquares_init e_s19) cs_X0_378 rfl ⟨Nat.le_of_ble_eq_true rfl, Nat.le_of_ble_eq_true rfl⟩ rfl (Nat.le_of_ble_eq_true rfl) rfl dX0_made_92 ?_
    obtain ⟨h1, h2⟩ := hq_ret h
    subst h1
    subst h2
    exact hv_aret rfl dX0_made_95
  replace h := hq_in c20 h
  by_cases c25 : p1 = 5
  · replace h := hq_ip c25 h
    refine hv_tableIn (tgt := 96) (off := 95) dX0_made_1 (by rw [c25]; decide) (by rw [c25]; decide) (by rw [c25]; rfl) (by decide) ?_
    obtain ⟨a21, e_a21, h⟩ := hq_nm h
    obtain ⟨s22, e_s22, h⟩ := hq_nm h
    refine hv_new (ci := 20) (r := (RX22, TX22, 4)) rfl hk_ok20 (by decide) q1186 q1187 q127 dX0_made_96 ?_
    rw [show hk_mk s0 20 0 ((RX22, TX22, 4) : vw_C).2.2 = s22 from e_s22.symm, ← e_a21]
    refine hv_dup dX0_made_99 rfl ?_
    refine hv_aload_n 0 dX0_made_100 rfl rfl ?_
    refine hv_aload_n 0 dX0_made_101 rfl rfl ?_
    obtain ⟨x23, e_x23, h⟩ := hq_ob h
    refine hv_getI fl_X0_362 e_x23 dX0_made_102 ?_
    obtain ⟨s24, e_s24, h⟩ := hq_ob h
    refine hv_callI [.ref th, .int x23] [.ref a21] [.ref a21] (wk_xByFactors_init e_s24) cs_X0_381 rfl ⟨Nat.le_of_ble_eq_true rfl, Nat.le_of_ble_eq_true rfl⟩ rfl (Nat.le_of_ble_eq_true rfl) rfl dX0_made_105 ?_
    obtain ⟨h1, h2⟩ := hq_ret h
    subst h1
    subst h2
    exact hv_aret rfl dX0_made_108
  replace h := hq_in c25 h
  by_cases c30 : p1 = 6
  · replace h := hq_ip c30 h
    refine hv_tableIn (tgt := 109) (off := 108) dX0_made_1 (by rw [c30]; decide) (by rw [c30]; decide) (by rw [c30]; rfl) (by decide) ?_
    obtain ⟨a26, e_a26, h⟩ := hq_nm h
    obtain ⟨s27, e_s27, h⟩ := hq_nm h
    refine hv_new (ci := 21) (r := (RX23, TX23, 3)) rfl hk_ok21 (by decide) q1199 q1200 q128 dX0_made_109 ?_
    rw [show hk_mk s0 21 0 ((RX23, TX23, 3) : vw_C).2.2 = s27 from e_s27.symm, ← e_a26]
    refine hv_dup dX0_made_112 rfl ?_
    refine hv_aload_n 0 dX0_made_113 rfl rfl ?_
    refine hv_aload_n 0 dX0_made_114 rfl rfl ?_
    obtain ⟨x28, e_x28, h⟩ := hq_ob h
    refine hv_getI fl_X0_362 e_x28 dX0_made_115 ?_
    obtain ⟨s29, e_s29, h⟩ := hq_ob h
    refine hv_callI [.ref th, .int x28] [.ref a26] [.ref a26] (wk_xByHeart_init e_s29) cs_X0_384 rfl ⟨Nat.le_of_ble_eq_true rfl, Nat.le_of_ble_eq_true rfl⟩ rfl (Nat.le_of_ble_eq_true rfl) rfl dX0_made_118 ?_
    obtain ⟨h1, h2⟩ := hq_ret h
    subst h1
    subst h2
    exact hv_aret rfl dX0_made_121
  replace h := hq_in c30 h
  by_cases c35 : p1 = 7
  · replace h := hq_ip c35 h
    refine hv_tableIn (tgt := 122) (off := 121) dX0_made_1 (by rw [c35]; decide) (by rw [c35]; decide) (by rw [c35]; rfl) (by decide) ?_
    obtain ⟨a31, e_a31, h⟩ := hq_nm h
    obtain ⟨s32, e_s32, h⟩ := hq_nm h
    refine hv_new (ci := 22) (r := (RX24, TX24, 4)) rfl hk_ok22 (by decide) q1211 q1212 q129 dX0_made_122 ?_
    rw [show hk_mk s0 22 0 ((RX24, TX24, 4) : vw_C).2.2 = s32 from e_s32.symm, ← e_a31]
    refine hv_dup dX0_made_125 rfl ?_
    refine hv_aload_n 0 dX0_made_126 rfl rfl ?_
    refine hv_aload_n 0 dX0_made_127 rfl rfl ?_
    obtain ⟨x33, e_x33, h⟩ := hq_ob h
    refine hv_getI fl_X0_362 e_x33 dX0_made_128 ?_
    obtain ⟨s34, e_s34, h⟩ := hq_ob h
    refine hv_callI [.ref th, .int x33] [.ref a31] [.ref a31] (wk_xRooted_init e_s34) cs_X0_387 rfl ⟨Nat.le_of_ble_eq_true rfl, Nat.le_of_ble_eq_true rfl⟩ rfl (Nat.le_of_ble_eq_true rfl) rfl dX0_made_131 ?_
    obtain ⟨h1, h2⟩ := hq_ret h
    subst h1
    subst h2
    exact hv_aret rfl dX0_made_134
  replace h := hq_in c35 h
  refine hv_tableD (tgt := 135) [1, 2, 3, 4, 5, 6, 7] dX0_made_1 (by decide) (by decide) (List.forall_mem_cons.mpr ⟨lv_neT c5 (by decide), (List.forall_mem_cons.mpr ⟨lv_neT c10 (by decide), (List.forall_mem_cons.mpr ⟨lv_neT c15 (by decide), (List.forall_mem_cons.mpr ⟨lv_neT c20 (by decide), (List.forall_mem_cons.mpr ⟨lv_neT c25 (by decide), (List.forall_mem_cons.mpr ⟨lv_neT c30 (by decide), (List.forall_mem_cons.mpr ⟨lv_neT c35 (by decide), (fun _ q => absurd q List.not_mem_nil)⟩)⟩)⟩)⟩)⟩)⟩)⟩) (by decide) ?_
  obtain ⟨a36, e_a36, h⟩ := hq_nm h
  obtain ⟨s37, e_s37, h⟩ := hq_nm h
  refine hv_new (ci := 15) (r := (RX17, TX17, 2)) rfl hk_ok15 (by decide) q248 q1224 q122 dX0_made_135 ?_
  rw [show hk_mk s0 15 0 ((RX17, TX17, 2) : vw_C).2.2 = s37 from e_s37.symm, ← e_a36]
  refine hv_dup dX0_made_138 rfl ?_
  refine hv_aload_n 0 dX0_made_139 rfl rfl ?_
  refine hv_aload_n 0 dX0_made_140 rfl rfl ?_
  obtain ⟨x38, e_x38, h⟩ := hq_ob h
  refine hv_getI fl_X0_362 e_x38 dX0_made_141 ?_
  obtain ⟨s39, e_s39, h⟩ := hq_ob h
  refine hv_callI [.ref th, .int x38] [.ref a36] [.ref a36] (wk_xWay_init e_s39) cs_X0_388 rfl ⟨Nat.le_of_ble_eq_true rfl, Nat.le_of_ble_eq_true rfl⟩ rfl (Nat.le_of_ble_eq_true rfl) rfl dX0_made_144 ?_
  obtain ⟨h1, h2⟩ := hq_ret h
  subst h1
  subst h2
  exact hv_aret rfl dX0_made_147
def x_body (th : Nat) (p1 : Int32) (s0 : hk_St) : Option (Int32 × hk_St) :=
  if (x_in p1 (0 : Int32) (7 : Int32)) = 0 then
    some ((-1 : Int32), s0)
  else
  (hk_gI [0] 21 s0 th).bind fun x2 =>
    if x2 = (50 : Int32) then
      some ((-3 : Int32), s0)
    else
    (hk_gR [0] 20 s0 th).bind fun x4 =>
      (hk_gI [0] 21 s0 th).bind fun x5 =>
      (x_made th p1 s0).bind fun q6 =>
      hk_gd (hk_bf [0] s0 th) <|
      hk_nn x4 fun a8 =>
      (hk_tR 9 [15, 16, 17, 18, 19, 20, 21, 22] q6.2 a8 x5 q6.1).bind fun s9 =>
      (hk_gI [0] 21 s9 th).bind fun x10 =>
      (hk_pI [0] 21 s9 th (x10 + (1 : Int32))).bind fun s11 =>
      (hk_gI [0] 21 s11 th).bind fun x12 =>
      some (x12 - (1 : Int32), s11)
abbrev N_x_body (l : Launch) : hk_N := (l, cX0_body, "HeadReckons", 2, (some .int), 6, 127, false)
set_option maxHeartbeats 4000000 in
theorem wk_x_body {l : Launch} {Gd : hk_G} {th : Nat} {p1 : Int32} {s0 : hk_St} {r : Int32} {fin : hk_St} (h : x_body th p1 s0 = some (r, fin)) : hk_Met Gd l yX0_body cX0_body 2 (some .int) 6 127 [.ref th, .int p1] s0 (some (.int r)) fin := by
  refine hk_start "HeadReckons" false (by decide +kernel) rfl (by decide) (Nat.le_of_ble_eq_true rfl) ?_
  show hk_V Gd (N_x_body l) (hk_end Gd s0 (some (.int r)) fin) 0 [(0, .ref th), (1, .int p1)] [] s0
  unfold x_body at h
  refine hv_iload_n 1 dX0_body_0 rfl rfl ?_
  refine hv_iconst (v := 0) dX0_body_1 (by decide) ?_
  refine hv_bipush (v := 7) dX0_body_2 (by decide) ?_
  refine hv_callS [.int p1, .int (0 : Int32), .int (7 : Int32)] [] [.int (x_in p1 (0 : Int32) (7 : Int32))] (wk_x_in rfl) cs_X0_73 rfl ⟨Nat.le_of_ble_eq_true rfl, Nat.le_of_ble_eq_true rfl⟩ rfl (Nat.le_of_ble_eq_true rfl) rfl dX0_body_4 ?_
  refine hv_if_ne (tgt := 12) dX0_body_7 (by decide) (fun c1 => ?_) (fun c1 => ?_)
  · replace h := hq_in c1 h
    refine hv_aload_n 0 dX0_body_12 rfl rfl ?_
    obtain ⟨x2, e_x2, h⟩ := hq_ob h
    refine hv_getI fl_X0_362 e_x2 dX0_body_13 ?_
    refine hv_bipush (v := 50) dX0_body_16 (by decide) ?_
    refine hv_icmp_ne (tgt := 24) dX0_body_18 (by decide) (fun c3 => ?_) (fun c3 => ?_)
    · replace h := hq_in c3 h
      refine hv_aload_n 0 dX0_body_24 rfl rfl ?_
      obtain ⟨x4, e_x4, h⟩ := hq_ob h
      refine hv_getR fl_X0_61 e_x4 dX0_body_25 ?_
      refine hv_aload_n 0 dX0_body_28 rfl rfl ?_
      obtain ⟨x5, e_x5, h⟩ := hq_ob h
      refine hv_getI fl_X0_362 e_x5 dX0_body_29 ?_
      refine hv_aload_n 0 dX0_body_32 rfl rfl ?_
      refine hv_iload_n 1 dX0_body_33 rfl rfl ?_
      obtain ⟨q6, e_q6, h⟩ := hq_ob h
      obtain ⟨g7, h⟩ := hq_gd h
      refine hv_callV [.int p1] [.int x5, va_rf x4] [va_rf q6.1, .int x5, va_rf x4] (wk_x_made e_q6) cs_X0_389 g7 rfl ⟨Nat.le_of_ble_eq_true rfl, Nat.le_of_ble_eq_true rfl⟩ rfl (by simp only [List.map, hk_cat]; exact Nat.le_of_ble_eq_true rfl) rfl dX0_body_34 ?_
      obtain ⟨a8, e_a8, h⟩ := hq_nn h
      rw [e_a8]
      obtain ⟨s9, e_s9, h⟩ := hq_ob h
      refine hv_aast (by decide) (by decide) rfl hk_as9 e_s9 dX0_body_37 ?_
      refine hv_aload_n 0 dX0_body_38 rfl rfl ?_
      refine hv_dup dX0_body_39 rfl ?_
      obtain ⟨x10, e_x10, h⟩ := hq_ob h
      refine hv_getI fl_X0_362 e_x10 dX0_body_40 ?_
      refine hv_iconst (v := 1) dX0_body_43 (by decide) ?_
      refine hv_iadd dX0_body_44 ?_
      obtain ⟨s11, e_s11, h⟩ := hq_ob h
      refine hv_putI fp_X0_362 e_s11 (fun q => by cases q) dX0_body_45 ?_
      refine hv_aload_n 0 dX0_body_48 rfl rfl ?_
      obtain ⟨x12, e_x12, h⟩ := hq_ob h
      refine hv_getI fl_X0_362 e_x12 dX0_body_49 ?_
      refine hv_iconst (v := 1) dX0_body_52 (by decide) ?_
      refine hv_isub dX0_body_53 ?_
      obtain ⟨h1, h2⟩ := hq_ret h
      subst h1
      subst h2
      exact hv_iret rfl dX0_body_54
    · replace h := hq_ip c3 h
      refine hv_bipush (v := -3) dX0_body_21 (by decide) ?_
      obtain ⟨h1, h2⟩ := hq_ret h
      subst h1
      subst h2
      exact hv_iret rfl dX0_body_23
  · replace h := hq_ip c1 h
    refine hv_iconst (v := -1) dX0_body_10 (by decide) ?_
    obtain ⟨h1, h2⟩ := hq_ret h
    subst h1
    subst h2
    exact hv_iret rfl dX0_body_11
def x_isBody (th : Nat) (p1 : Int32) (s0 : hk_St) : Option (Int32) :=
  (hk_gI [0] 21 s0 th).bind fun x1 =>
  some (x_in p1 (0 : Int32) (x1 - (1 : Int32)))
abbrev N_x_isBody (l : Launch) : hk_N := (l, cX0_isBody, "HeadReckons", 2, (some .boolean), 1, 22, false)
set_option maxHeartbeats 4000000 in
theorem wk_x_isBody {l : Launch} {Gd : hk_G} {th : Nat} {p1 : Int32} {s0 : hk_St} {r : Int32} (h : x_isBody th p1 s0 = some r) : hk_Met Gd l yX0_isBody cX0_isBody 2 (some .boolean) 1 22 [.ref th, .int p1] s0 (some (.int r)) s0 := by
  refine hk_start "HeadReckons" false (by decide +kernel) rfl (by decide) (Nat.le_of_ble_eq_true rfl) ?_
  show hk_V Gd (N_x_isBody l) (hk_end Gd s0 (some (.int r)) s0) 0 [(0, .ref th), (1, .int p1)] [] s0
  unfold x_isBody at h
  refine hv_iload_n 1 dX0_isBody_0 rfl rfl ?_
  refine hv_iconst (v := 0) dX0_isBody_1 (by decide) ?_
  refine hv_aload_n 0 dX0_isBody_2 rfl rfl ?_
  obtain ⟨x1, e_x1, h⟩ := hq_ob h
  refine hv_getI fl_X0_362 e_x1 dX0_isBody_3 ?_
  refine hv_iconst (v := 1) dX0_isBody_6 (by decide) ?_
  refine hv_isub dX0_isBody_7 ?_
  refine hv_callS [.int p1, .int (0 : Int32), .int (x1 - (1 : Int32))] [] [.int (x_in p1 (0 : Int32) (x1 - (1 : Int32)))] (wk_x_in rfl) cs_X0_73 rfl ⟨Nat.le_of_ble_eq_true rfl, Nat.le_of_ble_eq_true rfl⟩ rfl (Nat.le_of_ble_eq_true rfl) rfl dX0_isBody_8 ?_
  have h := Option.some.inj h
  subst h
  exact hv_zret (ty := .boolean) rfl (hk_nz bz_x_in) dX0_isBody_11
def x_ran (th : Nat) (p1 : Int32) (s0 : hk_St) : Option hk_St :=
  (hk_gI [0] 18 s0 th).bind fun x1 =>
  if (24 : Int32) ≤ x1 then
    (hk_gI [0] 18 s0 th).bind fun x3 =>
    (hk_pI [0] 18 s0 th (x3 + (1 : Int32))).bind fun s4 =>
    some s4
  else
  (hk_gR [0] 19 s0 th).bind fun x5 =>
  (hk_gI [0] 18 s0 th).bind fun x6 =>
  hk_nn x5 fun a7 =>
  (hk_tI 1 s0 a7 x6 p1.toInt8.toInt32).bind fun s8 =>
  (hk_gI [0] 18 s8 th).bind fun x9 =>
  (hk_pI [0] 18 s8 th (x9 + (1 : Int32))).bind fun s10 =>
  some s10
abbrev N_x_ran (l : Launch) : hk_N := (l, cX0_ran, "HeadReckons", 2, none, 0, 0, false)
set_option maxHeartbeats 4000000 in
theorem wk_x_ran {l : Launch} {Gd : hk_G} {th : Nat} {p1 : Int32} {s0 : hk_St} {fin : hk_St} (h : x_ran th p1 s0 = some fin) : hk_Met Gd l yX0_ran cX0_ran 2 none 0 0 [.ref th, .int p1] s0 none fin := by
  refine hk_start "HeadReckons" false (by decide +kernel) rfl (by decide) (Nat.le_of_ble_eq_true rfl) ?_
  show hk_V Gd (N_x_ran l) (hk_end Gd s0 none fin) 0 [(0, .ref th), (1, .int p1)] [] s0
  unfold x_ran at h
  refine hv_aload_n 0 dX0_ran_0 rfl rfl ?_
  obtain ⟨x1, e_x1, h⟩ := hq_ob h
  refine hv_getI fl_X0_359 e_x1 dX0_ran_1 ?_
  refine hv_bipush (v := 24) dX0_ran_4 (by decide) ?_
  refine hv_icmp_ge (tgt := 20) dX0_ran_6 (by decide) (fun c2 => ?_) (fun c2 => ?_)
  · replace h := hq_ip c2 h
    refine hv_aload_n 0 dX0_ran_20 rfl rfl ?_
    refine hv_dup dX0_ran_21 rfl ?_
    obtain ⟨x3, e_x3, h⟩ := hq_ob h
    refine hv_getI fl_X0_359 e_x3 dX0_ran_22 ?_
    refine hv_iconst (v := 1) dX0_ran_25 (by decide) ?_
    refine hv_iadd dX0_ran_26 ?_
    obtain ⟨s4, e_s4, h⟩ := hq_ob h
    refine hv_putI fp_X0_359 e_s4 (fun q => by cases q) dX0_ran_27 ?_
    have h := Option.some.inj h
    subst h
    exact hv_vret rfl dX0_ran_30
  · replace h := hq_in c2 h
    refine hv_aload_n 0 dX0_ran_9 rfl rfl ?_
    obtain ⟨x5, e_x5, h⟩ := hq_ob h
    refine hv_getR fl_X0_56 e_x5 dX0_ran_10 ?_
    refine hv_aload_n 0 dX0_ran_13 rfl rfl ?_
    obtain ⟨x6, e_x6, h⟩ := hq_ob h
    refine hv_getI fl_X0_359 e_x6 dX0_ran_14 ?_
    refine hv_iload_n 1 dX0_ran_17 rfl rfl ?_
    refine hv_i2b dX0_ran_18 ?_
    obtain ⟨a7, e_a7, h⟩ := hq_nn h
    rw [e_a7]
    obtain ⟨s8, e_s8, h⟩ := hq_ob h
    refine hv_bast e_s8 dX0_ran_19 ?_
    refine hv_aload_n 0 dX0_ran_20 rfl rfl ?_
    refine hv_dup dX0_ran_21 rfl ?_
    obtain ⟨x9, e_x9, h⟩ := hq_ob h
    refine hv_getI fl_X0_359 e_x9 dX0_ran_22 ?_
    refine hv_iconst (v := 1) dX0_ran_25 (by decide) ?_
    refine hv_iadd dX0_ran_26 ?_
    obtain ⟨s10, e_s10, h⟩ := hq_ob h
    refine hv_putI fp_X0_359 e_s10 (fun q => by cases q) dX0_ran_27 ?_
    have h := Option.some.inj h
    subst h
    exact hv_vret rfl dX0_ran_30
def xWay_costs (th : Nat) (p1 : Int32) (s0 : hk_St) : Option (Int32 × hk_St) :=
  (hk_gR [15, 16, 17, 18, 19, 20, 21, 22] 1501 s0 th).bind fun x1 =>
  hk_nn x1 fun a2 =>
  (x_ran a2 (1 : Int32) s0).bind fun s3 =>
  hk_gd (hk_bf [0] s0 a2) <|
  (hk_gI [15, 16, 17, 18, 19, 20, 21, 22] 1500 s3 th).bind fun x5 =>
  some (p1 + x5, s3)
abbrev N_xWay_costs (l : Launch) : hk_N := (l, cX17_costs, "HeadReckons$Way", 2, (some .int), 1, 21, false)
set_option maxHeartbeats 4000000 in
theorem wk_xWay_costs {l : Launch} {Gd : hk_G} {th : Nat} {p1 : Int32} {s0 : hk_St} {r : Int32} {fin : hk_St} (h : xWay_costs th p1 s0 = some (r, fin)) : hk_Met Gd l yX17_costs cX17_costs 2 (some .int) 1 21 [.ref th, .int p1] s0 (some (.int r)) fin := by
  refine hk_start "HeadReckons$Way" false (by decide +kernel) rfl (by decide) (Nat.le_of_ble_eq_true rfl) ?_
  show hk_V Gd (N_xWay_costs l) (hk_end Gd s0 (some (.int r)) fin) 0 [(0, .ref th), (1, .int p1)] [] s0
  unfold xWay_costs at h
  refine hv_aload_n 0 dX17_costs_0 rfl rfl ?_
  obtain ⟨x1, e_x1, h⟩ := hq_ob h
  refine hv_getR fl_X17_3 e_x1 dX17_costs_1 ?_
  refine hv_iconst (v := 1) dX17_costs_4 (by decide) ?_
  obtain ⟨a2, e_a2, h⟩ := hq_nn h
  rw [e_a2]
  obtain ⟨s3, e_s3, h⟩ := hq_ob h
  obtain ⟨g4, h⟩ := hq_gd h
  refine hv_callVN [.int (1 : Int32)] [] [] (wk_x_ran e_s3) cs_X17_23 g4 rfl ⟨Nat.le_of_ble_eq_true rfl, Nat.le_of_ble_eq_true rfl⟩ rfl (Nat.le_of_ble_eq_true rfl) rfl dX17_costs_5 ?_
  refine hv_iload_n 1 dX17_costs_8 rfl rfl ?_
  refine hv_aload_n 0 dX17_costs_9 rfl rfl ?_
  obtain ⟨x5, e_x5, h⟩ := hq_ob h
  refine hv_getI fl_X17_15 e_x5 dX17_costs_10 ?_
  refine hv_iadd dX17_costs_13 ?_
  obtain ⟨h1, h2⟩ := hq_ret h
  subst h1
  subst h2
  exact hv_iret rfl dX17_costs_14
def xFromLeft_costs (th : Nat) (p1 : Int32) (s0 : hk_St) : Option (Int32 × hk_St) :=
  (hk_gR [16, 20] 1600 s0 th).bind fun x1 =>
  hk_nn x1 fun a2 =>
  (x_ran a2 (20 : Int32) s0).bind fun s3 =>
  hk_gd (hk_bf [0] s0 a2) <|
  hk_gd (hk_bf [16, 20] s3 th) <|
  (xWay_costs th p1 s3).bind fun q5 =>
  some (q5.1 + (3 : Int32), q5.2)
abbrev N_xFromLeft_costs (l : Launch) : hk_N := (l, cX18_costs, "HeadReckons$FromLeft", 2, (some .int), 2, 42, false)
set_option maxHeartbeats 4000000 in
theorem wk_xFromLeft_costs {l : Launch} {Gd : hk_G} {th : Nat} {p1 : Int32} {s0 : hk_St} {r : Int32} {fin : hk_St} (h : xFromLeft_costs th p1 s0 = some (r, fin)) : hk_Met Gd l yX18_costs cX18_costs 2 (some .int) 2 42 [.ref th, .int p1] s0 (some (.int r)) fin := by
  refine hk_start "HeadReckons$FromLeft" false (by decide +kernel) rfl (by decide) (Nat.le_of_ble_eq_true rfl) ?_
  show hk_V Gd (N_xFromLeft_costs l) (hk_end Gd s0 (some (.int r)) fin) 0 [(0, .ref th), (1, .int p1)] [] s0
  unfold xFromLeft_costs at h
  refine hv_aload_n 0 dX18_costs_0 rfl rfl ?_
  obtain ⟨x1, e_x1, h⟩ := hq_ob h
  refine hv_getR fl_X18_1 e_x1 dX18_costs_1 ?_
  refine hv_bipush (v := 20) dX18_costs_4 (by decide) ?_
  obtain ⟨a2, e_a2, h⟩ := hq_nn h
  rw [e_a2]
  obtain ⟨s3, e_s3, h⟩ := hq_ob h
  obtain ⟨g4, h⟩ := hq_gd h
  refine hv_callVN [.int (20 : Int32)] [] [] (wk_x_ran e_s3) cs_X18_17 g4 rfl ⟨Nat.le_of_ble_eq_true rfl, Nat.le_of_ble_eq_true rfl⟩ rfl (Nat.le_of_ble_eq_true rfl) rfl dX18_costs_6 ?_
  refine hv_aload_n 0 dX18_costs_9 rfl rfl ?_
  refine hv_iload_n 1 dX18_costs_10 rfl rfl ?_
  obtain ⟨g6, h⟩ := hq_gd h
  obtain ⟨q5, e_q5, h⟩ := hq_ob h
  refine hv_callSU [.int p1] [] [.int q5.1] (wk_xWay_costs e_q5) cs_X18_23 [16, 20] (by decide) g6 rfl ⟨Nat.le_of_ble_eq_true rfl, Nat.le_of_ble_eq_true rfl⟩ rfl (Nat.le_of_ble_eq_true rfl) rfl dX18_costs_11 ?_
  refine hv_iconst (v := 3) dX18_costs_14 (by decide) ?_
  refine hv_iadd dX18_costs_15 ?_
  obtain ⟨h1, h2⟩ := hq_ret h
  subst h1
  subst h2
  exact hv_iret rfl dX18_costs_16
def xByFactors_costs (th : Nat) (p1 : Int32) (s0 : hk_St) : Option (Int32 × hk_St) :=
  (hk_gR [20] 2000 s0 th).bind fun x1 =>
  hk_nn x1 fun a2 =>
  (x_ran a2 (60 : Int32) s0).bind fun s3 =>
  hk_gd (hk_bf [0] s0 a2) <|
  hk_gd (hk_bf [20] s3 th) <|
  (xFromLeft_costs th (p1 + (1 : Int32)) s3).bind fun q5 =>
  some (q5.1, q5.2)
abbrev N_xByFactors_costs (l : Launch) : hk_N := (l, cX22_costs, "HeadReckons$ByFactors", 2, (some .int), 3, 63, false)
set_option maxHeartbeats 4000000 in
theorem wk_xByFactors_costs {l : Launch} {Gd : hk_G} {th : Nat} {p1 : Int32} {s0 : hk_St} {r : Int32} {fin : hk_St} (h : xByFactors_costs th p1 s0 = some (r, fin)) : hk_Met Gd l yX22_costs cX22_costs 2 (some .int) 3 63 [.ref th, .int p1] s0 (some (.int r)) fin := by
  refine hk_start "HeadReckons$ByFactors" false (by decide +kernel) rfl (by decide) (Nat.le_of_ble_eq_true rfl) ?_
  show hk_V Gd (N_xByFactors_costs l) (hk_end Gd s0 (some (.int r)) fin) 0 [(0, .ref th), (1, .int p1)] [] s0
  unfold xByFactors_costs at h
  refine hv_aload_n 0 dX22_costs_0 rfl rfl ?_
  obtain ⟨x1, e_x1, h⟩ := hq_ob h
  refine hv_getR fl_X22_1 e_x1 dX22_costs_1 ?_
  refine hv_bipush (v := 60) dX22_costs_4 (by decide) ?_
  obtain ⟨a2, e_a2, h⟩ := hq_nn h
  rw [e_a2]
  obtain ⟨s3, e_s3, h⟩ := hq_ob h
  obtain ⟨g4, h⟩ := hq_gd h
  refine hv_callVN [.int (60 : Int32)] [] [] (wk_x_ran e_s3) cs_X22_13 g4 rfl ⟨Nat.le_of_ble_eq_true rfl, Nat.le_of_ble_eq_true rfl⟩ rfl (Nat.le_of_ble_eq_true rfl) rfl dX22_costs_6 ?_
  refine hv_aload_n 0 dX22_costs_9 rfl rfl ?_
  refine hv_iload_n 1 dX22_costs_10 rfl rfl ?_
  refine hv_iconst (v := 1) dX22_costs_11 (by decide) ?_
  refine hv_iadd dX22_costs_12 ?_
  obtain ⟨g6, h⟩ := hq_gd h
  obtain ⟨q5, e_q5, h⟩ := hq_ob h
  refine hv_callSU [.int (p1 + (1 : Int32))] [] [.int q5.1] (wk_xFromLeft_costs e_q5) cs_X22_19 [20] (by decide) g6 rfl ⟨Nat.le_of_ble_eq_true rfl, Nat.le_of_ble_eq_true rfl⟩ rfl (Nat.le_of_ble_eq_true rfl) rfl dX22_costs_13 ?_
  obtain ⟨h1, h2⟩ := hq_ret h
  subst h1
  subst h2
  exact hv_iret rfl dX22_costs_16

def xv_costs (b : Nat) (x : Int32) (s : hk_St) : Option (Int32 × hk_St) :=
  if hk_bf [15] s b = true then xWay_costs b x s else
  if hk_bf [16] s b = true then xFromLeft_costs b x s else
  if hk_bf [17] s b = true then xWay_costs b x s else
  if hk_bf [18] s b = true then xWay_costs b x s else
  if hk_bf [19] s b = true then xWay_costs b x s else
  if hk_bf [20] s b = true then xByFactors_costs b x s else
  if hk_bf [21] s b = true then xWay_costs b x s else
  if hk_bf [22] s b = true then xWay_costs b x s else
  none
theorem wd_costs {l : Launch} {Gd : hk_G} {b : Nat} {x : Int32} {s : hk_St} {r : Int32} {z : hk_St} (h : xv_costs b x s = some (r, z)) : hk_Dm vi_costs (some .int) Gd l 6 200 b [.int x] s (some (.int r)) z := by
  unfold xv_costs at h
  by_cases c0 : hk_bf [15] s b = true
  · replace h := hq_ip c0 h
    exact ⟨(15, yX17_costs, cX17_costs, 2), List.mem_of_getElem? (i := 0) rfl, c0, 1, 21, wk_xWay_costs h, by decide, by decide⟩
  replace h := hq_in c0 h
  by_cases c1 : hk_bf [16] s b = true
  · replace h := hq_ip c1 h
    exact ⟨(16, yX18_costs, cX18_costs, 2), List.mem_of_getElem? (i := 1) rfl, c1, 2, 42, wk_xFromLeft_costs h, by decide, by decide⟩
  replace h := hq_in c1 h
  by_cases c2 : hk_bf [17] s b = true
  · replace h := hq_ip c2 h
    exact ⟨(17, yX17_costs, cX17_costs, 2), List.mem_of_getElem? (i := 2) rfl, c2, 1, 21, wk_xWay_costs h, by decide, by decide⟩
  replace h := hq_in c2 h
  by_cases c3 : hk_bf [18] s b = true
  · replace h := hq_ip c3 h
    exact ⟨(18, yX17_costs, cX17_costs, 2), List.mem_of_getElem? (i := 3) rfl, c3, 1, 21, wk_xWay_costs h, by decide, by decide⟩
  replace h := hq_in c3 h
  by_cases c4 : hk_bf [19] s b = true
  · replace h := hq_ip c4 h
    exact ⟨(19, yX17_costs, cX17_costs, 2), List.mem_of_getElem? (i := 4) rfl, c4, 1, 21, wk_xWay_costs h, by decide, by decide⟩
  replace h := hq_in c4 h
  by_cases c5 : hk_bf [20] s b = true
  · replace h := hq_ip c5 h
    exact ⟨(20, yX22_costs, cX22_costs, 2), List.mem_of_getElem? (i := 5) rfl, c5, 3, 63, wk_xByFactors_costs h, by decide, by decide⟩
  replace h := hq_in c5 h
  by_cases c6 : hk_bf [21] s b = true
  · replace h := hq_ip c6 h
    exact ⟨(21, yX17_costs, cX17_costs, 2), List.mem_of_getElem? (i := 6) rfl, c6, 1, 21, wk_xWay_costs h, by decide, by decide⟩
  replace h := hq_in c6 h
  by_cases c7 : hk_bf [22] s b = true
  · replace h := hq_ip c7 h
    exact ⟨(22, yX17_costs, cX17_costs, 2), List.mem_of_getElem? (i := 7) rfl, c7, 1, 21, wk_xWay_costs h, by decide, by decide⟩
  replace h := hq_in c7 h
  cases h
def xWay_keeps (th : Nat) (p1 : Int32) (s0 : hk_St) : Option (Int32 × hk_St) :=
  (hk_gR [15, 16, 17, 18, 19, 20, 21, 22] 1501 s0 th).bind fun x1 =>
  hk_nn x1 fun a2 =>
  (x_ran a2 (10 : Int32) s0).bind fun s3 =>
  hk_gd (hk_bf [0] s0 a2) <|
  (xv_costs th p1 s3).bind fun q5 =>
  some (q5.1 * (2 : Int32), q5.2)
abbrev N_xWay_keeps (l : Launch) : hk_N := (l, cX17_keeps, "HeadReckons$Way", 2, (some .int), 7, 219, false)
set_option maxHeartbeats 4000000 in
theorem wk_xWay_keeps {l : Launch} {Gd : hk_G} {th : Nat} {p1 : Int32} {s0 : hk_St} {r : Int32} {fin : hk_St} (h : xWay_keeps th p1 s0 = some (r, fin)) : hk_Met Gd l yX17_keeps cX17_keeps 2 (some .int) 7 219 [.ref th, .int p1] s0 (some (.int r)) fin := by
  refine hk_start "HeadReckons$Way" false (by decide +kernel) rfl (by decide) (Nat.le_of_ble_eq_true rfl) ?_
  show hk_V Gd (N_xWay_keeps l) (hk_end Gd s0 (some (.int r)) fin) 0 [(0, .ref th), (1, .int p1)] [] s0
  unfold xWay_keeps at h
  refine hv_aload_n 0 dX17_keeps_0 rfl rfl ?_
  obtain ⟨x1, e_x1, h⟩ := hq_ob h
  refine hv_getR fl_X17_3 e_x1 dX17_keeps_1 ?_
  refine hv_bipush (v := 10) dX17_keeps_4 (by decide) ?_
  obtain ⟨a2, e_a2, h⟩ := hq_nn h
  rw [e_a2]
  obtain ⟨s3, e_s3, h⟩ := hq_ob h
  obtain ⟨g4, h⟩ := hq_gd h
  refine hv_callVN [.int (10 : Int32)] [] [] (wk_x_ran e_s3) cs_X17_23 g4 rfl ⟨Nat.le_of_ble_eq_true rfl, Nat.le_of_ble_eq_true rfl⟩ rfl (Nat.le_of_ble_eq_true rfl) rfl dX17_keeps_6 ?_
  refine hv_aload_n 0 dX17_keeps_9 rfl rfl ?_
  refine hv_iload_n 1 dX17_keeps_10 rfl rfl ?_
  obtain ⟨q5, e_q5, h⟩ := hq_ob h
  refine hv_callD [.int p1] [] [.int q5.1] (wd_costs e_q5) cd_X17_27 rfl ⟨Nat.le_of_ble_eq_true rfl, Nat.le_of_ble_eq_true rfl⟩ rfl (Nat.le_of_ble_eq_true rfl) rfl dX17_keeps_11 ?_
  refine hv_iconst (v := 2) dX17_keeps_14 (by decide) ?_
  refine hv_imul dX17_keeps_15 ?_
  obtain ⟨h1, h2⟩ := hq_ret h
  subst h1
  subst h2
  exact hv_iret rfl dX17_keeps_16
def xWay_slips (th : Nat) (p1 : Int32) (s0 : hk_St) : Option (Int32 × hk_St) :=
  (hk_gR [15, 16, 17, 18, 19, 20, 21, 22] 1501 s0 th).bind fun x1 =>
  hk_nn x1 fun a2 =>
  (x_ran a2 (11 : Int32) s0).bind fun s3 =>
  hk_gd (hk_bf [0] s0 a2) <|
  (hk_gI [15, 16, 17, 18, 19, 20, 21, 22] 1500 s3 th).bind fun x5 =>
  some (p1 ^^^ x5, s3)
abbrev N_xWay_slips (l : Launch) : hk_N := (l, cX17_slips, "HeadReckons$Way", 2, (some .int), 1, 21, false)
set_option maxHeartbeats 4000000 in
theorem wk_xWay_slips {l : Launch} {Gd : hk_G} {th : Nat} {p1 : Int32} {s0 : hk_St} {r : Int32} {fin : hk_St} (h : xWay_slips th p1 s0 = some (r, fin)) : hk_Met Gd l yX17_slips cX17_slips 2 (some .int) 1 21 [.ref th, .int p1] s0 (some (.int r)) fin := by
  refine hk_start "HeadReckons$Way" false (by decide +kernel) rfl (by decide) (Nat.le_of_ble_eq_true rfl) ?_
  show hk_V Gd (N_xWay_slips l) (hk_end Gd s0 (some (.int r)) fin) 0 [(0, .ref th), (1, .int p1)] [] s0
  unfold xWay_slips at h
  refine hv_aload_n 0 dX17_slips_0 rfl rfl ?_
  obtain ⟨x1, e_x1, h⟩ := hq_ob h
  refine hv_getR fl_X17_3 e_x1 dX17_slips_1 ?_
  refine hv_bipush (v := 11) dX17_slips_4 (by decide) ?_
  obtain ⟨a2, e_a2, h⟩ := hq_nn h
  rw [e_a2]
  obtain ⟨s3, e_s3, h⟩ := hq_ob h
  obtain ⟨g4, h⟩ := hq_gd h
  refine hv_callVN [.int (11 : Int32)] [] [] (wk_x_ran e_s3) cs_X17_23 g4 rfl ⟨Nat.le_of_ble_eq_true rfl, Nat.le_of_ble_eq_true rfl⟩ rfl (Nat.le_of_ble_eq_true rfl) rfl dX17_slips_6 ?_
  refine hv_iload_n 1 dX17_slips_9 rfl rfl ?_
  refine hv_aload_n 0 dX17_slips_10 rfl rfl ?_
  obtain ⟨x5, e_x5, h⟩ := hq_ob h
  refine hv_getI fl_X17_15 e_x5 dX17_slips_11 ?_
  refine hv_ixor dX17_slips_14 ?_
  obtain ⟨h1, h2⟩ := hq_ret h
  subst h1
  subst h2
  exact hv_iret rfl dX17_slips_15
def xFromRight_keeps (th : Nat) (p1 : Int32) (s0 : hk_St) : Option (Int32 × hk_St) :=
  (hk_gR [17, 18] 1700 s0 th).bind fun x1 =>
  hk_nn x1 fun a2 =>
  (x_ran a2 (30 : Int32) s0).bind fun s3 =>
  hk_gd (hk_bf [0] s0 a2) <|
  hk_gd (hk_bf [17, 18] s3 th) <|
  (xWay_keeps th p1 s3).bind fun q5 =>
  some (-q5.1, q5.2)
abbrev N_xFromRight_keeps (l : Launch) : hk_N := (l, cX19_keeps, "HeadReckons$FromRight", 2, (some .int), 8, 240, false)
set_option maxHeartbeats 4000000 in
theorem wk_xFromRight_keeps {l : Launch} {Gd : hk_G} {th : Nat} {p1 : Int32} {s0 : hk_St} {r : Int32} {fin : hk_St} (h : xFromRight_keeps th p1 s0 = some (r, fin)) : hk_Met Gd l yX19_keeps cX19_keeps 2 (some .int) 8 240 [.ref th, .int p1] s0 (some (.int r)) fin := by
  refine hk_start "HeadReckons$FromRight" false (by decide +kernel) rfl (by decide) (Nat.le_of_ble_eq_true rfl) ?_
  show hk_V Gd (N_xFromRight_keeps l) (hk_end Gd s0 (some (.int r)) fin) 0 [(0, .ref th), (1, .int p1)] [] s0
  unfold xFromRight_keeps at h
  refine hv_aload_n 0 dX19_keeps_0 rfl rfl ?_
  obtain ⟨x1, e_x1, h⟩ := hq_ob h
  refine hv_getR fl_X19_1 e_x1 dX19_keeps_1 ?_
  refine hv_bipush (v := 30) dX19_keeps_4 (by decide) ?_
  obtain ⟨a2, e_a2, h⟩ := hq_nn h
  rw [e_a2]
  obtain ⟨s3, e_s3, h⟩ := hq_ob h
  obtain ⟨g4, h⟩ := hq_gd h
  refine hv_callVN [.int (30 : Int32)] [] [] (wk_x_ran e_s3) cs_X19_17 g4 rfl ⟨Nat.le_of_ble_eq_true rfl, Nat.le_of_ble_eq_true rfl⟩ rfl (Nat.le_of_ble_eq_true rfl) rfl dX19_keeps_6 ?_
  refine hv_aload_n 0 dX19_keeps_9 rfl rfl ?_
  refine hv_iload_n 1 dX19_keeps_10 rfl rfl ?_
  obtain ⟨g6, h⟩ := hq_gd h
  obtain ⟨q5, e_q5, h⟩ := hq_ob h
  refine hv_callSU [.int p1] [] [.int q5.1] (wk_xWay_keeps e_q5) cs_X19_23 [17, 18] (by decide) g6 rfl ⟨Nat.le_of_ble_eq_true rfl, Nat.le_of_ble_eq_true rfl⟩ rfl (Nat.le_of_ble_eq_true rfl) rfl dX19_keeps_11 ?_
  refine hv_ineg dX19_keeps_14 ?_
  obtain ⟨h1, h2⟩ := hq_ret h
  subst h1
  subst h2
  exact hv_iret rfl dX19_keeps_15
def xRooted_keeps (th : Nat) (p1 : Int32) (s0 : hk_St) : Option (Int32 × hk_St) :=
  (hk_gR [22] 2200 s0 th).bind fun x1 =>
  hk_nn x1 fun a2 =>
  (x_ran a2 (80 : Int32) s0).bind fun s3 =>
  hk_gd (hk_bf [0] s0 a2) <|
  hk_gd (hk_bf [22] s3 th) <|
  (xWay_keeps th p1 s3).bind fun q5 =>
  some (q5.1 * (2 : Int32), q5.2)
abbrev N_xRooted_keeps (l : Launch) : hk_N := (l, cX24_keeps, "HeadReckons$Rooted", 2, (some .int), 8, 240, false)
set_option maxHeartbeats 4000000 in
theorem wk_xRooted_keeps {l : Launch} {Gd : hk_G} {th : Nat} {p1 : Int32} {s0 : hk_St} {r : Int32} {fin : hk_St} (h : xRooted_keeps th p1 s0 = some (r, fin)) : hk_Met Gd l yX24_keeps cX24_keeps 2 (some .int) 8 240 [.ref th, .int p1] s0 (some (.int r)) fin := by
  refine hk_start "HeadReckons$Rooted" false (by decide +kernel) rfl (by decide) (Nat.le_of_ble_eq_true rfl) ?_
  show hk_V Gd (N_xRooted_keeps l) (hk_end Gd s0 (some (.int r)) fin) 0 [(0, .ref th), (1, .int p1)] [] s0
  unfold xRooted_keeps at h
  refine hv_aload_n 0 dX24_keeps_0 rfl rfl ?_
  obtain ⟨x1, e_x1, h⟩ := hq_ob h
  refine hv_getR fl_X24_1 e_x1 dX24_keeps_1 ?_
  refine hv_bipush (v := 80) dX24_keeps_4 (by decide) ?_
  obtain ⟨a2, e_a2, h⟩ := hq_nn h
  rw [e_a2]
  obtain ⟨s3, e_s3, h⟩ := hq_ob h
  obtain ⟨g4, h⟩ := hq_gd h
  refine hv_callVN [.int (80 : Int32)] [] [] (wk_x_ran e_s3) cs_X24_13 g4 rfl ⟨Nat.le_of_ble_eq_true rfl, Nat.le_of_ble_eq_true rfl⟩ rfl (Nat.le_of_ble_eq_true rfl) rfl dX24_keeps_6 ?_
  refine hv_aload_n 0 dX24_keeps_9 rfl rfl ?_
  refine hv_iload_n 1 dX24_keeps_10 rfl rfl ?_
  obtain ⟨g6, h⟩ := hq_gd h
  obtain ⟨q5, e_q5, h⟩ := hq_ob h
  refine hv_callSI [.int p1] [] [.int q5.1] (wk_xWay_keeps e_q5) cs_X24_19 [22] (by decide) g6 rfl ⟨Nat.le_of_ble_eq_true rfl, Nat.le_of_ble_eq_true rfl⟩ rfl (Nat.le_of_ble_eq_true rfl) rfl dX24_keeps_11 ?_
  refine hv_iconst (v := 2) dX24_keeps_14 (by decide) ?_
  refine hv_imul dX24_keeps_15 ?_
  obtain ⟨h1, h2⟩ := hq_ret h
  subst h1
  subst h2
  exact hv_iret rfl dX24_keeps_16

def xv_keeps (b : Nat) (x : Int32) (s : hk_St) : Option (Int32 × hk_St) :=
  if hk_bf [15] s b = true then xWay_keeps b x s else
  if hk_bf [16] s b = true then xWay_keeps b x s else
  if hk_bf [17] s b = true then xFromRight_keeps b x s else
  if hk_bf [18] s b = true then xFromRight_keeps b x s else
  if hk_bf [19] s b = true then xWay_keeps b x s else
  if hk_bf [20] s b = true then xWay_keeps b x s else
  if hk_bf [21] s b = true then xWay_keeps b x s else
  if hk_bf [22] s b = true then xRooted_keeps b x s else
  none
theorem wd_keeps {l : Launch} {Gd : hk_G} {b : Nat} {x : Int32} {s : hk_St} {r : Int32} {z : hk_St} (h : xv_keeps b x s = some (r, z)) : hk_Dm vi_keeps (some .int) Gd l 12 400 b [.int x] s (some (.int r)) z := by
  unfold xv_keeps at h
  by_cases c0 : hk_bf [15] s b = true
  · replace h := hq_ip c0 h
    exact ⟨(15, yX17_keeps, cX17_keeps, 2), List.mem_of_getElem? (i := 0) rfl, c0, 7, 219, wk_xWay_keeps h, by decide, by decide⟩
  replace h := hq_in c0 h
  by_cases c1 : hk_bf [16] s b = true
  · replace h := hq_ip c1 h
    exact ⟨(16, yX17_keeps, cX17_keeps, 2), List.mem_of_getElem? (i := 1) rfl, c1, 7, 219, wk_xWay_keeps h, by decide, by decide⟩
  replace h := hq_in c1 h
  by_cases c2 : hk_bf [17] s b = true
  · replace h := hq_ip c2 h
    exact ⟨(17, yX19_keeps, cX19_keeps, 2), List.mem_of_getElem? (i := 2) rfl, c2, 8, 240, wk_xFromRight_keeps h, by decide, by decide⟩
  replace h := hq_in c2 h
  by_cases c3 : hk_bf [18] s b = true
  · replace h := hq_ip c3 h
    exact ⟨(18, yX19_keeps, cX19_keeps, 2), List.mem_of_getElem? (i := 3) rfl, c3, 8, 240, wk_xFromRight_keeps h, by decide, by decide⟩
  replace h := hq_in c3 h
  by_cases c4 : hk_bf [19] s b = true
  · replace h := hq_ip c4 h
    exact ⟨(19, yX17_keeps, cX17_keeps, 2), List.mem_of_getElem? (i := 4) rfl, c4, 7, 219, wk_xWay_keeps h, by decide, by decide⟩
  replace h := hq_in c4 h
  by_cases c5 : hk_bf [20] s b = true
  · replace h := hq_ip c5 h
    exact ⟨(20, yX17_keeps, cX17_keeps, 2), List.mem_of_getElem? (i := 5) rfl, c5, 7, 219, wk_xWay_keeps h, by decide, by decide⟩
  replace h := hq_in c5 h
  by_cases c6 : hk_bf [21] s b = true
  · replace h := hq_ip c6 h
    exact ⟨(21, yX17_keeps, cX17_keeps, 2), List.mem_of_getElem? (i := 6) rfl, c6, 7, 219, wk_xWay_keeps h, by decide, by decide⟩
  replace h := hq_in c6 h
  by_cases c7 : hk_bf [22] s b = true
  · replace h := hq_ip c7 h
    exact ⟨(22, yX24_keeps, cX24_keeps, 2), List.mem_of_getElem? (i := 7) rfl, c7, 8, 240, wk_xRooted_keeps h, by decide, by decide⟩
  replace h := hq_in c7 h
  cases h
def xCrosswise_slips (th : Nat) (p1 : Int32) (s0 : hk_St) : Option (Int32 × hk_St) :=
  (hk_gR [18] 1800 s0 th).bind fun x1 =>
  hk_nn x1 fun a2 =>
  (x_ran a2 (40 : Int32) s0).bind fun s3 =>
  hk_gd (hk_bf [0] s0 a2) <|
  hk_gd (hk_bf [18] s3 th) <|
  (xWay_slips th p1 s3).bind fun q5 =>
  some (q5.1 * (3 : Int32), q5.2)
abbrev N_xCrosswise_slips (l : Launch) : hk_N := (l, cX20_slips, "HeadReckons$Crosswise", 2, (some .int), 2, 42, false)
set_option maxHeartbeats 4000000 in
theorem wk_xCrosswise_slips {l : Launch} {Gd : hk_G} {th : Nat} {p1 : Int32} {s0 : hk_St} {r : Int32} {fin : hk_St} (h : xCrosswise_slips th p1 s0 = some (r, fin)) : hk_Met Gd l yX20_slips cX20_slips 2 (some .int) 2 42 [.ref th, .int p1] s0 (some (.int r)) fin := by
  refine hk_start "HeadReckons$Crosswise" false (by decide +kernel) rfl (by decide) (Nat.le_of_ble_eq_true rfl) ?_
  show hk_V Gd (N_xCrosswise_slips l) (hk_end Gd s0 (some (.int r)) fin) 0 [(0, .ref th), (1, .int p1)] [] s0
  unfold xCrosswise_slips at h
  refine hv_aload_n 0 dX20_slips_0 rfl rfl ?_
  obtain ⟨x1, e_x1, h⟩ := hq_ob h
  refine hv_getR fl_X20_1 e_x1 dX20_slips_1 ?_
  refine hv_bipush (v := 40) dX20_slips_4 (by decide) ?_
  obtain ⟨a2, e_a2, h⟩ := hq_nn h
  rw [e_a2]
  obtain ⟨s3, e_s3, h⟩ := hq_ob h
  obtain ⟨g4, h⟩ := hq_gd h
  refine hv_callVN [.int (40 : Int32)] [] [] (wk_x_ran e_s3) cs_X20_13 g4 rfl ⟨Nat.le_of_ble_eq_true rfl, Nat.le_of_ble_eq_true rfl⟩ rfl (Nat.le_of_ble_eq_true rfl) rfl dX20_slips_6 ?_
  refine hv_aload_n 0 dX20_slips_9 rfl rfl ?_
  refine hv_iload_n 1 dX20_slips_10 rfl rfl ?_
  obtain ⟨g6, h⟩ := hq_gd h
  obtain ⟨q5, e_q5, h⟩ := hq_ob h
  refine hv_callSI [.int p1] [] [.int q5.1] (wk_xWay_slips e_q5) cs_X20_19 [18] (by decide) g6 rfl ⟨Nat.le_of_ble_eq_true rfl, Nat.le_of_ble_eq_true rfl⟩ rfl (Nat.le_of_ble_eq_true rfl) rfl dX20_slips_11 ?_
  refine hv_iconst (v := 3) dX20_slips_14 (by decide) ?_
  refine hv_imul dX20_slips_15 ?_
  obtain ⟨h1, h2⟩ := hq_ret h
  subst h1
  subst h2
  exact hv_iret rfl dX20_slips_16
def xByFactors_slips (th : Nat) (p1 : Int32) (s0 : hk_St) : Option (Int32 × hk_St) :=
  (hk_gR [20] 2000 s0 th).bind fun x1 =>
  hk_nn x1 fun a2 =>
  (x_ran a2 (61 : Int32) s0).bind fun s3 =>
  hk_gd (hk_bf [0] s0 a2) <|
  hk_gd (hk_bf [20] s3 th) <|
  (xWay_slips th p1 s3).bind fun q5 =>
  (xByFactors_costs th (2 : Int32) q5.2).bind fun q7 =>
  hk_gd (hk_bf [20] q5.2 th) <|
  some (q5.1 + q7.1, q7.2)
abbrev N_xByFactors_slips (l : Launch) : hk_N := (l, cX22_slips, "HeadReckons$ByFactors", 3, (some .int), 4, 84, false)
set_option maxHeartbeats 4000000 in
theorem wk_xByFactors_slips {l : Launch} {Gd : hk_G} {th : Nat} {p1 : Int32} {s0 : hk_St} {r : Int32} {fin : hk_St} (h : xByFactors_slips th p1 s0 = some (r, fin)) : hk_Met Gd l yX22_slips cX22_slips 3 (some .int) 4 84 [.ref th, .int p1] s0 (some (.int r)) fin := by
  refine hk_start "HeadReckons$ByFactors" false (by decide +kernel) rfl (by decide) (Nat.le_of_ble_eq_true rfl) ?_
  show hk_V Gd (N_xByFactors_slips l) (hk_end Gd s0 (some (.int r)) fin) 0 [(0, .ref th), (1, .int p1)] [] s0
  unfold xByFactors_slips at h
  refine hv_aload_n 0 dX22_slips_0 rfl rfl ?_
  obtain ⟨x1, e_x1, h⟩ := hq_ob h
  refine hv_getR fl_X22_1 e_x1 dX22_slips_1 ?_
  refine hv_bipush (v := 61) dX22_slips_4 (by decide) ?_
  obtain ⟨a2, e_a2, h⟩ := hq_nn h
  rw [e_a2]
  obtain ⟨s3, e_s3, h⟩ := hq_ob h
  obtain ⟨g4, h⟩ := hq_gd h
  refine hv_callVN [.int (61 : Int32)] [] [] (wk_x_ran e_s3) cs_X22_13 g4 rfl ⟨Nat.le_of_ble_eq_true rfl, Nat.le_of_ble_eq_true rfl⟩ rfl (Nat.le_of_ble_eq_true rfl) rfl dX22_slips_6 ?_
  refine hv_aload_n 0 dX22_slips_9 rfl rfl ?_
  refine hv_iload_n 1 dX22_slips_10 rfl rfl ?_
  obtain ⟨g6, h⟩ := hq_gd h
  obtain ⟨q5, e_q5, h⟩ := hq_ob h
  refine hv_callSI [.int p1] [] [.int q5.1] (wk_xWay_slips e_q5) cs_X22_23 [20] (by decide) g6 rfl ⟨Nat.le_of_ble_eq_true rfl, Nat.le_of_ble_eq_true rfl⟩ rfl (Nat.le_of_ble_eq_true rfl) rfl dX22_slips_11 ?_
  refine hv_istore_n (L' := [(2, .int q5.1), (0, .ref th), (1, .int p1)]) dX22_slips_14 rfl (Nat.le_of_ble_eq_true rfl) rfl ?_
  refine hv_iload_n 0 dX22_slips_15 rfl rfl ?_
  refine hv_aload_n 1 dX22_slips_16 rfl rfl ?_
  refine hv_iconst (v := 2) dX22_slips_17 (by decide) ?_
  obtain ⟨q7, e_q7, h⟩ := hq_ob h
  obtain ⟨g8, h⟩ := hq_gd h
  refine hv_callV [.int (2 : Int32)] [.int q5.1] [.int q7.1, .int q5.1] (wk_xByFactors_costs e_q7) cs_X22_26 g8 rfl ⟨Nat.le_of_ble_eq_true rfl, Nat.le_of_ble_eq_true rfl⟩ rfl (Nat.le_of_ble_eq_true rfl) rfl dX22_slips_18 ?_
  refine hv_iadd dX22_slips_21 ?_
  obtain ⟨h1, h2⟩ := hq_ret h
  subst h1
  subst h2
  exact hv_iret rfl dX22_slips_22
def xByHeart_slips (th : Nat) (p1 : Int32) (s0 : hk_St) : Option (Int32 × hk_St) :=
  (hk_gR [21, 22] 2100 s0 th).bind fun x1 =>
  hk_nn x1 fun a2 =>
  (x_ran a2 (70 : Int32) s0).bind fun s3 =>
  hk_gd (hk_bf [0] s0 a2) <|
  hk_gd (hk_bf [21, 22] s3 th) <|
  (xWay_slips th p1 s3).bind fun q5 =>
  some (q5.1 - (1 : Int32), q5.2)
abbrev N_xByHeart_slips (l : Launch) : hk_N := (l, cX23_slips, "HeadReckons$ByHeart", 2, (some .int), 2, 42, false)
set_option maxHeartbeats 4000000 in
theorem wk_xByHeart_slips {l : Launch} {Gd : hk_G} {th : Nat} {p1 : Int32} {s0 : hk_St} {r : Int32} {fin : hk_St} (h : xByHeart_slips th p1 s0 = some (r, fin)) : hk_Met Gd l yX23_slips cX23_slips 2 (some .int) 2 42 [.ref th, .int p1] s0 (some (.int r)) fin := by
  refine hk_start "HeadReckons$ByHeart" false (by decide +kernel) rfl (by decide) (Nat.le_of_ble_eq_true rfl) ?_
  show hk_V Gd (N_xByHeart_slips l) (hk_end Gd s0 (some (.int r)) fin) 0 [(0, .ref th), (1, .int p1)] [] s0
  unfold xByHeart_slips at h
  refine hv_aload_n 0 dX23_slips_0 rfl rfl ?_
  obtain ⟨x1, e_x1, h⟩ := hq_ob h
  refine hv_getR fl_X23_1 e_x1 dX23_slips_1 ?_
  refine hv_bipush (v := 70) dX23_slips_4 (by decide) ?_
  obtain ⟨a2, e_a2, h⟩ := hq_nn h
  rw [e_a2]
  obtain ⟨s3, e_s3, h⟩ := hq_ob h
  obtain ⟨g4, h⟩ := hq_gd h
  refine hv_callVN [.int (70 : Int32)] [] [] (wk_x_ran e_s3) cs_X23_17 g4 rfl ⟨Nat.le_of_ble_eq_true rfl, Nat.le_of_ble_eq_true rfl⟩ rfl (Nat.le_of_ble_eq_true rfl) rfl dX23_slips_6 ?_
  refine hv_aload_n 0 dX23_slips_9 rfl rfl ?_
  refine hv_iload_n 1 dX23_slips_10 rfl rfl ?_
  obtain ⟨g6, h⟩ := hq_gd h
  obtain ⟨q5, e_q5, h⟩ := hq_ob h
  refine hv_callSU [.int p1] [] [.int q5.1] (wk_xWay_slips e_q5) cs_X23_23 [21, 22] (by decide) g6 rfl ⟨Nat.le_of_ble_eq_true rfl, Nat.le_of_ble_eq_true rfl⟩ rfl (Nat.le_of_ble_eq_true rfl) rfl dX23_slips_11 ?_
  refine hv_iconst (v := 1) dX23_slips_14 (by decide) ?_
  refine hv_isub dX23_slips_15 ?_
  obtain ⟨h1, h2⟩ := hq_ret h
  subst h1
  subst h2
  exact hv_iret rfl dX23_slips_16

def xv_slips (b : Nat) (x : Int32) (s : hk_St) : Option (Int32 × hk_St) :=
  if hk_bf [15] s b = true then xWay_slips b x s else
  if hk_bf [16] s b = true then xWay_slips b x s else
  if hk_bf [17] s b = true then xWay_slips b x s else
  if hk_bf [18] s b = true then xCrosswise_slips b x s else
  if hk_bf [19] s b = true then xWay_slips b x s else
  if hk_bf [20] s b = true then xByFactors_slips b x s else
  if hk_bf [21] s b = true then xByHeart_slips b x s else
  if hk_bf [22] s b = true then xByHeart_slips b x s else
  none
theorem wd_slips {l : Launch} {Gd : hk_G} {b : Nat} {x : Int32} {s : hk_St} {r : Int32} {z : hk_St} (h : xv_slips b x s = some (r, z)) : hk_Dm vi_slips (some .int) Gd l 12 400 b [.int x] s (some (.int r)) z := by
  unfold xv_slips at h
  by_cases c0 : hk_bf [15] s b = true
  · replace h := hq_ip c0 h
    exact ⟨(15, yX17_slips, cX17_slips, 2), List.mem_of_getElem? (i := 0) rfl, c0, 1, 21, wk_xWay_slips h, by decide, by decide⟩
  replace h := hq_in c0 h
  by_cases c1 : hk_bf [16] s b = true
  · replace h := hq_ip c1 h
    exact ⟨(16, yX17_slips, cX17_slips, 2), List.mem_of_getElem? (i := 1) rfl, c1, 1, 21, wk_xWay_slips h, by decide, by decide⟩
  replace h := hq_in c1 h
  by_cases c2 : hk_bf [17] s b = true
  · replace h := hq_ip c2 h
    exact ⟨(17, yX17_slips, cX17_slips, 2), List.mem_of_getElem? (i := 2) rfl, c2, 1, 21, wk_xWay_slips h, by decide, by decide⟩
  replace h := hq_in c2 h
  by_cases c3 : hk_bf [18] s b = true
  · replace h := hq_ip c3 h
    exact ⟨(18, yX20_slips, cX20_slips, 2), List.mem_of_getElem? (i := 3) rfl, c3, 2, 42, wk_xCrosswise_slips h, by decide, by decide⟩
  replace h := hq_in c3 h
  by_cases c4 : hk_bf [19] s b = true
  · replace h := hq_ip c4 h
    exact ⟨(19, yX17_slips, cX17_slips, 2), List.mem_of_getElem? (i := 4) rfl, c4, 1, 21, wk_xWay_slips h, by decide, by decide⟩
  replace h := hq_in c4 h
  by_cases c5 : hk_bf [20] s b = true
  · replace h := hq_ip c5 h
    exact ⟨(20, yX22_slips, cX22_slips, 3), List.mem_of_getElem? (i := 5) rfl, c5, 4, 84, wk_xByFactors_slips h, by decide, by decide⟩
  replace h := hq_in c5 h
  by_cases c6 : hk_bf [21] s b = true
  · replace h := hq_ip c6 h
    exact ⟨(21, yX23_slips, cX23_slips, 2), List.mem_of_getElem? (i := 6) rfl, c6, 2, 42, wk_xByHeart_slips h, by decide, by decide⟩
  replace h := hq_in c6 h
  by_cases c7 : hk_bf [22] s b = true
  · replace h := hq_ip c7 h
    exact ⟨(22, yX23_slips, cX23_slips, 2), List.mem_of_getElem? (i := 7) rfl, c7, 2, 42, wk_xByHeart_slips h, by decide, by decide⟩
  replace h := hq_in c7 h
  cases h
def xWay_tells (th : Nat) (p1 : Int32) (s0 : hk_St) : Option (Int32 × hk_St) :=
  (hk_gR [15, 16, 17, 18, 19, 20, 21, 22] 1501 s0 th).bind fun x1 =>
  hk_nn x1 fun a2 =>
  (x_ran a2 (2 : Int32) s0).bind fun s3 =>
  hk_gd (hk_bf [0] s0 a2) <|
  (xv_keeps th p1 s3).bind fun q5 =>
  (xv_slips th (1 : Int32) q5.2).bind fun q6 =>
  some (q5.1 - q6.1, q6.2)
abbrev N_xWay_tells (l : Launch) : hk_N := (l, cX17_tells, "HeadReckons$Way", 3, (some .int), 13, 419, false)
set_option maxHeartbeats 4000000 in
theorem wk_xWay_tells {l : Launch} {Gd : hk_G} {th : Nat} {p1 : Int32} {s0 : hk_St} {r : Int32} {fin : hk_St} (h : xWay_tells th p1 s0 = some (r, fin)) : hk_Met Gd l yX17_tells cX17_tells 3 (some .int) 13 419 [.ref th, .int p1] s0 (some (.int r)) fin := by
  refine hk_start "HeadReckons$Way" false (by decide +kernel) rfl (by decide) (Nat.le_of_ble_eq_true rfl) ?_
  show hk_V Gd (N_xWay_tells l) (hk_end Gd s0 (some (.int r)) fin) 0 [(0, .ref th), (1, .int p1)] [] s0
  unfold xWay_tells at h
  refine hv_aload_n 0 dX17_tells_0 rfl rfl ?_
  obtain ⟨x1, e_x1, h⟩ := hq_ob h
  refine hv_getR fl_X17_3 e_x1 dX17_tells_1 ?_
  refine hv_iconst (v := 2) dX17_tells_4 (by decide) ?_
  obtain ⟨a2, e_a2, h⟩ := hq_nn h
  rw [e_a2]
  obtain ⟨s3, e_s3, h⟩ := hq_ob h
  obtain ⟨g4, h⟩ := hq_gd h
  refine hv_callVN [.int (2 : Int32)] [] [] (wk_x_ran e_s3) cs_X17_23 g4 rfl ⟨Nat.le_of_ble_eq_true rfl, Nat.le_of_ble_eq_true rfl⟩ rfl (Nat.le_of_ble_eq_true rfl) rfl dX17_tells_5 ?_
  refine hv_aload_n 0 dX17_tells_8 rfl rfl ?_
  refine hv_iload_n 1 dX17_tells_9 rfl rfl ?_
  obtain ⟨q5, e_q5, h⟩ := hq_ob h
  refine hv_callD [.int p1] [] [.int q5.1] (wd_keeps e_q5) cd_X17_31 rfl ⟨Nat.le_of_ble_eq_true rfl, Nat.le_of_ble_eq_true rfl⟩ rfl (Nat.le_of_ble_eq_true rfl) rfl dX17_tells_10 ?_
  refine hv_istore_n (L' := [(2, .int q5.1), (0, .ref th), (1, .int p1)]) dX17_tells_13 rfl (Nat.le_of_ble_eq_true rfl) rfl ?_
  refine hv_iload_n 0 dX17_tells_14 rfl rfl ?_
  refine hv_aload_n 1 dX17_tells_15 rfl rfl ?_
  refine hv_iconst (v := 1) dX17_tells_16 (by decide) ?_
  obtain ⟨q6, e_q6, h⟩ := hq_ob h
  refine hv_callD [.int (1 : Int32)] [.int q5.1] [.int q6.1, .int q5.1] (wd_slips e_q6) cd_X17_34 rfl ⟨Nat.le_of_ble_eq_true rfl, Nat.le_of_ble_eq_true rfl⟩ rfl (Nat.le_of_ble_eq_true rfl) rfl dX17_tells_17 ?_
  refine hv_isub dX17_tells_20 ?_
  obtain ⟨h1, h2⟩ := hq_ret h
  subst h1
  subst h2
  exact hv_iret rfl dX17_tells_21
def xBySquares_tells (th : Nat) (p1 : Int32) (s0 : hk_St) : Option (Int32 × hk_St) :=
  (hk_gR [19] 1900 s0 th).bind fun x1 =>
  hk_nn x1 fun a2 =>
  (x_ran a2 (50 : Int32) s0).bind fun s3 =>
  hk_gd (hk_bf [0] s0 a2) <|
  hk_gd (hk_bf [19] s3 th) <|
  (xWay_tells th p1 s3).bind fun q5 =>
  some (q5.1 ^^^ (5 : Int32), q5.2)
abbrev N_xBySquares_tells (l : Launch) : hk_N := (l, cX21_tells, "HeadReckons$BySquares", 2, (some .int), 14, 441, false)
set_option maxHeartbeats 4000000 in
theorem wk_xBySquares_tells {l : Launch} {Gd : hk_G} {th : Nat} {p1 : Int32} {s0 : hk_St} {r : Int32} {fin : hk_St} (h : xBySquares_tells th p1 s0 = some (r, fin)) : hk_Met Gd l yX21_tells cX21_tells 2 (some .int) 14 441 [.ref th, .int p1] s0 (some (.int r)) fin := by
  refine hk_start "HeadReckons$BySquares" false (by decide +kernel) rfl (by decide) (Nat.le_of_ble_eq_true rfl) ?_
  show hk_V Gd (N_xBySquares_tells l) (hk_end Gd s0 (some (.int r)) fin) 0 [(0, .ref th), (1, .int p1)] [] s0
  unfold xBySquares_tells at h
  refine hv_aload_n 0 dX21_tells_0 rfl rfl ?_
  obtain ⟨x1, e_x1, h⟩ := hq_ob h
  refine hv_getR fl_X21_1 e_x1 dX21_tells_1 ?_
  refine hv_bipush (v := 50) dX21_tells_4 (by decide) ?_
  obtain ⟨a2, e_a2, h⟩ := hq_nn h
  rw [e_a2]
  obtain ⟨s3, e_s3, h⟩ := hq_ob h
  obtain ⟨g4, h⟩ := hq_gd h
  refine hv_callVN [.int (50 : Int32)] [] [] (wk_x_ran e_s3) cs_X21_13 g4 rfl ⟨Nat.le_of_ble_eq_true rfl, Nat.le_of_ble_eq_true rfl⟩ rfl (Nat.le_of_ble_eq_true rfl) rfl dX21_tells_6 ?_
  refine hv_aload_n 0 dX21_tells_9 rfl rfl ?_
  refine hv_iload_n 1 dX21_tells_10 rfl rfl ?_
  obtain ⟨g6, h⟩ := hq_gd h
  obtain ⟨q5, e_q5, h⟩ := hq_ob h
  refine hv_callSU [.int p1] [] [.int q5.1] (wk_xWay_tells e_q5) cs_X21_19 [19] (by decide) g6 rfl ⟨Nat.le_of_ble_eq_true rfl, Nat.le_of_ble_eq_true rfl⟩ rfl (Nat.le_of_ble_eq_true rfl) rfl dX21_tells_11 ?_
  refine hv_iconst (v := 5) dX21_tells_14 (by decide) ?_
  refine hv_ixor dX21_tells_15 ?_
  obtain ⟨h1, h2⟩ := hq_ret h
  subst h1
  subst h2
  exact hv_iret rfl dX21_tells_16
def xRooted_tells (th : Nat) (p1 : Int32) (s0 : hk_St) : Option (Int32 × hk_St) :=
  (hk_gR [22] 2200 s0 th).bind fun x1 =>
  hk_nn x1 fun a2 =>
  (x_ran a2 (81 : Int32) s0).bind fun s3 =>
  hk_gd (hk_bf [0] s0 a2) <|
  hk_gd (hk_bf [22] s3 th) <|
  (xWay_tells th p1 s3).bind fun q5 =>
  hk_gd (hk_bf [22] q5.2 th) <|
  (xByHeart_slips th (2 : Int32) q5.2).bind fun q7 =>
  some (q5.1 - q7.1, q7.2)
abbrev N_xRooted_tells (l : Launch) : hk_N := (l, cX24_tells, "HeadReckons$Rooted", 3, (some .int), 14, 441, false)
set_option maxHeartbeats 4000000 in
theorem wk_xRooted_tells {l : Launch} {Gd : hk_G} {th : Nat} {p1 : Int32} {s0 : hk_St} {r : Int32} {fin : hk_St} (h : xRooted_tells th p1 s0 = some (r, fin)) : hk_Met Gd l yX24_tells cX24_tells 3 (some .int) 14 441 [.ref th, .int p1] s0 (some (.int r)) fin := by
  refine hk_start "HeadReckons$Rooted" false (by decide +kernel) rfl (by decide) (Nat.le_of_ble_eq_true rfl) ?_
  show hk_V Gd (N_xRooted_tells l) (hk_end Gd s0 (some (.int r)) fin) 0 [(0, .ref th), (1, .int p1)] [] s0
  unfold xRooted_tells at h
  refine hv_aload_n 0 dX24_tells_0 rfl rfl ?_
  obtain ⟨x1, e_x1, h⟩ := hq_ob h
  refine hv_getR fl_X24_1 e_x1 dX24_tells_1 ?_
  refine hv_bipush (v := 81) dX24_tells_4 (by decide) ?_
  obtain ⟨a2, e_a2, h⟩ := hq_nn h
  rw [e_a2]
  obtain ⟨s3, e_s3, h⟩ := hq_ob h
  obtain ⟨g4, h⟩ := hq_gd h
  refine hv_callVN [.int (81 : Int32)] [] [] (wk_x_ran e_s3) cs_X24_13 g4 rfl ⟨Nat.le_of_ble_eq_true rfl, Nat.le_of_ble_eq_true rfl⟩ rfl (Nat.le_of_ble_eq_true rfl) rfl dX24_tells_6 ?_
  refine hv_aload_n 0 dX24_tells_9 rfl rfl ?_
  refine hv_iload_n 1 dX24_tells_10 rfl rfl ?_
  obtain ⟨g6, h⟩ := hq_gd h
  obtain ⟨q5, e_q5, h⟩ := hq_ob h
  refine hv_callSI [.int p1] [] [.int q5.1] (wk_xWay_tells e_q5) cs_X24_23 [22] (by decide) g6 rfl ⟨Nat.le_of_ble_eq_true rfl, Nat.le_of_ble_eq_true rfl⟩ rfl (Nat.le_of_ble_eq_true rfl) rfl dX24_tells_11 ?_
  refine hv_istore_n (L' := [(2, .int q5.1), (0, .ref th), (1, .int p1)]) dX24_tells_14 rfl (Nat.le_of_ble_eq_true rfl) rfl ?_
  refine hv_iload_n 0 dX24_tells_15 rfl rfl ?_
  refine hv_aload_n 1 dX24_tells_16 rfl rfl ?_
  refine hv_iconst (v := 2) dX24_tells_17 (by decide) ?_
  obtain ⟨g8, h⟩ := hq_gd h
  obtain ⟨q7, e_q7, h⟩ := hq_ob h
  refine hv_callO [.int (2 : Int32)] [.int q5.1] [.int q7.1, .int q5.1] (wk_xByHeart_slips e_q7) cs_X24_26 g8 rfl ⟨Nat.le_of_ble_eq_true rfl, Nat.le_of_ble_eq_true rfl⟩ rfl (Nat.le_of_ble_eq_true rfl) rfl dX24_tells_18 ?_
  refine hv_isub dX24_tells_21 ?_
  obtain ⟨h1, h2⟩ := hq_ret h
  subst h1
  subst h2
  exact hv_iret rfl dX24_tells_22

def xv_tells (b : Nat) (x : Int32) (s : hk_St) : Option (Int32 × hk_St) :=
  if hk_bf [15] s b = true then xWay_tells b x s else
  if hk_bf [16] s b = true then xWay_tells b x s else
  if hk_bf [17] s b = true then xWay_tells b x s else
  if hk_bf [18] s b = true then xWay_tells b x s else
  if hk_bf [19] s b = true then xBySquares_tells b x s else
  if hk_bf [20] s b = true then xWay_tells b x s else
  if hk_bf [21] s b = true then xWay_tells b x s else
  if hk_bf [22] s b = true then xRooted_tells b x s else
  none
theorem wd_tells {l : Launch} {Gd : hk_G} {b : Nat} {x : Int32} {s : hk_St} {r : Int32} {z : hk_St} (h : xv_tells b x s = some (r, z)) : hk_Dm vi_tells (some .int) Gd l 18 700 b [.int x] s (some (.int r)) z := by
  unfold xv_tells at h
  by_cases c0 : hk_bf [15] s b = true
  · replace h := hq_ip c0 h
    exact ⟨(15, yX17_tells, cX17_tells, 3), List.mem_of_getElem? (i := 0) rfl, c0, 13, 419, wk_xWay_tells h, by decide, by decide⟩
  replace h := hq_in c0 h
  by_cases c1 : hk_bf [16] s b = true
  · replace h := hq_ip c1 h
    exact ⟨(16, yX17_tells, cX17_tells, 3), List.mem_of_getElem? (i := 1) rfl, c1, 13, 419, wk_xWay_tells h, by decide, by decide⟩
  replace h := hq_in c1 h
  by_cases c2 : hk_bf [17] s b = true
  · replace h := hq_ip c2 h
    exact ⟨(17, yX17_tells, cX17_tells, 3), List.mem_of_getElem? (i := 2) rfl, c2, 13, 419, wk_xWay_tells h, by decide, by decide⟩
  replace h := hq_in c2 h
  by_cases c3 : hk_bf [18] s b = true
  · replace h := hq_ip c3 h
    exact ⟨(18, yX17_tells, cX17_tells, 3), List.mem_of_getElem? (i := 3) rfl, c3, 13, 419, wk_xWay_tells h, by decide, by decide⟩
  replace h := hq_in c3 h
  by_cases c4 : hk_bf [19] s b = true
  · replace h := hq_ip c4 h
    exact ⟨(19, yX21_tells, cX21_tells, 2), List.mem_of_getElem? (i := 4) rfl, c4, 14, 441, wk_xBySquares_tells h, by decide, by decide⟩
  replace h := hq_in c4 h
  by_cases c5 : hk_bf [20] s b = true
  · replace h := hq_ip c5 h
    exact ⟨(20, yX17_tells, cX17_tells, 3), List.mem_of_getElem? (i := 5) rfl, c5, 13, 419, wk_xWay_tells h, by decide, by decide⟩
  replace h := hq_in c5 h
  by_cases c6 : hk_bf [21] s b = true
  · replace h := hq_ip c6 h
    exact ⟨(21, yX17_tells, cX17_tells, 3), List.mem_of_getElem? (i := 6) rfl, c6, 13, 419, wk_xWay_tells h, by decide, by decide⟩
  replace h := hq_in c6 h
  by_cases c7 : hk_bf [22] s b = true
  · replace h := hq_ip c7 h
    exact ⟨(22, yX24_tells, cX24_tells, 3), List.mem_of_getElem? (i := 7) rfl, c7, 14, 441, wk_xRooted_tells h, by decide, by decide⟩
  replace h := hq_in c7 h
  cases h
def x_act (th : Nat) (p1 : Int32) (p2 : Int32) (p3 : Int32) (s0 : hk_St) : Option (Int32 × hk_St) :=
  (hk_pI [0] 18 s0 th (0 : Int32)).bind fun s1 =>
  (x_isBody th p1 s1).bind fun x2 =>
  hk_gd (hk_bf [0] s1 th) <|
  if x2 = 0 then
    some ((0 : Int32), s1)
  else
  if (x_in p2 (0 : Int32) (3 : Int32)) = 0 then
    some ((0 : Int32), s1)
  else
  (hk_gR [0] 20 s1 th).bind fun x6 =>
    hk_nn x6 fun a7 =>
    (hk_lR 9 s1 a7 p1).bind fun x8 =>
    if p2 = 0 then
      hk_nn x8 fun a18 =>
    (xv_costs a18 p3 s1).bind fun q19 =>
    some (q19.1, q19.2)
    else
    if p2 = (3 : Int32) then
        hk_nn x8 fun a16 =>
      (xv_tells a16 p3 s1).bind fun q17 =>
      some (q17.1, q17.2)
      else
      if p2 = (1 : Int32) then
          hk_nn x8 fun a14 =>
        (xv_keeps a14 p3 s1).bind fun q15 =>
        some (q15.1, q15.2)
        else
        hk_nn x8 fun a12 =>
          (xv_slips a12 p3 s1).bind fun q13 =>
          some (q13.1, q13.2)
abbrev N_x_act (l : Launch) : hk_N := (l, cX0_act, "HeadReckons", 6, (some .int), 19, 719, false)
set_option maxHeartbeats 4000000 in
theorem wk_x_act {l : Launch} {Gd : hk_G} {th : Nat} {p1 : Int32} {p2 : Int32} {p3 : Int32} {s0 : hk_St} {r : Int32} {fin : hk_St} (h : x_act th p1 p2 p3 s0 = some (r, fin)) : hk_Met Gd l yX0_act cX0_act 6 (some .int) 19 719 [.ref th, .int p1, .int p2, .int p3] s0 (some (.int r)) fin := by
  refine hk_start "HeadReckons" false (by decide +kernel) rfl (by decide) (Nat.le_of_ble_eq_true rfl) ?_
  show hk_V Gd (N_x_act l) (hk_end Gd s0 (some (.int r)) fin) 0 [(0, .ref th), (1, .int p1), (2, .int p2), (3, .int p3)] [] s0
  unfold x_act at h
  refine hv_aload_n 0 dX0_act_0 rfl rfl ?_
  refine hv_iconst (v := 0) dX0_act_1 (by decide) ?_
  obtain ⟨s1, e_s1, h⟩ := hq_ob h
  refine hv_putI fp_X0_359 e_s1 (fun q => by cases q) dX0_act_2 ?_
  refine hv_aload_n 0 dX0_act_5 rfl rfl ?_
  refine hv_iload_n 1 dX0_act_6 rfl rfl ?_
  obtain ⟨x2, e_x2, h⟩ := hq_ob h
  obtain ⟨g3, h⟩ := hq_gd h
  refine hv_callV [.int p1] [] [.int x2] (wk_x_isBody e_x2) cs_X0_393 g3 rfl ⟨Nat.le_of_ble_eq_true rfl, Nat.le_of_ble_eq_true rfl⟩ rfl (Nat.le_of_ble_eq_true rfl) rfl dX0_act_7 ?_
  refine hv_if_eq (tgt := 22) dX0_act_10 (by decide) (fun c4 => ?_) (fun c4 => ?_)
  · replace h := hq_ip c4 h
    refine hv_iconst (v := 0) dX0_act_22 (by decide) ?_
    obtain ⟨h1, h2⟩ := hq_ret h
    subst h1
    subst h2
    exact hv_iret rfl dX0_act_23
  · replace h := hq_in c4 h
    refine hv_iload_n 2 dX0_act_13 rfl rfl ?_
    refine hv_iconst (v := 0) dX0_act_14 (by decide) ?_
    refine hv_iconst (v := 3) dX0_act_15 (by decide) ?_
    refine hv_callS [.int p2, .int (0 : Int32), .int (3 : Int32)] [] [.int (x_in p2 (0 : Int32) (3 : Int32))] (wk_x_in rfl) cs_X0_73 rfl ⟨Nat.le_of_ble_eq_true rfl, Nat.le_of_ble_eq_true rfl⟩ rfl (Nat.le_of_ble_eq_true rfl) rfl dX0_act_16 ?_
    refine hv_if_ne (tgt := 24) dX0_act_19 (by decide) (fun c5 => ?_) (fun c5 => ?_)
    · replace h := hq_in c5 h
      refine hv_aload_n 0 dX0_act_24 rfl rfl ?_
      obtain ⟨x6, e_x6, h⟩ := hq_ob h
      refine hv_getR fl_X0_61 e_x6 dX0_act_25 ?_
      refine hv_iload_n 1 dX0_act_28 rfl rfl ?_
      obtain ⟨a7, e_a7, h⟩ := hq_nn h
      rw [e_a7]
      obtain ⟨x8, e_x8, h⟩ := hq_ob h
      refine hv_aald (by decide) (by decide) rfl e_x8 dX0_act_29 ?_
      refine hv_astoreq (L' := [(4, va_rf x8), (0, .ref th), (1, .int p1), (2, .int p2), (3, .int p3)]) dX0_act_30 (Nat.le_of_ble_eq_true rfl) rfl ?_
      refine hv_iload_n 3 dX0_act_32 rfl rfl ?_
      refine hv_if_ne (tgt := 49) dX0_act_33 (by decide) (fun c9 => ?_) (fun c9 => ?_)
      · replace h := hq_in c9 h
        refine hv_iload_n 3 dX0_act_49 rfl rfl ?_
        refine hv_iconst (v := 3) dX0_act_50 (by decide) ?_
        refine hv_icmp_ne (tgt := 67) dX0_act_51 (by decide) (fun c10 => ?_) (fun c10 => ?_)
        · replace h := hq_in c10 h
          refine hv_iload_n 3 dX0_act_67 rfl rfl ?_
          refine hv_iconst (v := 1) dX0_act_68 (by decide) ?_
          refine hv_icmp_ne (tgt := 81) dX0_act_69 (by decide) (fun c11 => ?_) (fun c11 => ?_)
          · replace h := hq_in c11 h
            refine hv_aloadq 0 dX0_act_81 rfl ?_
            refine hv_iload_n 4 dX0_act_83 rfl rfl ?_
            obtain ⟨a12, e_a12, h⟩ := hq_nn h
            rw [e_a12]
            obtain ⟨q13, e_q13, h⟩ := hq_ob h
            refine hv_callD [.int p3] [] [.int q13.1] (wd_slips e_q13) cd_X0_409 rfl ⟨Nat.le_of_ble_eq_true rfl, Nat.le_of_ble_eq_true rfl⟩ rfl (Nat.le_of_ble_eq_true rfl) rfl dX0_act_84 ?_
            obtain ⟨h1, h2⟩ := hq_ret h
            subst h1
            subst h2
            exact hv_iret rfl dX0_act_87
          · replace h := hq_ip c11 h
            refine hv_aloadq 0 dX0_act_72 rfl ?_
            refine hv_iload_n 4 dX0_act_74 rfl rfl ?_
            obtain ⟨a14, e_a14, h⟩ := hq_nn h
            rw [e_a14]
            obtain ⟨q15, e_q15, h⟩ := hq_ob h
            refine hv_callD [.int p3] [] [.int q15.1] (wd_keeps e_q15) cd_X0_406 rfl ⟨Nat.le_of_ble_eq_true rfl, Nat.le_of_ble_eq_true rfl⟩ rfl (Nat.le_of_ble_eq_true rfl) rfl dX0_act_75 ?_
            refine hv_goto (tgt := 87) dX0_act_78 (by decide) ?_
            obtain ⟨h1, h2⟩ := hq_ret h
            subst h1
            subst h2
            exact hv_iret rfl dX0_act_87
        · replace h := hq_ip c10 h
          refine hv_aloadq 0 dX0_act_54 rfl ?_
          refine hv_astoreq (L' := [(5, va_rf x8), (4, va_rf x8), (0, .ref th), (1, .int p1), (2, .int p2), (3, .int p3)]) dX0_act_56 (Nat.le_of_ble_eq_true rfl) (by simp [List.filter, hk_cat]) ?_
          refine hv_aloadq 0 dX0_act_58 rfl ?_
          refine hv_iload_n 5 dX0_act_60 rfl rfl ?_
          obtain ⟨a16, e_a16, h⟩ := hq_nn h
          rw [e_a16]
          obtain ⟨q17, e_q17, h⟩ := hq_ob h
          refine hv_callDF [.int p3] [] [.int q17.1] (wd_tells e_q17) cd_X0_401 rfl ⟨Nat.le_of_ble_eq_true rfl, Nat.le_of_ble_eq_true rfl⟩ rfl (Nat.le_of_ble_eq_true rfl) rfl dX0_act_61 ?_
          obtain ⟨h1, h2⟩ := hq_ret h
          subst h1
          subst h2
          exact hv_iret rfl dX0_act_66
      · replace h := hq_ip c9 h
        refine hv_aloadq 0 dX0_act_36 rfl ?_
        refine hv_astoreq (L' := [(5, va_rf x8), (4, va_rf x8), (0, .ref th), (1, .int p1), (2, .int p2), (3, .int p3)]) dX0_act_38 (Nat.le_of_ble_eq_true rfl) (by simp [List.filter, hk_cat]) ?_
        refine hv_aloadq 0 dX0_act_40 rfl ?_
        refine hv_iload_n 5 dX0_act_42 rfl rfl ?_
        obtain ⟨a18, e_a18, h⟩ := hq_nn h
        rw [e_a18]
        obtain ⟨q19, e_q19, h⟩ := hq_ob h
        refine hv_callDF [.int p3] [] [.int q19.1] (wd_costs e_q19) cd_X0_396 rfl ⟨Nat.le_of_ble_eq_true rfl, Nat.le_of_ble_eq_true rfl⟩ rfl (Nat.le_of_ble_eq_true rfl) rfl dX0_act_43 ?_
        obtain ⟨h1, h2⟩ := hq_ret h
        subst h1
        subst h2
        exact hv_iret rfl dX0_act_48
    · replace h := hq_ip c5 h
      refine hv_iconst (v := 0) dX0_act_22 (by decide) ?_
      obtain ⟨h1, h2⟩ := hq_ret h
      subst h1
      subst h2
      exact hv_iret rfl dX0_act_23
