set_option maxRecDepth 100000
/-! ===== STAGE 2: the class's acts against the numbers ===== -/
/-- g: what lies in the rows' array -/
def RU (u : hk_U) (A : qS) (hd : Nat) (g : Nat → Int64) : Prop :=
  uI u 6 = nI (sA A).length ∧ uI u 7 = nI (sK A) ∧ uI u 8 = nI (qSecs (sA A)) ∧ uI u 9 = nI (qMost (sA A)) ∧ uL u 10 = lN (sR A) ∧ uL u 11 = lN (10 ^ sP A) ∧
  uI u 12 = (if sF A then 1 else 0) ∧ uH u = some hd ∧ (∀ i, uB u 3 i = g i) ∧
  ∀ i r, (sA A)[i]? = some r → uA u 0 i = nI (aSo r) ∧ uA u 1 i = nI (aLe r) ∧ uA u 2 i = nI (aHe r) ∧ uB u 0 i = lN (aV r) ∧ uB u 1 i = lN (aSl r) ∧ uB u 2 i = lN (10 ^ aPl r)
/-- a head and what it was told -/
def hk_KH (st : hk_St) (hd td : Nat) (t : Nat → Nat) : Prop :=
  hk_k st hd = some (3, 0) ∧ hk_fR st 300 hd = some td ∧ hk_k st td = some (100, 5) ∧ ∀ i, i < 5 → hk_aI st td i = nI (t i)
section S2X
variable {ac hd td : Nat} {st : hk_St} {u : hk_U} {A : qS} {t : Nat → Nat} {g : Nat → Int64}
theorem aU_hR (H : hk_KH st hd td t) : hk_gR [3] 300 (hk_aU ac st u) hd = some (some td) := by
  have h1 : hk_k (hk_aU ac st u) hd = some (3, 0) := H.1
  have h2 : hk_bf [3] (hk_aU ac st u) hd = true := by simp [hk_bf, h1]
  rw [hk_gR, if_pos h2]
  have h3 := H.2.1
  simp only [hk_fR] at h3
  simp [hk_fR, hk_aU, h3]
theorem aU_hI (K : hk_KA ac st) (H : hk_KH st hd td t) {i : Nat} (hi : i < 5) : hk_lI 0 (hk_aU ac st u) td (nI i) = some (nI (t i)) := by
  have h1 : hk_k (hk_aU ac st u) td = some (100, 5) := H.2.2.1
  have h2 : hk_ba 0 (hk_aU ac st u) td (nI i) = true := by simp [hk_ba, h1, hk_in_nI hi (by decide)]
  rw [hk_lI, if_pos h2, nI_clamp (by omega)]
  have h3 : ¬ (ac < td ∧ td ≤ ac + 3) := by
    intro q
    have h4 := K.2.1 (td - (ac + 1)) (by omega)
    rw [show ac + (td - (ac + 1) + 1) = td by omega] at h4
    have h5 := H.2.2.1
    rw [h4] at h5
    exact absurd h5 (by decide)
  have h6 := H.2.2.2 i hi
  simp only [hk_aI] at h6
  simp [hk_aI, hk_aU, h3, h6]
theorem jmax_nI {a b : Nat} (ha : a < 2 ^ 31) (hb : b < 2 ^ 31) : j_max_i (nI a) (nI b) = nI (max a b) := by
  unfold j_max_i
  by_cases h : a < b
  · rw [Nat.max_eq_right (by omega), if_pos ((nI_ltI ha hb).mpr h)]
  · rw [Nat.max_eq_left (by omega), if_neg (fun q => h ((nI_ltI ha hb).mp q))]
theorem qx_actR {so v le sl : Nat} (K : hk_KA ac st) (R : RU u A hd g) (hn : (sA A).length < 120) (hr : sR A < 2 ^ 63) (hk : sK A ≤ 19 * ((sA A).length + 1)) (hm : qMost (sA A) ≤ 19 * ((sA A).length + 1)) :
    ∃ u', xActs_act ac (nI so) (lN v) (nI le) (lN sl) (hk_aU ac st u) = some (hk_aU ac st u') ∧ RU u' (qAct so v le sl A) hd g := by
  obtain ⟨R6, R7, R8, R9, RA, RB, RC, RH, RW, RX⟩ := R
  have hd63 := nd_63 hr
  refine ⟨_, qx_act (so := nI so) (lo := nI le) (v := lN v) (sl := lN sl) K hn R6 RA hr, ?_⟩
  have hhe : uI u 7 + nI (nd (sR A)) = nI (sK A + nd (sR A)) := by rw [R7, nI_add]
  rw [hhe]
  unfold RU uAct
  simp only [uI_I, uI_A, uI_B, uL_I, uL_A, uL_B, uH_I, uH_A, uH_B, uA_I, uA_A, uA_B, uB_I, uB_A, uB_B, Nat.reduceEqDiff, if_true, if_false, qAct_A, qAct_K, qAct_R, qAct_P, qAct_F, qSecs_ap, qMost_ap, List.length_append, List.length_singleton]
  refine ⟨trivial, R7, ?_, ?_, RA, RB, RC, RH, ?_, ?_⟩
  · rw [R8, nI_add]; rfl
  · rw [R9, jmax_nI (by omega) (by omega)]; rfl
  · intro i
    simp [RW]
  · intro i r hi
    rcases ap_get hi with ⟨h1, h2⟩ | ⟨h1, h2⟩
    · have h3 : ¬ i = (sA A).length := by omega
      simp only [h3, and_false, if_false]
      exact RX i r h2
    · subst h1 h2
      simp [aSo, aLe, aHe, aV, aSl, aPl, RB]
theorem nI1 : nI 1 = (1 : Int32) := rfl
theorem nI2 : nI 2 = (2 : Int32) := rfl
theorem nI3 : nI 3 = (3 : Int32) := rfl
theorem lN0 : lN 0 = (0 : Int64) := rfl
theorem lN1 : lN 1 = (1 : Int64) := rfl
theorem gd_bf (K : hk_KA ac st) {α : Type} {c : Option α} : hk_gd (hk_bf [2] (hk_aU ac st u) ac) c = c := by rw [K.bf]; rfl
theorem jmin_lN {a b : Nat} (ha : a < 2 ^ 63) (hb : b < 2 ^ 63) : j_min_j (lN a) (lN b) = lN (min a b) := by
  unfold j_min_j
  by_cases h : b < a
  · rw [Nat.min_eq_right (by omega), if_pos ((pk_lLT hb ha).mpr h)]
  · rw [Nat.min_eq_left (by omega), if_neg (fun q => h ((pk_lLT hb ha).mp q))]
theorem qx_look {x y w : Nat} (K : hk_KA ac st) (H : hk_KH st hd td t) (ht : ∀ i, t i ≤ 99) (R : RU u A hd g) (G : qG A 2 (x * y * w)) (hx : x < 2 ^ 31) (hy : y < 2 ^ 31) :
    ∃ u', xActs_look ac (lN x) (lN y) (lN w) (hk_aU ac st u) = some (hk_aU ac st u') ∧ RU u' (qLook t x y w A) hd g := by
  have B := G.1
  have B1 := B.1
  have B2 := B.2.1
  have hr31 := G.2.1
  have hr : sR A < 2 ^ 63 := by omega
  have hn := G.2.2.1
  have hbs := G.2.2.2
  have hu0 := R.2.2.2.2.2.2.1
  have gC := fun u => aU_gI (u := u) K 12
  have gA := fun u => aU_gL (u := u) K 10
  have gH := fun u => aU_gH (u := u) K
  have pA := fun u => aU_pL (u := u) K 10
  have pC := fun u => aU_pI (u := u) K 12
  have hR := fun u => aU_hR (ac := ac) (u := u) H
  have h0 := fun u => aU_hI (u := u) K H (i := 0) (by decide)
  have h1 := fun u => aU_hI (u := u) K H (i := 1) (by decide)
  simp only [Nat.reduceAdd, nI_0, nI1] at gC gA pA pC h0 h1
  have e1 : (lN x * lN y) * lN w = lN (x * y * w) := by rw [lN_mul, lN_mul]
  have e2 : j_min_j (lN x) (lN y) * lN w = lN (min x y * w) := by rw [jmin_lN (by omega) (by omega), lN_mul]
  by_cases hf : sF A = true
  · rw [hf, if_pos rfl] at hu0
    have R1 : RU (uL_ u 10 (lN (x * y * w))) (sR_ A (x * y * w)) hd g := by
      obtain ⟨R6, R7, R8, R9, RA, RB, RC, RH, RW, RX⟩ := R
      exact ⟨R6, R7, R8, R9, rfl, RB, RC, RH, RW, RX⟩
    obtain ⟨u2, E2, R2⟩ := qx_actR (so := 0) (v := x * y * w) (le := t 0) (sl := min x y * w) K R1 (by show (sA A).length < 120; omega) (by show x * y * w < 2 ^ 63; omega) (by show sK A ≤ _; exact Nat.le_trans B1 (by show _ ≤ 19 * ((sA A).length + 1); omega)) B2
    have hf2 : uI u2 12 = 1 := by
      have := R2.2.2.2.2.2.2.1
      rw [show sF (qAct 0 (x * y * w) (t 0) (min x y * w) (sR_ A (x * y * w))) = sF A from rfl, hf] at this
      exact this
    have hH2 := R2.2.2.2.2.2.2.2.1
    rw [nI_0] at E2
    refine ⟨uI_ u2 12 0, ?_, ?_⟩
    · simp only [xActs_look, hk_nm, hk_nn, Option.bind_some, gC, gA, gH, pA, pC, hR, h0, h1, hu0, e1, e2, uH_L, R.2.2.2.2.2.2.2.1, E2, gd_bf K, hf2, show ¬ (1 : Int32) = 0 by decide, if_false]
    · obtain ⟨R6, R7, R8, R9, RA, RB, RC, RH, RW, RX⟩ := R2
      rw [qLook, if_pos hf]
      exact ⟨R6, R7, R8, R9, RA, RB, rfl, RH, RW, RX⟩
  · rw [if_neg hf] at hu0
    rw [sBs, if_neg hf] at hbs
    have hv : sR A + x * y * w < 2 ^ 63 := by omega
    obtain ⟨u2, E2, R2⟩ := qx_actR (so := 0) (v := x * y * w) (le := t 0) (sl := min x y * w) K R (by omega) hr (by omega) B2
    have hff : sF A = false := by simpa using hf
    have hf2 : uI u2 12 = 0 := by
      have := R2.2.2.2.2.2.2.1
      rw [qAct_F, hff] at this
      exact this
    have hA2 : uL u2 10 = lN (sR A) := R2.2.2.2.2.1
    have hH2 := R2.2.2.2.2.2.2.2.1
    have B3 : qB (qAct 0 (x * y * w) (t 0) (min x y * w) A) := qAct_B (by omega) B2 B.2.2 (Nat.le_trans (ht 0) (by decide)) hr
    have R3 : RU (uL_ u2 10 (lN (sR A + x * y * w))) (sR_ (qAct 0 (x * y * w) (t 0) (min x y * w) A) (sR A + x * y * w)) hd g := by
      obtain ⟨R6, R7, R8, R9, RA, RB, RC, RH, RW, RX⟩ := R2
      exact ⟨R6, R7, R8, R9, rfl, RB, RC, RH, RW, RX⟩
    have hl3 : (sA (qAct 0 (x * y * w) (t 0) (min x y * w) A)).length = (sA A).length + 1 := by rw [qAct_A, List.length_append]; rfl
    obtain ⟨u4, E4, R4⟩ := qx_actR (so := 1) (v := sR A + x * y * w) (le := t 1 * ns1 (sR A + x * y * w)) (sl := 0) K R3 (by show (sA (qAct 0 _ _ _ A)).length < 120; omega) hv
      (Nat.le_trans B3.1 (by show _ ≤ 19 * ((sA (qAct 0 _ _ _ A)).length + 1); omega)) B3.2.1
    rw [nI_0] at E2
    rw [nI1, lN0] at E4
    refine ⟨uI_ u4 12 0, ?_, ?_⟩
    · simp only [xActs_look, hk_nm, hk_nn, Option.bind_some, gC, gA, gH, pA, pC, hR, h0, h1, hu0, e1, e2, R.2.2.2.2.2.2.2.1, E2, gd_bf K, hf2, if_true, hA2, lN_add, uL_L, uH_L, hH2, ll_sizeOf hv, pk_mul, E4]
    · obtain ⟨R6, R7, R8, R9, RA, RB, RC, RH, RW, RX⟩ := R4
      rw [qLook, if_neg hf]
      refine ⟨R6, R7, R8, R9, RA, RB, ?_, RH, RW, RX⟩
      show (0 : Int32) = _
      rw [show sF (qAct 1 (sR A + x * y * w) (t 1 * ns1 (sR A + x * y * w)) 0 (sR_ (qAct 0 (x * y * w) (t 0) (min x y * w) A) (sR A + x * y * w))) = sF A from rfl, hff]
      rfl
theorem qx_begin (K : hk_KA ac st) (R : RU u A hd g) : ∃ u', xActs_begin ac (hk_aU ac st u) = some (hk_aU ac st u') ∧ RU u' (qBegin A) hd g := by
  have pA := fun u => aU_pL (u := u) K 10
  have pC := fun u => aU_pI (u := u) K 12
  simp only [Nat.reduceAdd] at pA pC
  refine ⟨uI_ (uL_ u 10 0) 12 1, by simp only [xActs_begin, pA, pC, Option.bind_some], ?_⟩
  obtain ⟨R6, R7, R8, R9, RA, RB, RC, RH, RW, RX⟩ := R
  exact ⟨R6, R7, R8, R9, rfl, RB, rfl, RH, RW, RX⟩
theorem qx_hold {v size : Nat} (K : hk_KA ac st) (H : hk_KH st hd td t) (R : RU u A hd g) (G : qG A 1 0) (hz : size ≤ 19) :
    ∃ u', xActs_hold ac (lN v) (nI size) (hk_aU ac st u) = some (hk_aU ac st u') ∧ RU u' (qHold t v size A) hd g := by
  have g7 := fun u => aU_gI (u := u) K 7
  have p7 := fun u => aU_pI (u := u) K 7
  have gH := fun u => aU_gH (u := u) K
  have hR := fun u => aU_hR (ac := ac) (u := u) H
  have h2 := fun u => aU_hI (u := u) K H (i := 2) (by decide)
  simp only [Nat.reduceAdd, nI2] at g7 p7 h2
  have R1 : RU (uI_ u 7 (nI (sK A + size))) (sK_ A (sK A + size)) hd g := by
    obtain ⟨R6, R7, R8, R9, RA, RB, RC, RH, RW, RX⟩ := R
    exact ⟨R6, rfl, R8, R9, RA, RB, RC, RH, RW, RX⟩
  have B := G.1
  obtain ⟨u2, E2, R2⟩ := qx_actR (so := 2) (v := v) (le := t 2 * size) (sl := 0) K R1 (by show (sA A).length < 120; have := G.2.2.1; omega) (by show sR A < 2 ^ 63; have := G.2.1; omega)
    (by show sK A + size ≤ 19 * ((sA A).length + 1); have := B.1; omega) B.2.1
  rw [nI2, lN0] at E2
  refine ⟨u2, ?_, R2⟩
  simp only [xActs_hold, hk_nn, Option.bind_some, g7, p7, gH, hR, h2, R.2.1, nI_add, uH_I, R.2.2.2.2.2.2.2.1, pk_mul, E2, gd_bf K]
/-- the inner loop of left -/
theorem qx_left_in {b x i : Nat} {p1 : Int64} {e0 : hk_St → Option hk_St} (K : hk_KA ac st) (H : hk_KH st hd td t) (ht : ∀ i, t i ≤ 99) (hb : b < 2 ^ 31) (hx : x ≤ 9) :
    ∀ j f u A, j < f → j ≤ 10 → RU u A hd g → qG A (2 * (lRow x b i j).length) (qSum (lRow x b i j)) →
    ∃ u', xActs_left_L49 ac p1 (lN b) (lN (10 ^ i)) (lN x) e0 f (lN (pw j)) (hk_aU ac st u) = e0 (hk_aU ac st u') ∧ RU u' (qLooks t (lRow x b i j) A) hd g := by
  intro j
  induction j with
  | zero =>
    intro f u A hf _ R _
    obtain ⟨f, rfl⟩ : ∃ g, f = g + 1 := ⟨f - 1, by omega⟩
    refine ⟨u, ?_, R⟩
    show xActs_left_L49b ac p1 (lN b) (lN (10 ^ i)) (lN x) e0 _ _ _ = _
    have e1 : lN (pw 0) ≤ (0 : Int64) := (lL_le0 (by decide)).mpr rfl
    simp only [xActs_left_L49b, e1, if_true]
  | succ j ih =>
    intro f u A hf hj R G
    obtain ⟨f, rfl⟩ : ∃ g, f = g + 1 := ⟨f - 1, by omega⟩
    have hp : 10 ^ j < 2 ^ 63 := Nat.lt_of_le_of_lt (Nat.pow_le_pow_right (by decide) (show j ≤ 10 by omega)) (by decide)
    have hp0 : 10 ^ j ≠ 0 := Nat.pos_iff_ne_zero.mp (Nat.pow_pos (by decide))
    have e1 : ¬ lN (10 ^ j) ≤ (0 : Int64) := fun q => hp0 ((lL_le0 hp).mp q)
    have e2 : ¬ lN (10 ^ j) = 0 := fun q => hp0 ((pk_lEQ hp (by decide)).mp q)
    have e3 : lN b / lN (10 ^ j) = lN (b / 10 ^ j) := pk_lDiv (by omega) (Nat.pos_of_ne_zero hp0) hp
    have e4 : lN (b / 10 ^ j) - lN (b / 10 ^ j) / (10 : Int64) * (10 : Int64) = lN (fg b j) := lLm_10 (Nat.lt_of_le_of_lt (Nat.div_le_self _ _) (by omega))
    have e5 : lN (10 ^ j) / (10 : Int64) = lN (pw j) := by rw [lL_10 hp, ← pw_s, pw_div]
    have hfg : fg b j < 10 := Nat.mod_lt _ (by decide)
    show ∃ u', xActs_left_L49b ac p1 (lN b) (lN (10 ^ i)) (lN x) e0 (xActs_left_L49 ac p1 (lN b) (lN (10 ^ i)) (lN x) e0 f) (lN (pw (j + 1))) (hk_aU ac st u) = _ ∧ _
    rw [lRow] at G ⊢
    simp only [xActs_left_L49b, pw_s, e1, if_false, hk_gd, e2, not_false_eq_true, decide_true, if_true, e3, e4, e5, hk_nm, K.bf, lN_mul]
    by_cases h0 : fg b j = 0
    · rw [if_pos h0] at G ⊢
      rw [if_pos ((lL_le0 (by omega)).mpr h0)]
      exact ih f u A (by omega) (by omega) R G
    · rw [if_neg h0] at G ⊢
      rw [if_neg (fun q => h0 ((lL_le0 (by omega)).mp q))]
      rw [qLooks_ap]
      have G1 : qG A (2 * (lRow x b i j).length + 2) (x * fg b j * 10 ^ (i + j) + qSum (lRow x b i j)) := G.le (by simp; omega) (by simp [qSum])
      obtain ⟨u2, E2, R2⟩ := qx_look (x := x) (y := fg b j) (w := 10 ^ (i + j)) K H ht R (G1.le (by omega) (by omega)) (by omega) (by omega)
      rw [← Nat.pow_add, E2]
      exact ih f u2 _ (by omega) (by omega) R2 (qLook_G ht G1)
theorem pw_F {n : Nat} (hn : n ≤ 1000) : n < hk_F := hk_F_gt (by omega)
theorem tenTo_pred {v : Nat} (hv : v < 2 ^ 31) (h0 : v ≠ 0) : (x_sizeOf (lN v)).bind (fun x => x_tenTo (x - (1 : Int32))) = some (lN (pw (nd v))) := by
  have h1 := nd_31 hv
  have h2 := nd_gt0 h0
  have h3 : nI (ns1 v) - (1 : Int32) = nI (nd v - 1) := by rw [ns1_pos h0, ← nI1]; exact pk_sub h2
  rw [ll_sizeOf (by omega), Option.bind_some, h3, ll_tenTo (by omega), pw, if_neg (by omega)]
theorem tenTo_pred2 {v : Nat} (hv : v < 2 ^ 31) (h0 : v ≠ 0) : x_tenTo (nI (ns1 v) - (1 : Int32)) = some (lN (pw (nd v))) := by
  have := tenTo_pred hv h0
  rwa [ll_sizeOf (by omega), Option.bind_some] at this
theorem qx_left_out {a b : Nat} {e0 : hk_St → Option hk_St} (K : hk_KA ac st) (H : hk_KH st hd td t) (ht : ∀ i, t i ≤ 99) (ha : a < 2 ^ 31) (hb : b < 2 ^ 31) (hb0 : b ≠ 0) :
    ∀ i f u A, i < f → i ≤ 10 → RU u A hd g → qG A (2 * (lAll a b i).length) (qSum (lAll a b i)) →
    ∃ u', xActs_left_L11 ac (lN a) (lN b) e0 f (lN (pw i)) (hk_aU ac st u) = e0 (hk_aU ac st u') ∧ RU u' (qLooks t (lAll a b i) A) hd g := by
  intro i
  induction i with
  | zero =>
    intro f u A hf _ R _
    obtain ⟨f, rfl⟩ : ∃ g, f = g + 1 := ⟨f - 1, by omega⟩
    refine ⟨u, ?_, R⟩
    show xActs_left_L11b ac (lN a) (lN b) e0 _ _ _ = _
    have e1 : lN (pw 0) ≤ (0 : Int64) := (lL_le0 (by decide)).mpr rfl
    simp only [xActs_left_L11b, e1, if_true]
  | succ i ih =>
    intro f u A hf hi R G
    obtain ⟨f, rfl⟩ : ∃ g, f = g + 1 := ⟨f - 1, by omega⟩
    have hp : 10 ^ i < 2 ^ 63 := Nat.lt_of_le_of_lt (Nat.pow_le_pow_right (by decide) (show i ≤ 10 by omega)) (by decide)
    have hp0 : 10 ^ i ≠ 0 := Nat.pos_iff_ne_zero.mp (Nat.pow_pos (by decide))
    have e1 : ¬ lN (10 ^ i) ≤ (0 : Int64) := fun q => hp0 ((lL_le0 hp).mp q)
    have e2 : ¬ lN (10 ^ i) = 0 := fun q => hp0 ((pk_lEQ hp (by decide)).mp q)
    have e3 : lN a / lN (10 ^ i) = lN (a / 10 ^ i) := pk_lDiv (by omega) (Nat.pos_of_ne_zero hp0) hp
    have e4 : lN (a / 10 ^ i) - lN (a / 10 ^ i) / (10 : Int64) * (10 : Int64) = lN (fg a i) := lLm_10 (Nat.lt_of_le_of_lt (Nat.div_le_self _ _) (by omega))
    have e5 : lN (10 ^ i) / (10 : Int64) = lN (pw i) := by rw [lL_10 hp, ← pw_s, pw_div]
    have hfg : fg a i < 10 := Nat.mod_lt _ (by decide)
    show ∃ u', xActs_left_L11b ac (lN a) (lN b) e0 (xActs_left_L11 ac (lN a) (lN b) e0 f) (lN (pw (i + 1))) (hk_aU ac st u) = _ ∧ _
    rw [lAll] at G ⊢
    simp only [xActs_left_L11b, pw_s, e1, if_false, hk_gd, e2, not_false_eq_true, decide_true, if_true, e3, e4, e5, hk_nm, ll_sizeOf (show b < 2 ^ 63 by omega), Option.bind_some, tenTo_pred2 hb hb0]
    by_cases h0 : fg a i = 0
    · rw [if_pos h0] at G ⊢
      rw [if_pos ((lL_eq0 (by omega)).mpr h0)]
      exact ih f u A (by omega) (by omega) R G
    · rw [if_neg h0] at G ⊢
      rw [if_neg (fun q => h0 ((lL_eq0 (by omega)).mp q))]
      rw [qLooks_ap]
      have G1 : qG A (2 * (lAll a b i).length + 2 * (lRow (fg a i) b i (nd b)).length) (qSum (lRow (fg a i) b i (nd b)) + qSum (lAll a b i)) := G.le (by simp; omega) (by simp [qSum_ap])
      obtain ⟨u2, E2, R2⟩ := qx_left_in (b := b) (x := fg a i) (i := i) (p1 := lN a) (e0 := fun s16 => xActs_left_L11 ac (lN a) (lN b) e0 f (lN (pw i)) s16) K H ht hb (by omega) (nd b) hk_F u A (pw_F (by have := nd_31 hb; omega)) (nd_31 hb) R (G1.le (by omega) (by omega))
      rw [E2]
      exact ih f u2 _ (by omega) (by omega) R2 (qLooks_G ht _ _ G1)
theorem qx_left {a b : Nat} (K : hk_KA ac st) (H : hk_KH st hd td t) (ht : ∀ i, t i ≤ 99) (ha : a < 2 ^ 31) (hb : b < 2 ^ 31) (ha0 : a ≠ 0) (hb0 : b ≠ 0) (R : RU u A hd g) (G : qG A (2 * (nd a * nd b)) (a * b)) :
    ∃ u', xActs_left ac (lN a) (lN b) (hk_aU ac st u) = some (hk_aU ac st u') ∧ RU u' (qLeft t a b A) hd g := by
  have h1 := nd_31 ha
  obtain ⟨u2, E2, R2⟩ := qx_left_out (e0 := fun s => some s) K H ht ha hb hb0 (nd a) hk_F u A (pw_F (by omega)) h1 R (G.le (Nat.mul_le_mul (Nat.le_refl 2) (lAll_len a b (nd a))) (Nat.le_of_eq (lAll_sum1 a b)))
  refine ⟨u2, ?_, R2⟩
  simp only [xActs_left, ll_sizeOf (show a < 2 ^ 63 by omega), Option.bind_some, tenTo_pred2 ha ha0, E2]
theorem qx_rows {a b : Nat} {e0 : Int32 → hk_St → Option hk_St} (K : hk_KA ac st) (H : hk_KH st hd td t) (ht : ∀ i, t i ≤ 99) (ha : nd a ≤ 4) (hb : nd b ≤ 4) (ha0 : a ≠ 0) (hab : a * b < 2 ^ 31) :
    ∀ m f j u g s, m < f → j + m = nd b → s.2.length ≤ j → RU u s.1 hd g → (∀ k r, s.2[k]? = some r → g k = lN r) → qG s.1 (rb m j) 0 →
    ∃ u' g', xActs_right_L6 ac (lN a) (lN b) e0 f (nI s.2.length) (lN (10 ^ j)) (hk_aU ac st u) = e0 (nI (qRows t a b m j s).2.length) (hk_aU ac st u') ∧
      RU u' (qRows t a b m j s).1 hd g' ∧ (∀ k r, (qRows t a b m j s).2[k]? = some r → g' k = lN r) := by
  have ha4 : a < 10 ^ 4 := nd_lt _ _ ha
  have hb4 : b < 10 ^ 4 := nd_lt _ _ hb
  intro m
  induction m with
  | zero =>
    intro f j u g s hf hj hl R hg _
    obtain ⟨f, rfl⟩ : ∃ g, f = g + 1 := ⟨f - 1, by omega⟩
    refine ⟨u, g, ?_, R, hg⟩
    show xActs_right_L6b ac (lN a) (lN b) e0 _ _ _ _ = _
    have hp : b < 10 ^ j := nd_lt _ _ (by omega)
    have hp2 : 10 ^ j < 2 ^ 63 := Nat.lt_of_le_of_lt (Nat.pow_le_pow_right (by decide) (show j ≤ 10 by omega)) (by decide)
    have e1 : lN b < lN (10 ^ j) := (pk_lLT (by omega) hp2).mpr hp
    simp only [xActs_right_L6b, e1, if_true]
    rfl
  | succ m ih =>
    intro f j u g s hf hj hl R hg G
    obtain ⟨f, rfl⟩ : ∃ g, f = g + 1 := ⟨f - 1, by omega⟩
    have hp : 10 ^ j < 2 ^ 63 := Nat.lt_of_le_of_lt (Nat.pow_le_pow_right (by decide) (show j ≤ 10 by omega)) (by decide)
    have hp0 : 10 ^ j ≠ 0 := Nat.pos_iff_ne_zero.mp (Nat.pow_pos (by decide))
    have e1 : ¬ lN b < lN (10 ^ j) := fun q => Nat.not_lt.mpr (nd_ge (b := b) (j := j) (by omega)) ((pk_lLT (by omega) hp).mp q)
    have e2 : ¬ lN (10 ^ j) = 0 := fun q => hp0 ((pk_lEQ hp (by decide)).mp q)
    have e3 : lN b / lN (10 ^ j) = lN (b / 10 ^ j) := pk_lDiv (by omega) (Nat.pos_of_ne_zero hp0) hp
    have e4 : lN (b / 10 ^ j) - lN (b / 10 ^ j) / (10 : Int64) * (10 : Int64) = lN (fg b j) := lLm_10 (Nat.lt_of_le_of_lt (Nat.div_le_self _ _) (by omega))
    have e5 : lN (10 ^ j) * (10 : Int64) = lN (10 ^ (j + 1)) := by rw [Nat.pow_succ]; exact lN_mul _ 10
    have hfg := fg_10 b j
    show ∃ u' g', xActs_right_L6b ac (lN a) (lN b) e0 (xActs_right_L6 ac (lN a) (lN b) e0 f) (nI s.2.length) (lN (10 ^ j)) (hk_aU ac st u) = _ ∧ _
    rw [qRows]
    simp only [xActs_right_L6b, e1, if_false, hk_gd, e2, not_false_eq_true, decide_true, if_true, e3, e4, e5, hk_nm, K.bf, lN_mul]
    by_cases h0 : fg b j = 0
    · rw [if_pos h0, if_pos ((lL_eq0 (by omega)).mpr h0)]
      exact ih f (j + 1) u g s (by omega) (by omega) (by omega) R hg (G.le (by rw [rb]; omega) (Nat.le_refl _))
    · rw [if_neg h0, if_neg (fun q => h0 ((lL_eq0 (by omega)).mp q))]
      have hy0 : fg b j * 10 ^ j ≠ 0 := Nat.mul_ne_zero h0 hp0
      have hy : fg b j * 10 ^ j ≤ b := fg_le b j
      have hay : a * (fg b j * 10 ^ j) < 2 ^ 31 := Nat.lt_of_le_of_lt (Nat.mul_le_mul_left a hy) hab
      have hay0 : a * (fg b j * 10 ^ j) ≠ 0 := Nat.mul_ne_zero ha0 hy0
      have G0 : qG s.1 (rb m (j + 1) + 1 + 2 * (nd a * nd (fg b j * 10 ^ j))) 0 := G.le (rb_row ha) (Nat.le_refl _)
      obtain ⟨u1, E1, R1⟩ := qx_begin K R
      have G1 := qBegin_G G0 (N' := a * (fg b j * 10 ^ j)) hay
      obtain ⟨u2, E2, R2⟩ := qx_left (a := a) (b := fg b j * 10 ^ j) K H ht (by omega) (by omega) ha0 hy0 R1 (G1.le (by omega) (Nat.le_refl _))
      have hR2 : uL u2 10 = lN (a * (fg b j * 10 ^ j)) := by
        rw [R2.2.2.2.2.1, qLeft_R hay0]
        show lN (0 + _) = _
        rw [Nat.zero_add]
      have hn6 : s.2.length < 6 := by omega
      have R3 : RU (uB_ u2 3 s.2.length (lN (a * (fg b j * 10 ^ j)))) (qLeft t a (fg b j * 10 ^ j) (qBegin s.1)) hd (fun i => if i = s.2.length then lN (a * (fg b j * 10 ^ j)) else g i) := by
        obtain ⟨R6, R7, R8, R9, RA, RB, RC, RH, RW, RX⟩ := R2
        refine ⟨R6, R7, R8, R9, RA, RB, RC, RH, ?_, ?_⟩
        · intro i
          rw [uB_B, RW]
          simp
        · intro i r hi
          simpa [uB_B, uA_B] using RX i r hi
      obtain ⟨u4, E4, R4⟩ := qx_begin K R3
      have h4 : uB u4 3 s.2.length = lN (a * (fg b j * 10 ^ j)) := by rw [R4.2.2.2.2.2.2.2.2.1]; simp
      have G4 : qG (qBegin (qLeft t a (fg b j * 10 ^ j) (qBegin s.1))) (rb m (j + 1) + 1) 0 := qBegin_G (qLeft_G ht (N := 0) (G1.le (Nat.le_refl _) (by omega))) (by omega)
      obtain ⟨u5, E5, R5⟩ := qx_hold (v := a * (fg b j * 10 ^ j)) (size := ns1 (a * (fg b j * 10 ^ j))) K H R4 (G4.le (by omega) (Nat.le_refl _)) (ns1_63 (by omega))
      have gr := fun u => aU_gRr (u := u) K
      have gA := fun u => aU_gL (u := u) K 10
      have tr := fun u => aU_tLr (u := u) K hn6
      have lr := fun u => aU_lLr (u := u) K hn6
      simp only [Nat.reduceAdd] at gA
      simp only [E1, E2, E4, E5, gr, gA, tr, lr, hR2, h4, Option.bind_some, hk_nn, K.bf, if_true, ll_sizeOf (show a * (fg b j * 10 ^ j) < 2 ^ 63 by omega), nI_1]
      have G5 := qHold_G (v := a * (fg b j * 10 ^ j)) ht (ns1_63 (show a * (fg b j * 10 ^ j) < 2 ^ 63 by omega)) G4
      have := ih f (j + 1) u5 _ (qHold t (a * (fg b j * 10 ^ j)) (ns1 (a * (fg b j * 10 ^ j))) (qBegin (qLeft t a (fg b j * 10 ^ j) (qBegin s.1))), s.2 ++ [a * (fg b j * 10 ^ j)]) (by omega) (by omega) (by simp; omega) R5 ?_ G5
      · simpa using this
      · intro k r hk
        rcases ap_get hk with ⟨h1, h2⟩ | ⟨h1, h2⟩
        · have h3 : ¬ k = s.2.length := by omega
          simp only [h3, if_false]
          exact hg k r h2
        · subst h1 h2
          simp
theorem qx_adds {p1 p2 : Int64} {n : Nat} {e0 : hk_St → Option hk_St} (K : hk_KA ac st) (H : hk_KH st hd td t) (ht : ∀ i, t i ≤ 99) (hn : n ≤ 6) :
    ∀ l f k u A, l.length < f → k + l.length = n → RU u A hd g → (∀ i r, l[i]? = some r → g (k + i) = lN r) → qG A l.length 0 → sR A + lS l < 2 ^ 31 → lZ l ≤ sK A →
    ∃ u', xActs_right_L135 ac p1 p2 (nI n) e0 f (nI k) (hk_aU ac st u) = e0 (hk_aU ac st u') ∧ RU u' (qAdds t l A) hd g := by
  intro l
  induction l with
  | nil =>
    intro f k u A hf hk R hg _ _ _
    obtain ⟨f, rfl⟩ : ∃ g, f = g + 1 := ⟨f - 1, by omega⟩
    refine ⟨u, ?_, R⟩
    show xActs_right_L135b ac p1 p2 (nI n) e0 _ _ _ = _
    have e1 : nI n ≤ nI k := nI_le (by simp at hk; omega) (by simp at hk; omega)
    simp only [xActs_right_L135b, e1, if_true]
  | cons r l ih =>
    intro f k u A hf hk R hg G hs hz
    obtain ⟨f, rfl⟩ : ∃ g, f = g + 1 := ⟨f - 1, by omega⟩
    simp only [List.length_cons] at hf hk
    have e1 : ¬ nI n ≤ nI k := nI_ge (by omega) (by omega)
    have hk6 : k < 6 := by omega
    have hgk : uB u 3 k = lN r := by rw [R.2.2.2.2.2.2.2.2.1]; exact hg 0 r rfl
    rw [lS] at hs
    rw [lZ] at hz
    have hr : r < 2 ^ 63 := by omega
    have B := G.1
    have hlen := G.2.2.1
    simp only [List.length_cons] at hlen
    have R1 : RU (uL_ (uI_ u 7 (nI (sK A - ns1 r))) 10 (lN (sR A + r))) (sR_ (sK_ A (sK A - ns1 r)) (sR A + r)) hd g := by
      obtain ⟨R6, R7, R8, R9, RA, RB, RC, RH, RW, RX⟩ := R
      exact ⟨R6, rfl, R8, R9, rfl, RB, RC, RH, RW, RX⟩
    have B1 : sK (sR_ (sK_ A (sK A - ns1 r)) (sR A + r)) ≤ 19 * ((sA A).length + 1) := by show sK A - ns1 r ≤ _; have := B.1; omega
    have hv : sR A + r < 2 ^ 63 := by omega
    obtain ⟨u2, E2, R2⟩ := qx_actR (so := 1) (v := sR A + r) (le := t 1 * ns1 (sR A + r)) (sl := 0) K R1 (by show (sA A).length < 120; omega) hv B1 B.2.1
    have G2 : qB (qAct 1 (sR A + r) (t 1 * ns1 (sR A + r)) 0 (sR_ (sK_ A (sK A - ns1 r)) (sR A + r))) := qAct_B B1 B.2.1 B.2.2 (ns1_le hv (by have := ht 1; omega)) hv
    have G3 : qG (qAct 1 (sR A + r) (t 1 * ns1 (sR A + r)) 0 (sR_ (sK_ A (sK A - ns1 r)) (sR A + r))) l.length 0 := by
      refine ⟨G2, (by show sR A + r < 2 ^ 31; omega), ?_, ?_⟩
      · show (sA A ++ [_]).length + l.length ≤ 120
        simp; omega
      · show (if sF A = true then 0 else sR A + r) + 0 < 2 ^ 31
        split <;> omega
    have g7 := fun u => aU_gI (u := u) K 7
    have p7 := fun u => aU_pI (u := u) K 7
    have gA := fun u => aU_gL (u := u) K 10
    have pA := fun u => aU_pL (u := u) K 10
    have gr := fun u => aU_gRr (u := u) K
    have lr := fun u => aU_lLr (u := u) K hk6
    have gH := fun u => aU_gH (u := u) K
    have hR := fun u => aU_hR (ac := ac) (u := u) H
    have h1 := fun u => aU_hI (u := u) K H (i := 1) (by decide)
    simp only [Nat.reduceAdd, nI1] at g7 p7 gA pA h1
    rw [nI1, lN0] at E2
    show ∃ u', xActs_right_L135b ac p1 p2 (nI n) e0 (xActs_right_L135 ac p1 p2 (nI n) e0 f) (nI k) (hk_aU ac st u) = _ ∧ _
    simp only [xActs_right_L135b, e1, if_false, hk_nm, hk_nn, hk_gd, Option.bind_some, g7, p7, gA, pA, gr, lr, gH, hR, h1, hgk, uB_I, uB_L, uL_I, uL_L, uH_I, uH_L, if_true, R.2.1, R.2.2.2.2.1, R.2.2.2.2.2.2.2.1, ll_sizeOf hr, ll_sizeOf hv,
      pk_sub (show ns1 r ≤ sK A by omega), lN_add, pk_mul, E2, K.bf, nI_1]
    exact ih f (k + 1) u2 _ (by omega) (by omega) R2 (fun i r' hi => by rw [show k + 1 + i = k + (i + 1) by omega]; exact hg (i + 1) r' (by simpa using hi)) G3 (by show sR A + r + lS l < 2 ^ 31; omega) (by show lZ l ≤ sK A - ns1 r; omega)
theorem qx_right {a b : Nat} (K : hk_KA ac st) (H : hk_KH st hd td t) (ht : ∀ i, t i ≤ 99) (ha : nd a ≤ 4) (hb : nd b ≤ 4) (ha0 : a ≠ 0) (hab : a * b < 2 ^ 31) (R : RU u qS0 hd g) :
    ∃ u' g', xActs_right ac (lN a) (lN b) (hk_aU ac st u) = some (hk_aU ac st u') ∧ RU u' (qRight t a b qS0) hd g' := by
  have G0 : qG qS0 (rb (nd b) 0) 0 := ⟨⟨by decide, by decide, by decide⟩, by decide, by have := rb_le hb; show 0 + _ ≤ 120; omega, by decide⟩
  obtain ⟨u1, g1, E1, R1, hg1⟩ := qx_rows (e0 := fun (v4 : Int32) (s5 : hk_St) =>
    if (2 : Int32) ≤ v4 then
      (hk_gI [2] 207 s5 ac).bind fun x33 =>
      (hk_gR [2] 214 s5 ac).bind fun x34 =>
      hk_nn x34 fun a35 =>
      (hk_lL s5 a35 (0 : Int32)).bind fun x36 =>
      (x_sizeOf x36).bind fun x37 =>
      (hk_pI [2] 207 s5 ac (x33 - x37)).bind fun s38 =>
      (hk_gR [2] 214 s38 ac).bind fun x39 =>
      hk_nn x39 fun a40 =>
      (hk_lL s38 a40 (0 : Int32)).bind fun x41 =>
      (hk_pL [2] 210 s38 ac x41).bind fun s42 =>
      xActs_right_L135 ac (lN a) (lN b) v4 (fun (s46 : hk_St) =>
        some s46) hk_F (1 : Int32) s42
    else
    some s5) K H ht ha hb ha0 hab (nd b) hk_F 0 u g (qS0, []) (pw_F (by omega)) (by omega) (by simp) R (by simp) G0
  have hS := qRows_S (t := t) (a := a) (b := b) (nd b) 0 (qS0, [])
  have hK := qRows_K (t := t) (a := a) (b := b) (nd b) 0 (qS0, [])
  have hL := qRows_len (t := t) (a := a) (b := b) (nd b) 0 (qS0, [])
  have hG := qRows_G ht ha hab (nd b) 0 (qS0, []) G0
  rw [Nat.zero_add, nd_mod] at hS
  have hF : xActs_right ac (lN a) (lN b) (hk_aU ac st u) = _ := E1
  rw [hF, qRight]
  generalize qRows t a b (nd b) 0 (qS0, []) = q at *
  obtain ⟨A, rs⟩ := q
  simp only [lS, lZ, Nat.pow_zero, Nat.mod_one, Nat.mul_zero, Nat.add_zero, Nat.zero_add, List.length_nil] at hS hK hL
  match rs with
  | [] =>
    refine ⟨u1, g1, ?_, R1⟩
    simp only [List.length_nil]
    rw [if_neg (by decide)]
  | [r] =>
    refine ⟨u1, g1, ?_, R1⟩
    simp only [List.length_singleton]
    rw [if_neg (by decide)]
  | r :: r2 :: l =>
    have h2 : (2 : Int32) ≤ nI (r :: r2 :: l).length := by
      rw [← nI2]; exact nI_le (by simp) (by simp only [List.length_cons] at hL ⊢; omega)
    simp only [lS, lZ] at hS hK
    have hr0 : uB u1 3 0 = lN r := by rw [R1.2.2.2.2.2.2.2.2.1]; exact hg1 0 r rfl
    have hr63 : r < 2 ^ 63 := by omega
    have hKA : sK A = ns1 r + (ns1 r2 + lZ l) := by have : sK qS0 = 0 := rfl; omega
    have g7 := fun u => aU_gI (u := u) K 7
    have p7 := fun u => aU_pI (u := u) K 7
    have pA := fun u => aU_pL (u := u) K 10
    have gr := fun u => aU_gRr (u := u) K
    have lr := fun u => aU_lLr (u := u) K (n := 0) (by decide)
    simp only [Nat.reduceAdd, nI_0] at g7 p7 pA lr
    have R2 : RU (uL_ (uI_ u1 7 (nI (sK A - ns1 r))) 10 (lN r)) (sR_ (sK_ A (sK A - ns1 r)) r) hd g1 := by
      obtain ⟨R6, R7, R8, R9, RA, RB, RC, RH, RW, RX⟩ := R1
      exact ⟨R6, rfl, R8, R9, rfl, RB, RC, RH, RW, RX⟩
    simp only [List.length_cons] at hL
    have hG' : qG A 3 0 := hG
    obtain ⟨⟨B1, B2, B3⟩, C1, C2, C3⟩ := hG'
    have G2 : qG (sR_ (sK_ A (sK A - ns1 r)) r) (r2 :: l).length 0 := by
      refine ⟨⟨?_, B2, B3⟩, ?_, ?_, ?_⟩
      · show sK A - ns1 r ≤ 19 * (sA A).length; omega
      · show r < 2 ^ 31; omega
      · show (sA A).length + _ ≤ 120; simp; omega
      · show (if sF A = true then 0 else r) + 0 < 2 ^ 31
        split <;> omega
    obtain ⟨u3, E3, R3⟩ := qx_adds (p1 := lN a) (p2 := lN b) (n := (r :: r2 :: l).length) (e0 := fun s => some s) K H ht (by simp; omega) (r2 :: l) hk_F 1 _ _ (pw_F (by simp; omega)) (by simp; omega) R2
      (fun i r' hi => by rw [Nat.add_comm]; exact hg1 (i + 1) r' (by simpa using hi)) G2 (by show r + lS (r2 :: l) < 2 ^ 31; rw [lS]; omega) (by show lZ (r2 :: l) ≤ sK A - ns1 r; rw [lZ]; omega)
    rw [nI1] at E3
    refine ⟨u3, g1, ?_, R3⟩
    simp only [h2, if_true, Option.bind_some, hk_nn, g7, p7, pA, gr, lr, hr0, uB_I, R1.2.1, ll_sizeOf hr63, pk_sub (show ns1 r ≤ sK A by omega), E3]
end S2X
