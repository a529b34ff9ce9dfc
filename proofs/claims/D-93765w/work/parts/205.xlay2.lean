set_option maxRecDepth 100000
/-! ===== STAGE 2: squared, split, lay ===== -/
section S2M
variable {ac hd td : Nat} {st : hk_St} {u : hk_U} {A : qS} {t : Nat → Nat} {g : Nat → Int64}
/-- running made another, something held no more, an add -/
theorem qx_last {v z : Nat} (K : hk_KA ac st) (R : RU u A hd g) (ht : ∀ i, t i ≤ 99) (G : qG A 1 0) (hv : v < 2 ^ 31) :
    ∃ u', xActs_act ac (1 : Int32) (lN v) (nI (t 1) * nI (ns1 v)) (0 : Int64) (hk_aU ac st (uL_ (uI_ u 7 (nI (sK A - z))) 10 (lN v))) = some (hk_aU ac st u') ∧ RU u' (qLast t v z A) hd g := by
  have B := G.1
  have hlen := G.2.2.1
  have R1 : RU (uL_ (uI_ u 7 (nI (sK A - z))) 10 (lN v)) (sR_ (sK_ A (sK A - z)) v) hd g := by
    obtain ⟨R6, R7, R8, R9, RA, RB, RC, RH, RW, RX⟩ := R
    exact ⟨R6, rfl, R8, R9, rfl, RB, RC, RH, RW, RX⟩
  obtain ⟨u2, E2, R2⟩ := qx_actR (so := 1) (v := v) (le := t 1 * ns1 v) (sl := 0) K R1 (by show (sA A).length < 120; omega) (by show v < 2 ^ 63; omega) (by show sK A - z ≤ 19 * ((sA A).length + 1); have := B.1; omega) B.2.1
  rw [nI1, lN0] at E2
  rw [pk_mul]
  exact ⟨u2, E2, R2⟩
theorem qx_squared {a b : Nat} (K : hk_KA ac st) (H : hk_KH st hd td t) (ht : ∀ i, t i ≤ 99) (ha : nd a ≤ 4) (hb : nd b ≤ 4) (ha0 : a ≠ 0) (hb0 : b ≠ 0) (R : RU u qS0 hd g) :
    ∃ u', xActs_squared ac (lN a) (lN b) (hk_aU ac st u) = some (if (qSquared t a b qS0).1 then (1 : Int32) else 0, hk_aU ac st u') ∧ RU u' (qSquared t a b qS0).2 hd g := by
  have ha4 : a < 10 ^ 4 := nd_lt _ _ ha
  have hb4 : b < 10 ^ 4 := nd_lt _ _ hb
  have e1 : (lN a + lN b) - (lN a + lN b) / (2 : Int64) * (2 : Int64) = lN ((a + b) % 2) := by
    rw [lN_add]; exact pk_lRem (b := 2) (by omega) (by decide) (by decide)
  have e2 : (lN a + lN b) / (2 : Int64) = lN ((a + b) / 2) := by
    rw [lN_add]; exact pk_lDiv (b := 2) (by omega) (by decide) (by decide)
  have e3 : j_abs_j (lN a - lN b) / (2 : Int64) = lN ((max a b - min a b) / 2) := by
    rw [jabs_lN (by omega) (by omega)]; exact pk_lDiv (b := 2) (by omega) (by decide) (by decide)
  by_cases h2 : (a + b) % 2 = 0
  · have hs : (a + b) / 2 < 10 ^ 4 := by omega
    have hs0 : (a + b) / 2 ≠ 0 := by omega
    have hd4 : (max a b - min a b) / 2 < 10 ^ 4 := by omega
    have hns := nd_bnd 4 _ hs
    have hnd := nd_bnd 4 _ hd4
    have hss : (a + b) / 2 * ((a + b) / 2) < 10 ^ 8 := by
      have := Nat.mul_lt_mul'' hs hs
      simpa using this
    have hdd : (max a b - min a b) / 2 * ((max a b - min a b) / 2) < 10 ^ 8 := by
      have := Nat.mul_lt_mul'' hd4 hd4
      simpa using this
    have hab : (a + b) / 2 * ((a + b) / 2) - (max a b - min a b) / 2 * ((max a b - min a b) / 2) = a * b := by
      rcases Nat.le_total a b with h | h
      · rw [Nat.max_eq_right h, Nat.min_eq_left h]
        obtain ⟨d, rfl⟩ : ∃ d, b = a + 2 * d := ⟨(b - a) / 2, by omega⟩
        rw [show (a + (a + 2 * d)) / 2 = a + d by omega, show (a + 2 * d - a) / 2 = d by omega]
        have : (a + d) * (a + d) = a * (a + 2 * d) + d * d := by simp only [Nat.mul_add, Nat.add_mul, Nat.two_mul, Nat.mul_comm d a]; omega
        omega
      · rw [Nat.max_eq_left h, Nat.min_eq_right h]
        obtain ⟨d, rfl⟩ : ∃ d, a = b + 2 * d := ⟨(a - b) / 2, by omega⟩
        rw [show (b + 2 * d + b) / 2 = b + d by omega, show (b + 2 * d - b) / 2 = d by omega]
        have : (b + d) * (b + d) = (b + 2 * d) * b + d * d := by simp only [Nat.mul_add, Nat.add_mul, Nat.two_mul, Nat.mul_comm d b]; omega
        omega
    have hle : (max a b - min a b) / 2 * ((max a b - min a b) / 2) ≤ (a + b) / 2 * ((a + b) / 2) := by
      have : (max a b - min a b) / 2 ≤ (a + b) / 2 := by omega
      exact Nat.mul_le_mul this this
    have hq : (qSquared t a b qS0) = (true, qLast t (a * b) (ns1 ((a + b) / 2 * ((a + b) / 2))) (qSq t ((a + b) / 2) ((max a b - min a b) / 2)
        (qHold t ((a + b) / 2 * ((a + b) / 2)) (ns1 ((a + b) / 2 * ((a + b) / 2))) (qBegin (qLeft t ((a + b) / 2) ((a + b) / 2) qS0))))) := by
      rw [qSquared, if_neg (by omega)]
    rw [hq]
    generalize hS : (a + b) / 2 = s at *
    generalize hD : (max a b - min a b) / 2 = d at *
    rw [e2, h2, lN0] at e1
    have hmul : nd s * nd s ≤ 4 * 4 := Nat.mul_le_mul hns hns
    have hmul2 : nd d * nd d ≤ 4 * 4 := Nat.mul_le_mul hnd hnd
    have G0 : qG qS0 (34 + 2 * (nd s * nd s)) (s * s + 0) := ⟨⟨by decide, by decide, by decide⟩, by decide, (by show 0 + _ ≤ 120; omega), (by show 0 + _ < 2 ^ 31; omega)⟩
    obtain ⟨u1, E1, R1⟩ := qx_left (a := s) (b := s) K H ht (by omega) (by omega) hs0 hs0 R (G0.le (by omega) (by omega))
    have G1 := qLeft_G ht G0
    obtain ⟨u2, E2, R2⟩ := qx_begin K R1
    have G2 := qBegin_G G1 (N' := 10 ^ 9) (by decide)
    have hz := ns1_63 (show s * s < 2 ^ 63 by omega)
    obtain ⟨u3, E3, R3⟩ := qx_hold (v := s * s) (size := ns1 (s * s)) K H R2 (G2.le (by omega) (by omega)) hz
    have G3 := qHold_G (t := t) (v := s * s) (size := ns1 (s * s)) ht hz (n := 33) G2
    have hKq : sK (qHold t (s * s) (ns1 (s * s)) (qBegin (qLeft t s s qS0))) = ns1 (s * s) := by
      show sK (qLeft t s s qS0) + _ = _
      rw [qLeft_K]; exact Nat.zero_add _
    have hab2 : lN (s * s) - lN (d * d) = lN (a * b) := by rw [lN_sub hle, hab]
    have hab31 : a * b < 2 ^ 31 := by omega
    have g7 := fun u => aU_gI (u := u) K 7
    have p7 := fun u => aU_pI (u := u) K 7
    have gA := fun u => aU_gL (u := u) K 10
    have pA := fun u => aU_pL (u := u) K 10
    have gH := fun u => aU_gH (u := u) K
    have hR := fun u => aU_hR (ac := ac) (u := u) H
    have h1 := fun u => aU_hI (u := u) K H (i := 1) (by decide)
    simp only [Nat.reduceAdd, nI1] at g7 p7 gA pA h1
    by_cases hd0 : d = 0
    · have hq2 : qSq t s d (qHold t (s * s) (ns1 (s * s)) (qBegin (qLeft t s s qS0))) = qHold t (s * s) (ns1 (s * s)) (qBegin (qLeft t s s qS0)) := by rw [qSq, if_pos hd0]
      rw [hq2]
      obtain ⟨u4, E4, R4⟩ := qx_last (z := ns1 (s * s)) (v := a * b) K R3 ht (G3.le (by omega) (by omega)) hab31
      refine ⟨u4, ?_, R4⟩
      have hle0 : lN d ≤ (0 : Int64) := (lL_le0 (by omega)).mpr hd0
      simp only [xActs_squared, hk_nm, hk_nn, e1, h2, lN0, if_true, e2, e3, E1, E2, E3, Option.bind_some, gd_bf K, lN_mul, ll_sizeOf (show s * s < 2 ^ 63 by omega), hle0, g7, p7, gA, pA, gH, hR, h1,
        R3.2.1, pk_sub (show ns1 (s * s) ≤ sK (qHold t (s * s) (ns1 (s * s)) (qBegin (qLeft t s s qS0))) by rw [hKq]; exact Nat.le_refl _), hab2, uL_L, uL_I, uH_L, uH_I, R3.2.2.2.2.2.2.2.1, ll_sizeOf (show a * b < 2 ^ 63 by omega), E4]
    · have hq2 : qSq t s d (qHold t (s * s) (ns1 (s * s)) (qBegin (qLeft t s s qS0))) = qLeft t d d (qHold t (s * s) (ns1 (s * s)) (qBegin (qLeft t s s qS0))) := by rw [qSq, if_neg hd0]
      rw [hq2]
      have G4' : qG (qHold t (s * s) (ns1 (s * s)) (qBegin (qLeft t s s qS0))) (1 + 2 * (nd d * nd d)) (d * d + 0) := G3.le (by omega) (by omega)
      obtain ⟨u4, E4, R4⟩ := qx_left (a := d) (b := d) K H ht (by omega) (by omega) hd0 hd0 R3 (G4'.le (by omega) (by omega))
      have G4 := qLeft_G ht G4'
      obtain ⟨u5, E5, R5⟩ := qx_last (z := ns1 (s * s)) (v := a * b) K R4 ht G4 hab31
      refine ⟨u5, ?_, R5⟩
      have hle0 : ¬ lN d ≤ (0 : Int64) := fun q => hd0 ((lL_le0 (by omega)).mp q)
      simp only [xActs_squared, hk_nm, hk_nn, e1, h2, lN0, if_true, if_false, e2, e3, E1, E2, E3, E4, Option.bind_some, gd_bf K, lN_mul, ll_sizeOf (show s * s < 2 ^ 63 by omega), hle0, g7, p7, gA, pA, gH, hR, h1,
        R4.2.1, pk_sub (show ns1 (s * s) ≤ sK (qLeft t d d (qHold t (s * s) (ns1 (s * s)) (qBegin (qLeft t s s qS0)))) by rw [qLeft_K, hKq]; exact Nat.le_refl _), hab2, uL_L, uL_I, uH_L, uH_I, R4.2.2.2.2.2.2.2.1, ll_sizeOf (show a * b < 2 ^ 63 by omega), E5]
  · have hq : (qSquared t a b qS0) = (false, qS0) := by rw [qSquared, if_pos h2]
    rw [hq]
    refine ⟨u, ?_, R⟩
    have e4 : ¬ lN ((a + b) % 2) = (0 : Int64) := fun q => h2 ((lL_eq0 (by omega)).mp q)
    simp only [xActs_squared, hk_nm, e1, e4, if_false]
    rfl
theorem qFind_le (b : Nat) : ∀ p, qFind b p ≤ p := by
  intro p
  induction p with
  | zero => exact Nat.le_refl _
  | succ p ih =>
    rw [qFind]
    split
    · omega
    · split
      · exact Nat.le_refl _
      · omega
theorem qFind_is (b : Nat) : ∀ p, qFind b p ≠ 0 → 2 ≤ qFind b p ∧ b % qFind b p = 0 ∧ b ≠ qFind b p := by
  intro p
  induction p with
  | zero => intro h; exact absurd rfl h
  | succ p ih =>
    intro h
    rw [qFind] at h ⊢
    by_cases h0 : p = 0
    · rw [if_pos h0] at h; exact absurd rfl h
    · rw [if_neg h0] at h ⊢
      by_cases h1 : b % (p + 1) = 0 ∧ b ≠ p + 1
      · rw [if_pos h1] at h ⊢; exact ⟨by omega, h1⟩
      · rw [if_neg h1] at h ⊢; exact ih h
theorem qx_find {a b : Nat} {e0 : Int64 → hk_St → Option (Int32 × hk_St)} {s : hk_St} (hb : b < 2 ^ 31) :
    ∀ p f, p < f → 0 < p → p ≤ 99 → ∃ q, xActs_split_L12 ac (lN a) (lN b) e0 f (lN p) s = e0 (lN q) s ∧ (qFind b p = 0 → q = 1) ∧ (qFind b p ≠ 0 → q = qFind b p) := by
  intro p
  induction p with
  | zero => intro f _ h; omega
  | succ p ih =>
    intro f hf _ hp
    obtain ⟨f, rfl⟩ : ∃ g, f = g + 1 := ⟨f - 1, by omega⟩
    show ∃ q, xActs_split_L12b ac (lN a) (lN b) e0 (xActs_split_L12 ac (lN a) (lN b) e0 f) (lN (p + 1)) s = _ ∧ _
    rw [qFind]
    by_cases h0 : p = 0
    · subst h0
      refine ⟨1, ?_, fun _ => rfl, fun h => absurd rfl h⟩
      have e1 : lN (0 + 1) ≤ (1 : Int64) := by decide
      simp only [xActs_split_L12b, e1, if_true]
    · rw [if_neg h0]
      have e1 : ¬ lN (p + 1) ≤ (1 : Int64) := fun q => by have := (pk_lLE (a := p + 1) (b := 1) (by omega) (by decide)).mp q; omega
      have e2 : ¬ lN (p + 1) = 0 := fun q => by have := (lL_eq0 (v := p + 1) (by omega)).mp q; omega
      have e3 : lN b - lN b / lN (p + 1) * lN (p + 1) = lN (b % (p + 1)) := pk_lRem (by omega) (by omega) (by omega)
      have e4 : lN (p + 1) - (1 : Int64) = lN p := by rw [← lN1, lN_sub (by omega)]; congr 1
      have hmod : b % (p + 1) < 2 ^ 63 := Nat.lt_of_le_of_lt (Nat.mod_le _ _) (by omega)
      simp only [xActs_split_L12b, e1, if_false, hk_gd, e2, not_false_eq_true, decide_true, if_true, e3, hk_nm, e4]
      by_cases h1 : b % (p + 1) = 0
      · rw [if_pos ((lL_eq0 hmod).mpr h1)]
        by_cases h2 : b = p + 1
        · rw [if_pos ((pk_lEQ (by omega) (by omega)).mpr h2), if_neg (by omega)]
          exact ih f (by omega) (by omega) (by omega)
        · rw [if_neg (fun q => h2 ((pk_lEQ (by omega) (by omega)).mp q)), if_pos ⟨h1, h2⟩]
          exact ⟨p + 1, rfl, fun h => absurd h (by omega), fun _ => rfl⟩
      · rw [if_neg (fun q => h1 ((lL_eq0 hmod).mp q)), if_neg (by omega)]
        exact ih f (by omega) (by omega) (by omega)
theorem qx_split {a b : Nat} (K : hk_KA ac st) (H : hk_KH st hd td t) (ht : ∀ i, t i ≤ 99) (ht3 : 0 < t 3) (ha : nd a ≤ 4) (hb : nd b ≤ 4) (ha0 : a ≠ 0) (hb0 : b ≠ 0) (R : RU u qS0 hd g) :
    ∃ u', xActs_split ac (lN a) (lN b) (hk_aU ac st u) = some (if (qSplit t a b qS0).1 then (1 : Int32) else 0, hk_aU ac st u') ∧ RU u' (qSplit t a b qS0).2 hd g := by
  have ha4 : a < 10 ^ 4 := nd_lt _ _ ha
  have hb4 : b < 10 ^ 4 := nd_lt _ _ hb
  have ht3' := ht 3
  have gH := fun u => aU_gH (u := u) K
  have hR := fun u => aU_hR (ac := ac) (u := u) H
  have h3 := fun u => aU_hI (u := u) K H (i := 3) (by decide)
  rw [nI3] at h3
  have hl : (nI (t 3)).toInt64 = lN (t 3) := nI_l (by omega)
  obtain ⟨q, hq, hq1, hq2⟩ := qx_find (ac := ac) (a := a) (b := b) (s := hk_aU ac st u) (e0 := fun (v8 : Int64) (s9 : hk_St) =>
    if (2 : Int64) ≤ v8 then
      (xActs_left ac (lN a) v8 s9).bind fun s17 =>
      hk_gd (hk_bf [2] s9 ac) <|
      (xActs_begin ac s17).bind fun s19 =>
      hk_gd (hk_bf [2] s17 ac) <|
      (x_sizeOf (lN a * v8)).bind fun x21 =>
      (xActs_hold ac (lN a * v8) x21 s19).bind fun s22 =>
      hk_gd (hk_bf [2] s19 ac) <|
      hk_gd (decide (¬ v8 = 0)) <|
      (xActs_left ac (lN a * v8) (lN b / v8) s22).bind fun s25 =>
      hk_gd (hk_bf [2] s22 ac) <|
      some ((1 : Int32), s25)
    else
    some ((0 : Int32), s9)) (by omega) (t 3) hk_F (pw_F (by omega)) ht3 ht3'
  simp only [xActs_split, hk_nn, gH, hR, h3, hl, R.2.2.2.2.2.2.2.1, Option.bind_some]
  rw [hq, qSplit]
  by_cases hf : qFind b (t 3) = 0
  · rw [if_pos hf, hq1 hf]
    refine ⟨u, ?_, R⟩
    rw [if_neg (by decide)]
    rfl
  · rw [if_neg hf]
    have hqq := hq2 hf
    obtain ⟨f1, f2, f3⟩ := qFind_is b (t 3) hf
    have f4 := qFind_le b (t 3)
    rw [← hqq] at f1 f2 f3 f4 ⊢
    have hbq : b / q * q = b := Nat.div_mul_cancel (Nat.dvd_of_mod_eq_zero f2)
    have hbq0 : b / q ≠ 0 := fun h => by rw [h, Nat.zero_mul] at hbq; exact hb0 hbq.symm
    have haq0 : a * q ≠ 0 := Nat.mul_ne_zero ha0 (by omega)
    have haq : a * q < 10 ^ 6 := by
      have := Nat.mul_lt_mul'' ha4 (show q < 10 ^ 2 by omega)
      simpa using this
    have hbq5 : b / q < 5000 := by
      have h1 : b / q ≤ b / 2 := Nat.div_le_div_left f1 (by decide)
      omega
    have hprod : a * q * (b / q) = a * b := by rw [Nat.mul_assoc, Nat.mul_comm q, hbq]
    have hab : a * b < 10 ^ 8 := by
      have := Nat.mul_lt_mul'' ha4 hb4
      simpa using this
    have n1 := nd_bnd 2 q (by omega)
    have n2 := nd_bnd 6 _ haq
    have n3 := nd_bnd 4 (b / q) (by omega)
    have m1 : nd a * nd q ≤ 4 * 2 := Nat.mul_le_mul ha n1
    have m2 : nd (a * q) * nd (b / q) ≤ 6 * 4 := Nat.mul_le_mul n2 n3
    have G0 : qG qS0 (49 + 2 * (nd a * nd q)) (a * q + 0) := ⟨⟨by decide, by decide, by decide⟩, by decide, (by show 0 + _ ≤ 120; omega), (by show 0 + _ < 2 ^ 31; omega)⟩
    obtain ⟨u1, E1, R1⟩ := qx_left (a := a) (b := q) K H ht (by omega) (by omega) ha0 (by omega) R (G0.le (by omega) (by omega))
    have G1 := qLeft_G ht G0
    obtain ⟨u2, E2, R2⟩ := qx_begin K R1
    have G2 := qBegin_G G1 (N' := 10 ^ 9) (by decide)
    have hz := ns1_63 (show a * q < 2 ^ 63 by omega)
    obtain ⟨u3, E3, R3⟩ := qx_hold (v := a * q) (size := ns1 (a * q)) K H R2 (G2.le (by omega) (by omega)) hz
    have G3 := qHold_G (t := t) (v := a * q) (size := ns1 (a * q)) ht hz (n := 48) G2
    obtain ⟨u4, E4, R4⟩ := qx_left (a := a * q) (b := b / q) K H ht (by omega) (by omega) haq0 hbq0 R3 (G3.le (by omega) (by rw [hprod]; omega))
    refine ⟨u4, ?_, R4⟩
    have e1 : (2 : Int64) ≤ lN q := (pk_lLE (a := 2) (b := q) (by decide) (by omega)).mpr f1
    have e2 : ¬ lN q = 0 := fun h => by have := (lL_eq0 (v := q) (by omega)).mp h; omega
    have e3 : lN b / lN q = lN (b / q) := pk_lDiv (by omega) (by omega) (by omega)
    simp only [e1, if_true, E1, E2, E3, E4, Option.bind_some, hk_gd, K.bf, lN_mul, ll_sizeOf (show a * q < 2 ^ 63 by omega), e2, not_false_eq_true, decide_true, e3]
/-- the whole of lay -/
theorem qx_lay {a b w : Nat} {kn : Bool} (K : hk_KA ac st) (H : hk_KH st hd td t) (ht : ∀ i, t i ≤ 99) (ht3 : 0 < t 3) (ha : nd a ≤ 4) (hb : nd b ≤ 4) (ha0 : a ≠ 0) (hb0 : b ≠ 0) (hw : w ≤ 6)
    (hkn : ∀ u, xHead_knows hd (nI a) (nI b) (hk_aU ac st u) = some (if kn then (1 : Int32) else 0)) :
    ∃ u' g', xActs_lay ac hd (nI w) (nI a) (nI b) (hk_aU ac st u) = some (if (qLay t kn w a b).1 then (1 : Int32) else 0, hk_aU ac st u') ∧ RU u' (qLay t kn w a b).2 hd g' := by
  have ha4 : a < 10 ^ 4 := nd_lt _ _ ha
  have hb4 : b < 10 ^ 4 := nd_lt _ _ hb
  have hab : a * b < 2 ^ 31 := by
    have := Nat.mul_lt_mul'' ha4 hb4
    omega
  have hba : b * a < 2 ^ 31 := by rw [Nat.mul_comm]; exact hab
  have p6 := fun u => aU_pI (u := u) K 6
  have p7 := fun u => aU_pI (u := u) K 7
  have p8 := fun u => aU_pI (u := u) K 8
  have p9 := fun u => aU_pI (u := u) K 9
  have pB := fun u => aU_pL (u := u) K 11
  have pH := fun u => aU_pH (u := u) K
  simp only [Nat.reduceAdd] at p6 p7 p8 p9 pB
  have R0 : RU (uL_ (uI_ (uL_ (uI_ (uI_ (uI_ (uI_ (uH_ u (some hd)) 6 0) 7 0) 8 0) 9 0) 11 1) 12 1) 10 0) qS0 hd (fun i => uB u 3 i) := by
    refine ⟨rfl, rfl, rfl, rfl, rfl, rfl, rfl, rfl, fun i => rfl, ?_⟩
    intro i r h
    exact absurd h (by show ¬ ([] : List qA)[i]? = some r; simp)
  have e0 : xActs_begin ac (hk_aU ac st (uL_ (uI_ (uI_ (uI_ (uI_ (uH_ u (some hd)) 6 0) 7 0) 8 0) 9 0) 11 1)) = some (hk_aU ac st (uI_ (uL_ (uL_ (uI_ (uI_ (uI_ (uI_ (uH_ u (some hd)) 6 0) 7 0) 8 0) 9 0) 11 1) 10 0) 12 1)) := by
    have pA := fun u => aU_pL (u := u) K 10
    have pC := fun u => aU_pI (u := u) K 12
    simp only [Nat.reduceAdd] at pA pC
    simp only [xActs_begin, pA, pC, Option.bind_some]
  have R1 : RU (uI_ (uL_ (uL_ (uI_ (uI_ (uI_ (uI_ (uH_ u (some hd)) 6 0) 7 0) 8 0) 9 0) 11 1) 10 0) 12 1) qS0 hd (fun i => uB u 3 i) := R0
  have hla : (nI a).toInt64 = lN a := nI_l (by omega)
  have hlb : (nI b).toInt64 = lN b := nI_l (by omega)
  have w0 : ∀ k : Nat, k ≤ 6 → (nI w = nI k ↔ w = k) := fun k hk => li_eqI (by omega) (by omega)
  have hB : ∀ k, (k = true ∨ k = false) → (if k = true then (1 : Int32) else 0) &&& 1 = (if k = true then (1 : Int32) else 0) := by
    intro k hk; rcases hk with rfl | rfl <;> decide
  have q0 : nI 0 = (0 : Int32) := rfl
  have q1 : nI 1 = (1 : Int32) := rfl
  have q2 : nI 2 = (2 : Int32) := rfl
  have q3 : nI 3 = (3 : Int32) := rfl
  have q4 : nI 4 = (4 : Int32) := rfl
  have q5 : nI 5 = (5 : Int32) := rfl
  simp only [xActs_lay, p6, p7, p8, p9, pB, pH, Option.bind_some, e0, hk_gd, K.bf, if_true, hla, hlb]
  have hbf : hk_bf [3] (hk_aU ac st (uI_ (uL_ (uL_ (uI_ (uI_ (uI_ (uI_ (uH_ u (some hd)) 6 0) 7 0) 8 0) 9 0) 11 1) 10 0) 12 1)) hd = true := by
    have h1 : hk_k (hk_aU ac st (uI_ (uL_ (uL_ (uI_ (uI_ (uI_ (uI_ (uH_ u (some hd)) 6 0) 7 0) 8 0) 9 0) 11 1) 10 0) 12 1)) hd = some (3, 0) := H.1
    simp [hk_bf, h1]
  have hc : w = 0 ∨ w = 1 ∨ w = 2 ∨ w = 3 ∨ w = 4 ∨ w = 5 ∨ w = 6 := by omega
  have m1 : nd a * nd b ≤ 4 * 4 := Nat.mul_le_mul ha hb
  rcases hc with rfl | rfl | rfl | rfl | rfl | rfl | rfl
  · simp only [q0, if_true, hkn, Option.bind_some, hbf]
    cases kn with
    | false => exact ⟨_, _, rfl, R1⟩
    | true =>
      obtain ⟨u2, E2, R2⟩ := qx_look (x := a) (y := b) (w := 1) K H ht R1 ⟨⟨by decide, by decide, by decide⟩, by decide, by decide, (by show 0 + _ < 2 ^ 31; omega)⟩ (by omega) (by omega)
      rw [lN1] at E2
      refine ⟨u2, _, ?_, R2⟩
      simp only [if_true, show ¬ (1 : Int32) = 0 by decide, if_false, E2, Option.bind_some]
      rfl
  · obtain ⟨u2, E2, R2⟩ := qx_left (a := a) (b := b) K H ht (by omega) (by omega) ha0 hb0 R1 ⟨⟨by decide, by decide, by decide⟩, by decide, (by show 0 + _ ≤ 120; omega), (by show 0 + _ < 2 ^ 31; omega)⟩
    refine ⟨u2, _, ?_, R2⟩
    simp only [q1, show ¬ (1 : Int32) = 0 by decide, if_false, if_true, E2, Option.bind_some]
    rfl
  · obtain ⟨u2, g2, E2, R2⟩ := qx_right (a := a) (b := b) K H ht ha hb ha0 hab R1
    refine ⟨u2, g2, ?_, R2⟩
    simp only [q2, show ¬ (2 : Int32) = 0 by decide, show ¬ (2 : Int32) = 1 by decide, if_false, if_true, E2, Option.bind_some]
    rfl
  · obtain ⟨u2, E2, R2⟩ := qx_crossed (a := a) (b := b) K H ht ha hb ha0 hb0 R1
    refine ⟨u2, _, ?_, R2⟩
    simp only [q3, show ¬ (3 : Int32) = 0 by decide, show ¬ (3 : Int32) = 1 by decide, show ¬ (3 : Int32) = 2 by decide, if_false, if_true, E2, Option.bind_some]
    rfl
  · obtain ⟨u2, E2, R2⟩ := qx_squared (a := a) (b := b) K H ht ha hb ha0 hb0 R1
    refine ⟨u2, _, ?_, R2⟩
    have hb2 := hB (qSquared t a b qS0).1 (by cases (qSquared t a b qS0).1 <;> simp)
    simp only [q4, show ¬ (4 : Int32) = 0 by decide, show ¬ (4 : Int32) = 1 by decide, show ¬ (4 : Int32) = 2 by decide, show ¬ (4 : Int32) = 3 by decide, if_false, if_true, E2, Option.bind_some, hb2, decide_true]
    rfl
  · obtain ⟨u2, E2, R2⟩ := qx_split (a := a) (b := b) K H ht ht3 ha hb ha0 hb0 R1
    refine ⟨u2, _, ?_, R2⟩
    have hb2 := hB (qSplit t a b qS0).1 (by cases (qSplit t a b qS0).1 <;> simp)
    simp only [q5, show ¬ (5 : Int32) = 0 by decide, show ¬ (5 : Int32) = 1 by decide, show ¬ (5 : Int32) = 2 by decide, show ¬ (5 : Int32) = 3 by decide, show ¬ (5 : Int32) = 4 by decide, if_false, if_true, E2, Option.bind_some, hb2, decide_true]
    rfl
  · obtain ⟨u2, g2, E2, R2⟩ := qx_right (a := b) (b := a) K H ht hb ha hb0 hba R1
    refine ⟨u2, g2, ?_, R2⟩
    have q6 : nI 6 = (6 : Int32) := rfl
    simp only [q6, show ¬ (6 : Int32) = 0 by decide, show ¬ (6 : Int32) = 1 by decide, show ¬ (6 : Int32) = 2 by decide, show ¬ (6 : Int32) = 3 by decide, show ¬ (6 : Int32) = 4 by decide, show ¬ (6 : Int32) = 5 by decide, if_false, E2, Option.bind_some, if_true]
    rfl
end S2M
