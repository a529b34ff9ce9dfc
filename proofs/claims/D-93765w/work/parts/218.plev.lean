set_option maxRecDepth 100000
/-! ===== STAGE 2: the choice: or, and, sums, products ===== -/
theorem pv_124 {a b : Int32} : pv 124 a b = if a = 0 then (if b = 0 then 0 else 1) else 1 := rfl
theorem pv_38 {a b : Int32} : pv 38 a b = if a = 0 then 0 else if b = 0 then 0 else 1 := rfl
theorem pv_43 {a b : Int32} : pv 43 a b = a + b := rfl
theorem pv_45 {a b : Int32} : pv 45 a b = a - b := rfl
theorem pv_42 {a b : Int32} : pv 42 a b = a * b := rfl
theorem pv_47 {a b : Int32} : pv 47 a b = if b = 0 then 0 else if b = -1 then -a else a / b := rfl
theorem pv_37 {a b : Int32} : pv 37 a b = if b = 0 then 0 else if b = -1 then 0 else a - a / b * b := rfl
theorem pv_60 {a b : Int32} : pv 60 a b = if b ≤ a then 0 else 1 := rfl
theorem pv_61 {a b : Int32} : pv 61 a b = if a = b then 1 else 0 := rfl
theorem pv_62 {a b : Int32} : pv 62 a b = if a ≤ b then 0 else 1 := rfl
theorem div_m1 (a : Int32) : a / (-1 : Int32) = -a := by
  apply Int32.toInt_inj.mp
  rw [Int32.toInt_div]
  show (a.toInt.tdiv (-1)).bmod _ = _
  rw [Int.tdiv_neg, Int.tdiv_one]
  exact (Int32.toInt_neg a).symm
theorem rem_m1 (a : Int32) : a - a / (-1 : Int32) * (-1) = 0 := by
  rw [div_m1, Int32.mul_neg, Int32.mul_one, Int32.neg_neg, Int32.sub_self]
theorem nlem1 : ¬ (0 : Int32) ≤ -1 := by decide
section S2I
variable {x rd n o : Nat} {B : Nat → Nat} {st : hk_St}
theorem RFm.cases {s0 s : hk_Ms} {q : Nat} (R : RFm n B s0 s q) (S : BSm n B s0) : ((0 : Int32) ≤ hm_I s 13 ∧ ∃ c, m_byteAt s = some (nI c)) ∨ (hm_I s 13 = -1 ∧ ∃ c, m_byteAt s = some (nI c) ∧ 48 ≤ c ∧ c ≤ 57) := by
  obtain ⟨c, h1, h2 | ⟨h2, h3⟩⟩ := R.byte S
  · exact Or.inl ⟨h2, c, h1⟩
  · exact Or.inr ⟨h2, c, h1, by simpa [dgt] using h3⟩
theorem or_K {d : Nat} (hsub : LvK x d 1) : LvK x (d + 1) 0 := by
  intro rd n B p o st R hfc hw ho hd
  show ∃ st' r, xReader_either (g_R d 1) rd st = some (r, st') ∧ OutK x rd n B p o st (m_either (g_P d 1)) st' r
  refine level_K (CL := xReader_either_L5 (g_R d 1) rd (fun v5 s6 => some (v5, s6))) (ML := m_either_L5 (g_P d 1) (fun v s => some (v, s))) (isop := fun c => c == 124) ?_ ?_ ?_ ?_ ?_ ?_ ?_ ?_ R hfc hw (Nat.lt_of_lt_of_le (by decide) hk_F_big)
  · intro c hc
    have : c = 124 := by simpa using hc
    unfold opC; omega
  · intro F st v p R hc
    have hne : ¬ hv B n p = (124 : Int32) := fun q => by
      have := (hv_eq R.hB (c := 124) (by decide) (by decide)).mp q
      simp [this] at hc
    show xReader_either_L5b _ _ _ _ _ _ = _
    simp only [xReader_either_L5b, gI_b R.bf, R.2.2.2.2.1, hz_ob, nlem1, if_false, c_here R, hz_gd, R.bf, if_true, hne]
  · intro F st v p R hc
    have hc : chr B n p = 124 := by simpa using hc
    have he : hv B n p = (124 : Int32) := (hv_eq R.hB (c := 124) (by decide) (by decide)).mpr hc
    have bf1 : hk_bf [6] (hk_sfI st 600 rd (nI (p + 1))) rd = true := R.bf
    show xReader_either_L5b _ _ _ _ _ _ = _
    simp only [xReader_either_L5b, gI_b R.bf, pI_b R.bf, R.2.2.2.2.1, R.2.2.2.1, hz_ob, nlem1, if_false, c_here R, hz_gd, R.bf, if_true, he, nI_1, bf1, hc]
    rfl
  · intro F st v p q o' R hq
    have hn := R.1.2.2.2.2.1
    show xReader_either_L5b _ _ _ _ _ _ = _
    simp only [xReader_either_L5b, gI_b R.bf, R.2.2.2.2.1, hz_ob, nI_pos' (show q < 2 ^ 31 by omega), if_true]
  · intro F s0 s v p S P hp hc
    show m_either_L5b _ _ _ _ _ = _
    have hc : chr B n p ≠ 124 := by simpa using hc
    simp only [m_either_L5b, show (124 : Int32) = nI 124 from rfl, m_take_n S P hp (show 124 < 256 by decide) R.hB hc, hz_ob, if_true]
  · intro F s0 s v p S P hp hc
    show m_either_L5b _ _ _ _ _ = _
    have hc : chr B n p = 124 := by simpa using hc
    simp only [m_either_L5b, show (124 : Int32) = nI 124 from rfl, m_take_y S P hp hc, hz_ob, show ¬ (1 : Int32) = 0 by decide, if_false]
    congr 1
    funext q
    rw [hc, pv_124]
    by_cases h1 : v = 0
    · by_cases h2 : q.1 = 0
      · simp only [h1, h2, if_true]
      · simp only [h1, h2, if_true, if_false]
    · simp only [h1, if_false]
  · intro F s0 s v q S P
    show m_either_L5b _ _ _ _ _ = _
    simp only [m_either_L5b, show (124 : Int32) = nI 124 from rfl, P.take S R.hB (show 124 < 256 by decide) (by decide), hz_ob, if_true]
  · intro p st R2 hfc2 hw2
    exact hsub rd n B p o st R2 hfc2 hw2 ho (by omega)
theorem and_K {d : Nat} (hsub : LvK x d 2) : LvK x (d + 1) 1 := by
  intro rd n B p o st R hfc hw ho hd
  show ∃ st' r, xReader_all (g_R d 2) rd st = some (r, st') ∧ OutK x rd n B p o st (m_both (g_P d 2)) st' r
  refine level_K (CL := xReader_all_L5 (g_R d 2) rd (fun v5 s6 => some (v5, s6))) (ML := m_both_L5 (g_P d 2) (fun v s => some (v, s))) (isop := fun c => c == 38) ?_ ?_ ?_ ?_ ?_ ?_ ?_ ?_ R hfc hw (Nat.lt_of_lt_of_le (by decide) hk_F_big)
  · intro c hc
    have : c = 38 := by simpa using hc
    unfold opC; omega
  · intro F st v p R hc
    have hne : ¬ hv B n p = (38 : Int32) := fun q => by
      have := (hv_eq R.hB (c := 38) (by decide) (by decide)).mp q
      simp [this] at hc
    show xReader_all_L5b _ _ _ _ _ _ = _
    simp only [xReader_all_L5b, gI_b R.bf, R.2.2.2.2.1, hz_ob, nlem1, if_false, c_here R, hz_gd, R.bf, if_true, hne]
  · intro F st v p R hc
    have hc : chr B n p = 38 := by simpa using hc
    have he : hv B n p = (38 : Int32) := (hv_eq R.hB (c := 38) (by decide) (by decide)).mpr hc
    have bf1 : hk_bf [6] (hk_sfI st 600 rd (nI (p + 1))) rd = true := R.bf
    show xReader_all_L5b _ _ _ _ _ _ = _
    simp only [xReader_all_L5b, gI_b R.bf, pI_b R.bf, R.2.2.2.2.1, R.2.2.2.1, hz_ob, nlem1, if_false, c_here R, hz_gd, R.bf, if_true, he, nI_1, bf1, hc]
    rfl
  · intro F st v p q o' R hq
    have hn := R.1.2.2.2.2.1
    show xReader_all_L5b _ _ _ _ _ _ = _
    simp only [xReader_all_L5b, gI_b R.bf, R.2.2.2.2.1, hz_ob, nI_pos' (show q < 2 ^ 31 by omega), if_true]
  · intro F s0 s v p S P hp hc
    show m_both_L5b _ _ _ _ _ = _
    have hc : chr B n p ≠ 38 := by simpa using hc
    simp only [m_both_L5b, show (38 : Int32) = nI 38 from rfl, m_take_n S P hp (show 38 < 256 by decide) R.hB hc, hz_ob, if_true]
  · intro F s0 s v p S P hp hc
    show m_both_L5b _ _ _ _ _ = _
    have hc : chr B n p = 38 := by simpa using hc
    simp only [m_both_L5b, show (38 : Int32) = nI 38 from rfl, m_take_y S P hp hc, hz_ob, show ¬ (1 : Int32) = 0 by decide, if_false]
    congr 1
    funext q
    rw [hc, pv_38]
    by_cases h1 : v = 0
    · simp only [h1, if_true]
    · by_cases h2 : q.1 = 0
      · simp only [h1, h2, if_true, if_false]
      · simp only [h1, h2, if_false]
  · intro F s0 s v q S P
    show m_both_L5b _ _ _ _ _ = _
    simp only [m_both_L5b, show (38 : Int32) = nI 38 from rfl, P.take S R.hB (show 38 < 256 by decide) (by decide), hz_ob, if_true]
  · intro p st R2 hfc2 hw2
    exact hsub rd n B p o st R2 hfc2 hw2 ho (by omega)
theorem sum_K {d : Nat} (hsub : LvK x d 4) : LvK x (d + 1) 3 := by
  intro rd n B p o st R hfc hw ho hd
  show ∃ st' r, xReader_sum (g_R d 4) rd st = some (r, st') ∧ OutK x rd n B p o st (m_sums (g_P d 4)) st' r
  refine level_K (CL := xReader_sum_L5 (g_R d 4) rd (fun v5 s6 => some (v5, s6))) (ML := m_sums_L5 (g_P d 4) (fun v s => some (v, s))) (isop := fun c => (opL 1).contains c) ?_ ?_ ?_ ?_ ?_ ?_ ?_ ?_ R hfc hw (Nat.lt_of_lt_of_le (by decide) hk_F_big)
  · intro c hc
    have : c = 43 ∨ c = 45 := by simpa [opL] using hc
    unfold opC; omega
  · intro F st v p R hc
    show xReader_sum_L5b _ _ _ _ _ _ = _
    simp only [xReader_sum_L5b, gI_b R.bf, R.2.2.2.2.1, hz_ob, nlem1, if_false, c_isOne R (show 1 < 4 by decide), hc, Bool.false_eq_true, hz_gd, R.bf, if_true]
  · intro F st v p R hc
    have bf1 : hk_bf [6] (hk_sfI st 600 rd (nI (p + 1))) rd = true := R.bf
    have hc2 : chr B n p = 43 ∨ chr B n p = 45 := by simpa [opL] using hc
    have he : hv B n p = nI (chr B n p) := (hv_eq R.hB (by omega) (by omega)).mpr rfl
    show xReader_sum_L5b _ _ _ _ _ _ = _
    simp only [xReader_sum_L5b, gI_b R.bf, pI_b R.bf, R.2.2.2.2.1, R.2.2.2.1, hz_ob, nlem1, if_false, c_isOne R (show 1 < 4 by decide), hc, show ¬ (1 : Int32) = 0 by decide, c_here R, hz_gd, R.bf, if_true, he, nI_1, bf1]
  · intro F st v p q o' R hq
    have hn := R.1.2.2.2.2.1
    show xReader_sum_L5b _ _ _ _ _ _ = _
    simp only [xReader_sum_L5b, gI_b R.bf, R.2.2.2.2.1, hz_ob, nI_pos' (show q < 2 ^ 31 by omega), if_true]
  · intro F s0 s v p S P hp hc
    show m_sums_L5b _ _ _ _ _ = _
    have hc : chr B n p ≠ 43 ∧ chr B n p ≠ 45 := by simpa [opL] using hc
    have h256 := chr_256 R.hB (p := p)
    have n1 : ¬ nI (chr B n p) = (43 : Int32) := fun q => hc.1 ((nI_eq (b := 43) (by omega) (by decide)).mp q)
    have n2 : ¬ nI (chr B n p) = (45 : Int32) := fun q => hc.2 ((nI_eq (b := 45) (by omega) (by decide)).mp q)
    simp only [m_sums_L5b, hz_nm, P.2.2.2.2.1, nlem1, if_false, m_byte S P hp, hz_ob, n1, n2]
  · intro F s0 s v p S P hp hc
    show m_sums_L5b _ _ _ _ _ = _
    have hc2 : chr B n p = 43 ∨ chr B n p = 45 := by simpa [opL] using hc
    rcases hc2 with h | h
    · simp only [m_sums_L5b, hz_nm, P.2.2.2.2.1, nlem1, if_false, m_byte S P hp, hz_ob, h, show nI 43 = (43 : Int32) from rfl, if_true, P.2.2.2.1, nI_1, show ¬ (1 : Int32) = 0 by decide, pv_43]
    · simp only [m_sums_L5b, hz_nm, P.2.2.2.2.1, nlem1, if_false, m_byte S P hp, hz_ob, h, show nI 45 = (45 : Int32) from rfl, show ¬ (45 : Int32) = 43 by decide, if_true, P.2.2.2.1, nI_1, pv_45]
  · intro F s0 s v q S P
    show m_sums_L5b _ _ _ _ _ = _
    rcases P.cases S with ⟨h1, c, h2⟩ | ⟨h1, c, h2, h3, h4⟩
    · simp only [m_sums_L5b, hz_nm, h1, if_true]
    · have n1 : ¬ nI c = (43 : Int32) := fun q => by have := (nI_eq (b := 43) (by omega) (by decide)).mp q; omega
      have n2 : ¬ nI c = (45 : Int32) := fun q => by have := (nI_eq (b := 45) (by omega) (by decide)).mp q; omega
      simp only [m_sums_L5b, hz_nm, h1, nlem1, if_false, h2, hz_ob, n1, n2]
  · intro p st R2 hfc2 hw2
    exact hsub rd n B p o st R2 hfc2 hw2 ho (by omega)
theorem prod_K {d : Nat} (hsub : LvK x d 5) : LvK x (d + 1) 4 := by
  intro rd n B p o st R hfc hw ho hd
  show ∃ st' r, xReader_product (g_R d 5) rd st = some (r, st') ∧ OutK x rd n B p o st (m_product (g_P d 5)) st' r
  refine level_K (CL := xReader_product_L5 (g_R d 5) rd (fun v5 s6 => some (v5, s6))) (ML := fun F v s => (m_byteAt s).bind fun c => m_product_L10 (g_P d 5) (fun v s => some (v, s)) F v c s) (isop := fun c => (opL 2).contains c) ?_ ?_ ?_ ?_ ?_ ?_ ?_ ?_ R hfc hw (Nat.lt_of_lt_of_le (by decide) hk_F_big)
  · intro c hc
    have : c = 42 ∨ c = 47 ∨ c = 37 := by simpa [opL] using hc
    unfold opC; omega
  · intro F st v p R hc
    show xReader_product_L5b _ _ _ _ _ _ = _
    simp only [xReader_product_L5b, gI_b R.bf, R.2.2.2.2.1, hz_ob, nlem1, if_false, c_isOne R (show 2 < 4 by decide), hc, Bool.false_eq_true, hz_gd, R.bf, if_true]
  · intro F st v p R hc
    have bf1 : hk_bf [6] (hk_sfI st 600 rd (nI (p + 1))) rd = true := R.bf
    have hc2 : chr B n p = 42 ∨ chr B n p = 47 ∨ chr B n p = 37 := by simpa [opL] using hc
    have he : hv B n p = nI (chr B n p) := (hv_eq R.hB (by omega) (by omega)).mpr rfl
    show xReader_product_L5b _ _ _ _ _ _ = _
    simp only [xReader_product_L5b, gI_b R.bf, pI_b R.bf, R.2.2.2.2.1, R.2.2.2.1, hz_ob, nlem1, if_false, c_isOne R (show 2 < 4 by decide), hc, show ¬ (1 : Int32) = 0 by decide, c_here R, hz_gd, R.bf, if_true, he, nI_1, bf1]
  · intro F st v p q o' R hq
    have hn := R.1.2.2.2.2.1
    show xReader_product_L5b _ _ _ _ _ _ = _
    simp only [xReader_product_L5b, gI_b R.bf, R.2.2.2.2.1, hz_ob, nI_pos' (show q < 2 ^ 31 by omega), if_true]
  · intro F s0 s v p S P hp hc
    have hc : chr B n p ≠ 42 ∧ chr B n p ≠ 47 ∧ chr B n p ≠ 37 := by simpa [opL] using hc
    have h256 := chr_256 R.hB (p := p)
    have n1 : ¬ nI (chr B n p) = (42 : Int32) := fun q => hc.1 ((nI_eq (b := 42) (by omega) (by decide)).mp q)
    have n2 : ¬ nI (chr B n p) = (47 : Int32) := fun q => hc.2.1 ((nI_eq (b := 47) (by omega) (by decide)).mp q)
    have n3 : ¬ nI (chr B n p) = (37 : Int32) := fun q => hc.2.2 ((nI_eq (b := 37) (by omega) (by decide)).mp q)
    simp only [m_byte S P hp, hz_ob]
    show m_product_L10b _ _ _ _ _ _ = _
    simp only [m_product_L10b, hz_nm, P.2.2.2.2.1, nlem1, if_false, n1, n2, n3]
  · intro F s0 s v p S P hp hc
    have hc2 : chr B n p = 42 ∨ chr B n p = 47 ∨ chr B n p = 37 := by simpa [opL] using hc
    simp only [m_byte S P hp, hz_ob]
    show m_product_L10b _ _ _ _ _ _ = _
    rcases hc2 with h | h | h
    · simp only [m_product_L10b, hz_nm, P.2.2.2.2.1, nlem1, if_false, h, show nI 42 = (42 : Int32) from rfl, if_true, P.2.2.2.1, nI_1, pv_42]
    · simp only [m_product_L10b, hz_nm, P.2.2.2.2.1, nlem1, if_false, h, show nI 47 = (47 : Int32) from rfl, show ¬ (47 : Int32) = 42 by decide, if_true, P.2.2.2.1, nI_1, pv_47]
      congr 1
      funext q
      by_cases h1 : q.1 = 0
      · simp only [h1, if_true]
      · by_cases h2 : q.1 = -1
        · simp only [h2, show ¬ (-1 : Int32) = 0 by decide, if_false, if_true, not_false_eq_true, decide_true, hz_gd, div_m1]
        · simp only [h1, h2, if_false, not_false_eq_true, decide_true, hz_gd, if_true]
    · simp only [m_product_L10b, hz_nm, P.2.2.2.2.1, nlem1, if_false, h, show nI 37 = (37 : Int32) from rfl, show ¬ (37 : Int32) = 42 by decide, show ¬ (37 : Int32) = 47 by decide, if_true, P.2.2.2.1, nI_1, pv_37]
      congr 1
      funext q
      by_cases h1 : q.1 = 0
      · simp only [h1, if_true]
      · by_cases h2 : q.1 = -1
        · simp only [h2, show ¬ (-1 : Int32) = 0 by decide, if_false, if_true, not_false_eq_true, decide_true, hz_gd, rem_m1]
        · simp only [h1, h2, if_false, not_false_eq_true, decide_true, hz_gd, if_true]
  · intro F s0 s v q S P
    rcases P.cases S with ⟨h1, c, h2⟩ | ⟨h1, c, h2, h3, h4⟩
    · simp only [h2, hz_ob]
      show m_product_L10b _ _ _ _ _ _ = _
      simp only [m_product_L10b, hz_nm, h1, if_true]
    · have n1 : ¬ nI c = (42 : Int32) := fun q => by have := (nI_eq (b := 42) (by omega) (by decide)).mp q; omega
      have n2 : ¬ nI c = (47 : Int32) := fun q => by have := (nI_eq (b := 47) (by omega) (by decide)).mp q; omega
      have n3 : ¬ nI c = (37 : Int32) := fun q => by have := (nI_eq (b := 37) (by omega) (by decide)).mp q; omega
      simp only [h2, hz_ob]
      show m_product_L10b _ _ _ _ _ _ = _
      simp only [m_product_L10b, hz_nm, h1, nlem1, if_false, n1, n2, n3]
  · intro p st R2 hfc2 hw2
    exact hsub rd n B p o st R2 hfc2 hw2 ho (by omega)
end S2I
