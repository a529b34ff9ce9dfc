set_option maxRecDepth 100000
/-! ===== STAGE 2: the API: first digits ===== -/
section S2AJ
variable {x c n H dn un N1 N2 M N3 : Nat} {B : Nat → Nat} {st st' st2 : hk_St} {s s' s2 : hk_Ms} {v p W : Nat}
theorem root_u {r q : Nat} (a1 : r ^ p ≤ W) (a2 : W < (r + 1) ^ p) (b1 : q ^ p ≤ W) (b2 : W < (q + 1) ^ p) : r = q := by
  have mono : ∀ {a b : Nat}, a ≤ b → a ^ p ≤ b ^ p := fun h => Nat.pow_le_pow_left h p
  by_cases h1 : r < q
  · have := mono (show r + 1 ≤ q by omega); omega
  · by_cases h2 : q < r
    · have := mono (show q + 1 ≤ r by omega); omega
    · omega
theorem nd_low (h : v ≠ 0) : 10 ^ (nd v - 1) ≤ v := by
  have h0 := nd_gt0 h
  by_cases q : v < 10 ^ (nd v - 1)
  · have := nd_bnd _ _ q; omega
  · omega
theorem l12_L {P : Int64} {q2 : Int32} {sz m : Nat} {eM : Int64 → hk_Ms → Option (Int64 × hk_Ms)} (hm : m ≤ sz) (hs : sz ≤ 18) : ∀ j f k s, j < f → k + j = sz - m → m_manyFirsts_L12 P q2 (nI m) (nI sz) eM f (lN (10 ^ k)) (nI k) s = eM (lN (10 ^ (sz - m))) s := by
  intro j
  induction j with
  | zero =>
    intro f k s hf hk
    obtain ⟨f, rfl⟩ : ∃ g, f = g + 1 := ⟨f - 1, by omega⟩
    have hk : k = sz - m := by omega
    show m_manyFirsts_L12b _ _ _ _ _ _ _ _ _ = _
    simp only [m_manyFirsts_L12b, pk_sub hm, hk, Int32.le_refl, if_true]
  | succ j ih =>
    intro f k s hf hk
    obtain ⟨f, rfl⟩ : ∃ g, f = g + 1 := ⟨f - 1, by omega⟩
    have n0 : ¬ nI (sz - m) ≤ nI k := nI_ge (show k < sz - m by omega) (by omega)
    show m_manyFirsts_L12b _ _ _ _ _ (m_manyFirsts_L12 P q2 (nI m) (nI sz) eM f) _ _ _ = _
    simp only [m_manyFirsts_L12b, pk_sub hm, n0, if_false, hz_nm, show (10 : Int64) = lN 10 from rfl, lN_mul, nI_1]
    rw [← Nat.pow_succ]
    exact ih f (k + 1) s (by omega) (by omega)
theorem rb_K {m : Nat} (k0 : hk_k st x = some (0, 0)) (hw : Wk st) (hl : Li st) (h1 : 1 ≤ v) (hv : v ≤ 999999999999999999) (h2 : 2 ≤ p) (hp : p ≤ 5) (m1 : 1 ≤ m) (m2 : m ≤ nd v) :
    ∃ cnt st' s', x_rootsBy x (lN v) (nI p) (nI m) st = some (lN cnt, st') ∧ m_manyFirsts (lN v) (nI p) (nI m) s = some (lN cnt, s') ∧ Rt x st st' s s' ∧ (m = nd v → (∃ r, r ^ p = v) → cnt ≤ 1) := by
  have hnd : nd v ≤ 18 := nd_bnd 18 v (by have : 10 ^ 18 = 1000000000000000000 := by decide
                                          omega)
  have hlow := nd_low (v := v) (by omega)
  have hns : ns1 v = nd v := ns1_pos (by omega)
  generalize hsz : nd v = sz at *
  have ht0 : 0 < 10 ^ (sz - m) := Nat.pos_of_ne_zero (by simp)
  have htv : 10 ^ (sz - m) ≤ v := Nat.le_trans (Nat.pow_le_pow_right (by decide) (by omega)) hlow
  have ht18 : 10 ^ (18 - (sz - m)) * 10 ^ (sz - m) = 1000000000000000000 := by
    rw [← Nat.pow_add, show 18 - (sz - m) + (sz - m) = 18 by omega]
  generalize hte : 10 ^ (sz - m) = t at *
  have hd1 : 1 ≤ v / t := Nat.div_pos htv ht0
  have hd2 : v / t < 10 ^ (18 - (sz - m)) := by
    rw [Nat.div_lt_iff_lt_mul ht0, ht18]; omega
  have ha1 : t ≤ v / t * t := by
    have := Nat.mul_le_mul_right t hd1
    omega
  have ha2 : v / t * t ≤ v := Nat.div_mul_le_self v t
  have ha3 : v / t * t + t ≤ 1000000000000000000 := by
    have := Nat.mul_le_mul_right t (show v / t + 1 ≤ 10 ^ (18 - (sz - m)) by omega)
    rw [ht18, Nat.add_mul, Nat.one_mul] at this
    exact this
  generalize hae : v / t * t = a at *
  have eA : lN v / lN t * lN t = lN a := by rw [pk_lDiv (by omega) ht0 (by omega), lN_mul, hae]
  have nzt : ¬ lN t = (0 : Int64) := fun q => absurd ((pk_lEQ (b := 0) (by omega) (by decide)).mp q) (by omega)
  have gt : decide (¬ lN t = (0 : Int64)) = true := decide_eq_true nzt
  have e1 : (1 : Int64) = lN 1 := rfl
  have eL : (999999999999999999 : Int64) = lN 999999999999999999 := rfl
  obtain ⟨r1, x1, a1, a2, a3⟩ := rootOf_K (L := a - 1) (p := p) (by omega) h2 (by omega)
  obtain ⟨r2, x2, b1, b2, b3⟩ := rootOf_K (L := a + t - 1) (p := p) (by omega) h2 (by omega)
  have hr : r1 ≤ r2 := by
    by_cases q : r2 + 1 ≤ r1
    · have := Nat.pow_le_pow_left q p; omega
    · omega
  have W0 := Rt.w (x := x) (s := s) (v := 0) hw hl
  obtain ⟨cnt, st', s', i1, i2, i3, i4⟩ := rt_L (x := x) (V := v) (p := p) (lo := r1 + 1) (hi := r2) (q3 := nI m) hp (by omega) (by omega) (by omega) (eC := fun (v14 : Int64) (s15 : hk_St) => some (v14, s15)) (eM := fun (v12 : Int64) (s13 : hk_Ms) => some (v12, s13))
    10 hk_F 0 0 (hk_sfL st 17 x 0) (hm_sL s 44 0) (pw_F (by decide)) rfl k0 W0.2.2.2.1 W0.2.2.2.2.1 W0.2.2.2.2.2.1
  have one : m = sz → (∃ r, r ^ p = v) → cnt ≤ 1 := by
    rintro hm ⟨r, hrv⟩
    subst hm
    have t1 : t = 1 := by rw [← hte, Nat.sub_self, Nat.pow_zero]
    subst t1
    have hav : a = v := by rw [← hae, Nat.div_one, Nat.mul_one]
    subst hav
    have y1 : r2 = r := root_u (p := p) (W := a) (by omega) (by omega) (by omega) (by
      have := Nat.pow_lt_pow_left (show r < r + 1 by omega) (show p ≠ 0 by omega)
      omega)
    have y2 : r1 + 1 = r := by
      by_cases q1 : r ≤ r1
      · have := Nat.pow_le_pow_left q1 p; omega
      · by_cases q2 : r1 + 1 < r
        · have := Nat.pow_lt_pow_left q2 (show p ≠ 0 by omega); omega
        · omega
    have := i4 (by omega)
    split at this <;> omega
  refine ⟨cnt, st', s', ?_, ?_, W0.trans i3, one⟩
  · have xt := ll_tenTo (p := sz - m) (by omega)
    rw [hte] at xt
    have y1 : lN a - (1 : Int64) = lN (a - 1) := by rw [e1, lN_sub (by omega)]
    have y2 : lN (a + t) - (1 : Int64) = lN (a + t - 1) := by rw [e1, lN_sub (by omega)]
    have y3 : lN r1 + (1 : Int64) = lN (r1 + 1) := by rw [e1, lN_add]
    simp only [x_rootsBy, ll_sizeOf (show v < 2 ^ 63 by omega), hns, hz_ob, pk_sub m2, xt, gdT gt, hz_nm, eA, y1, x1, y3, lN_add, y2, x2, pL_s k0]
    exact i1
  · have hdg : m_digitsOf (lN v) = some (nI sz) := by
      have := digitsOf_L (P := lN v) (e0 := fun (v3 : Int32) => some v3) hk_F v 0 (pw_F (by omega)) (by omega)
      rw [hsz, Nat.zero_add] at this
      exact this
    obtain ⟨q1, z1, c1, c2, c3⟩ := leastOf_K (V := a) (p := p) (by omega) (by omega) h2 (by omega)
    obtain rfl : r1 = q1 := root_u (p := p) (W := a - 1) a1 a2 (by omega) (by omega)
    have hl12 := fun eM => l12_L (P := lN v) (q2 := nI p) (m := m) (sz := sz) (eM := eM) m2 (by omega) (sz - m) hk_F 0 s (pw_F (by omega)) (by omega)
    rw [hte] at hl12
    have hl12 : ∀ eM, m_manyFirsts_L12 (lN v) (nI p) (nI m) (nI sz) eM hk_F (1 : Int64) (0 : Int32) s = eM (lN t) s := fun eM => hl12 eM
    have y2 : lN (a + t) - (1 : Int64) = lN (a + t - 1) := by rw [e1, lN_sub (by omega)]
    have hv10 := lLm_10 (v := v) (by omega)
    by_cases hc : a + t - 1 < 999999999999999999
    · obtain ⟨q2, z2, d1, d2, d3⟩ := leastOf_K (V := a + t) (p := p) (by omega) (by omega) h2 (by omega)
      obtain rfl : r2 = q2 := root_u (p := p) (W := a + t - 1) b1 b2 (by omega) (by omega)
      have hcl : lN (a + t - 1) < (999999999999999999 : Int64) := by rw [eL]; exact (pk_lLT (by omega) (by decide)).mpr hc
      simp only [m_manyFirsts, hz_nm, hdg, hz_ob, hl12, gdT gt, eA, z1, lN_add, y2, hcl, if_true, z2, hv10, lN_i]
      exact i2
    · have hat : a + t - 1 = 999999999999999999 := by omega
      have hcl : ¬ lN (a + t - 1) < (999999999999999999 : Int64) := by rw [eL]; exact fun q => hc ((pk_lLT (by omega) (by decide)).mp q)
      obtain ⟨q2, z2, d1, d2, d3⟩ := leastOf_K (V := 999999999999999999) (p := p) (by decide) (by decide) h2 (by omega)
      have hpk := pow_K (b := q2 + 1) (p := p) (by omega) (by omega) (by omega)
      have hpl : pwL (q2 + 1) p < 2 ^ 63 := by unfold pwL; split <;> omega
      have z2 : m_leastOf (999999999999999999 : Int64) (nI p) = some (lN (q2 + 1)) := z2
      by_cases hq : 999999999999999999 < (q2 + 1) ^ p
      · obtain rfl : r2 = q2 := root_u (p := p) (W := 999999999999999999) (by omega) (by omega) (by omega) hq
        have hx : (999999999999999999 : Int64) < lN (pwL (r2 + 1) p) := by
          rw [eL]; refine (pk_lLT (by decide) hpl).mpr ?_
          unfold pwL; rw [if_neg (by omega)]; decide
        simp only [m_manyFirsts, hz_nm, hdg, hz_ob, hl12, gdT gt, eA, z1, lN_add, y2, hcl, if_false, z2, hpk, hx, if_true, show lN (r2 + 1) + (0 : Int64) = lN (r2 + 1) from Int64.add_zero _, hv10, lN_i]
        exact i2
      · have hq2 : (q2 + 1) ^ p = 999999999999999999 := by omega
        have : r2 = q2 + 1 := root_u (p := p) (W := 999999999999999999) (by omega) (by omega) (by omega) (by
          have := Nat.pow_lt_pow_left (show q2 + 1 < q2 + 1 + 1 by omega) (show p ≠ 0 by omega)
          omega)
        subst this
        have h11 : lN (q2 + 1) + (1 : Int64) = lN (q2 + 1 + 1) := by rw [e1, lN_add]
        have hx : ¬ (999999999999999999 : Int64) < lN (pwL (q2 + 1) p) := by
          rw [eL]; intro q
          have := (pk_lLT (by decide) hpl).mp q
          unfold pwL at this; rw [if_pos (by omega)] at this; omega
        simp only [m_manyFirsts, hz_nm, hdg, hz_ob, hl12, gdT gt, eA, z1, lN_add, y2, hcl, if_false, z2, hpk, hx, h11, hv10, lN_i]
        exact i2
end S2AJ
