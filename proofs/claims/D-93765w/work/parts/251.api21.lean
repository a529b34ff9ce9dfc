set_option maxRecDepth 100000
/-! ===== STAGE 2: the API: enough ===== -/
section S2AL
variable {x : Nat}
theorem en_L {v p : Nat} {eC : Int32 → hk_St → Option (Int32 × hk_St)} {eM : Int32 → hk_Ms → Option (Int32 × hk_Ms)} (h1 : 1 ≤ v) (hv : v ≤ 999999999999999999) (h2 : 2 ≤ p) (hp : p ≤ 5) (hr : ∃ r, r ^ p = v) :
    ∀ j f m st s, j < f → m + j = nd v → 1 ≤ m → hk_k st x = some (0, 0) → Wk st → Li st → ∃ m2 st' s', x_enough_L36 x (lN v) (nI p) eC f (nI m) st = eC (nI m2) st' ∧ m_enough_L24 (lN v) (nI p) eM f (nI m) s = eM (nI m2) s' ∧ Rt x st st' s s' := by
  have e1 : (1 : Int64) = lN 1 := rfl
  intro j
  induction j with
  | zero =>
    intro f m st s hf hm m1 k0 hw hl
    obtain ⟨f, rfl⟩ : ∃ g, f = g + 1 := ⟨f - 1, by omega⟩
    obtain ⟨cnt, st', s', E1, E2, E3, E4⟩ := rb_K (x := x) (s := s) (v := v) (p := p) (m := m) k0 hw hl h1 hv h2 hp m1 (by omega)
    have hc := E4 (by omega) hr
    have hle : lN cnt ≤ (1 : Int64) := by rw [e1]; exact (pk_lLE (by omega) (by decide)).mpr hc
    refine ⟨m, st', s', ?_, ?_, E3⟩
    · show x_enough_L36b _ _ _ _ _ _ _ = _
      simp only [x_enough_L36b, E1, hz_ob, gdT (bf_k k0), hle, if_true]
    · show m_enough_L24b _ _ _ _ _ _ = _
      simp only [m_enough_L24b, E2, hz_ob, hle, if_true]
  | succ j ih =>
    intro f m st s hf hm m1 k0 hw hl
    obtain ⟨f, rfl⟩ : ∃ g, f = g + 1 := ⟨f - 1, by omega⟩
    obtain ⟨cnt, st', s', E1, E2, E3, E4⟩ := rb_K (x := x) (s := s) (v := v) (p := p) (m := m) k0 hw hl h1 hv h2 hp m1 (by omega)
    by_cases hle : lN cnt ≤ (1 : Int64)
    · refine ⟨m, st', s', ?_, ?_, E3⟩
      · show x_enough_L36b _ _ _ _ _ _ _ = _
        simp only [x_enough_L36b, E1, hz_ob, gdT (bf_k k0), hle, if_true]
      · show m_enough_L24b _ _ _ _ _ _ = _
        simp only [m_enough_L24b, E2, hz_ob, hle, if_true]
    · obtain ⟨m2, st2, s2, i1, i2, i3⟩ := ih f (m + 1) st' s' (by omega) (by omega) (by omega) ((E3.1.2.1 _ (hw.lt k0)).trans k0) E3.2.2.2.1 E3.2.2.2.2.1
      refine ⟨m2, st2, s2, ?_, ?_, E3.trans i3⟩
      · show x_enough_L36b _ _ _ _ (x_enough_L36 x (lN v) (nI p) eC f) _ _ = _
        simp only [x_enough_L36b, E1, hz_ob, gdT (bf_k k0), hle, if_false, hz_nm, nI_1]
        exact i1
      · show m_enough_L24b _ _ _ (m_enough_L24 (lN v) (nI p) eM f) _ _ = _
        simp only [m_enough_L24b, E2, hz_ob, hle, if_false, hz_nm, nI_1]
        exact i2
theorem ap_enough (V : Int64) (p : Int32) : AP x (x_enough x V p) (m_enough V p) := by
  intro c st s hA
  obtain ⟨n, B, H, dn, un, N1, N2, M, N3, R⟩ := hA
  have K := R.1
  have n1 : ¬ (1 : Int32) = 0 := by decide
  rcases number_c V with ⟨h1, h2⟩ | ⟨h1, h2, v, v1, v2, rfl⟩
  · exact ⟨-1, st, s, by simp only [x_enough, h1, if_true], by simp only [m_enough, m_isNumber, h2, if_true], R.ra, Mk.rf⟩
  rcases power_c p with ⟨p1, p2⟩ | ⟨p1, p2, k, k1, k2, rfl⟩
  · exact ⟨-1, st, s, by simp only [x_enough, h1, n1, if_false, p1, if_true], by simp only [m_enough, m_isNumber, h2, n1, if_false, p2, if_true], R.ra, Mk.rf⟩
  obtain ⟨r, e1, e2, a1, a2, e3⟩ := roots_2 (p := k) v1 v2 k1 k2
  by_cases h : r ^ k = v
  · have hr0 : r ≠ 0 := by
      rintro rfl
      rw [Nat.zero_pow (by omega)] at h
      omega
    have nz : ¬ nI r = 0 := fun q => hr0 ((li_eq0 (by omega)).mp q)
    have hnd := nd_gt0 (v := v) (by omega)
    have hnd2 : nd v ≤ 18 := nd_bnd 18 v (by have : 10 ^ 18 = 1000000000000000000 := by decide
                                             omega)
    obtain ⟨m2, st', s', i1, i2, i3⟩ := en_L (x := x) (eC := fun (v8 : Int32) (s9 : hk_St) => some (v8, s9)) (eM := fun (v6 : Int32) (s7 : hk_Ms) => some (v6, s7)) v1 v2 k1 k2 ⟨r, h⟩ (nd v - 1) hk_F 1 st s (pw_F (by omega)) (by omega) (by decide) K.x0 K.wk K.li
    obtain ⟨R2, M2⟩ := R.rt i3
    rw [if_pos h] at e3
    have hV : lN (r ^ k) = lN v := by rw [h]
    exact ⟨nI m2, st', s', by simp only [x_enough, h1, n1, if_false, p1, e1, hz_ob, e2, hV, if_true]; exact i1, by simp only [m_enough, m_isNumber, h2, n1, if_false, p2, e3, hz_ob, nz]; exact i2, R2.ra, M2⟩
  · rw [if_neg h] at e3
    have hV : ¬ lN (r ^ k) = lN v := fun q => h ((pk_lEQ (by omega) (by omega)).mp q)
    exact ⟨-2, st, s, by simp only [x_enough, h1, n1, if_false, p1, e1, hz_ob, e2, hV], by simp only [m_enough, m_isNumber, h2, n1, if_false, p2, e3, hz_ob, if_true], R.ra, Mk.rf⟩
end S2AL
