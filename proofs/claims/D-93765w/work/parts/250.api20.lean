set_option maxRecDepth 100000
/-! ===== STAGE 2: the API: first digits ===== -/
section S2AK
variable {x : Nat}
theorem ap_firsts (V : Int64) (q v : Int32) : AP x (x_firsts x V q v) (m_firsts V q v) := by
  intro c st s hA
  obtain ⟨n, B, H, dn, un, N1, N2, M, N3, R⟩ := hA
  have K := R.1
  have n1 : ¬ (1 : Int32) = 0 := by decide
  have w2 : m_within v.toInt64 (0 : Int64) (1 : Int64) = x_in v 0 1 := wi (b := 0) (c := 1) (by decide) (by decide)
  rcases number_c V with ⟨h1, h2⟩ | ⟨h1, h2, u, u1, u2, rfl⟩
  · refine ⟨-1, st, s, by simp only [x_firsts, h1, if_true], ?_, R.ra, Mk.rf⟩
    by_cases hq : q < 0
    · simp only [m_firsts, hq, if_true]
    · simp only [m_firsts, hq, if_false, m_isNumber, h2, if_true]
  by_cases hq : q < 0
  · exact ⟨-1, st, s, by simp only [x_firsts, h1, n1, if_false, hq, if_true], by simp only [m_firsts, hq, if_true], R.ra, Mk.rf⟩
  obtain ⟨w, hw, rfl⟩ := nI_of hq
  have e3 : nI w / (100 : Int32) = nI (w / 100) := pk_div (d := 100) hw (by decide) (by decide)
  have e4 : nI w - nI w / (100 : Int32) * (100 : Int32) = nI (w % 100) := pk_rem (d := 100) hw (by decide) (by decide)
  rw [e3] at e4
  rcases power_c (nI (w / 100)) with ⟨p1, p2⟩ | ⟨p1, p2, k, k1, k2, hk⟩
  · exact ⟨-1, st, s, by simp only [x_firsts, h1, n1, if_false, hq, e3, p1, if_true], by simp only [m_firsts, hq, if_false, m_isNumber, h2, n1, e3, p2, if_true], R.ra, Mk.rf⟩
  have hs : x_sizeOf (lN u) = some (nI (nd u)) := by rw [ll_sizeOf (by omega), ns1_pos (by omega)]
  have hnd : nd u ≤ 18 := nd_bnd 18 u (by have : 10 ^ 18 = 1000000000000000000 := by decide
                                          omega)
  have hdg : m_digitsOf (lN u) = some (nI (nd u)) := by
    have := digitsOf_L (P := lN u) (e0 := fun (v3 : Int32) => some v3) hk_F u 0 (pw_F (by omega)) (by omega)
    rw [Nat.zero_add] at this
    exact this
  have w1 : m_within (nI (w % 100)).toInt64 (1 : Int64) (nI (nd u)).toInt64 = x_in (nI (w % 100)) 1 (nI (nd u)) := wi (b := 1) (by decide) rfl
  rcases in_cases (nI (w % 100)) 1 (nd u) (by omega) (by decide) with ⟨q1, -⟩ | ⟨q1, m, m1, m2, hm⟩
  · have q1 : x_in (nI (w % 100)) 1 (nI (nd u)) = 0 := q1
    exact ⟨-1, st, s, by simp only [x_firsts, h1, n1, if_false, hq, e3, e4, p1, hs, hz_ob, q1, if_true], by simp only [m_firsts, hq, if_false, m_isNumber, h2, n1, e3, e4, p2, hdg, hz_ob, w1, q1, if_true], R.ra, Mk.rf⟩
  have q1 : x_in (nI (w % 100)) 1 (nI (nd u)) = 1 := q1
  rcases in_cases v 0 1 (by decide) (by decide) with ⟨v1, -⟩ | ⟨v1, -⟩
  · have v1 : x_in v 0 1 = 0 := v1
    exact ⟨-1, st, s, by simp only [x_firsts, h1, n1, if_false, hq, e3, e4, p1, hs, hz_ob, q1, v1, if_true], by simp only [m_firsts, hq, if_false, m_isNumber, h2, n1, e3, e4, p2, hdg, hz_ob, w1, q1, w2, v1, if_true], R.ra, Mk.rf⟩
  have v1 : x_in v 0 1 = 1 := v1
  obtain ⟨cnt, st', s', E1, E2, E3, -⟩ := rb_K (x := x) (s := s) (v := u) (p := k) (m := m) K.x0 K.wk K.li u1 u2 k1 k2 m1 m2
  rw [← hk, ← hm] at E1 E2
  obtain ⟨R2, M2⟩ := R.rt E3
  have k0 := R2.1.x0
  have hL := E3.2.2.2.2.2.1
  have x1 : x_firsts x (lN u) (nI w) v st = if v = 0 then some (nI cnt, st') else some ((hm_L s' 44).toInt32, st') := by
    simp only [x_firsts, h1, n1, if_false, hq, e3, e4, p1, hs, hz_ob, q1, v1, E1, gdT (bf_k K.x0), gL_s k0, hL, lN_i]
  have y1 : m_firsts (lN u) (nI w) v s = if v = 0 then some (nI cnt, s') else some ((hm_L s' 44).toInt32, s') := by
    simp only [m_firsts, hq, if_false, m_isNumber, h2, n1, e3, e4, p2, hdg, hz_ob, w1, q1, w2, v1, E2, lN_i]
  by_cases h0 : v = 0
  · rw [if_pos h0] at x1 y1
    exact ⟨_, st', s', x1, y1, R2.ra, M2⟩
  · rw [if_neg h0] at x1 y1
    exact ⟨_, st', s', x1, y1, R2.ra, M2⟩
end S2AK
