set_option maxRecDepth 100000
/-! ===== STAGE 2: the API: first ===== -/
section S2AQ
variable {x c n H dn un N1 N2 M N3 : Nat} {B : Nat → Nat} {st st' : hk_St} {s s' s0 : hk_Ms}
theorem min5 {N2 : Nat} (h : N2 ≤ 8) : j_min_i (5 : Int32) (nI N2) = nI (min 5 N2) ∧ ((5 : Int32) ≤ nI N2 → min 5 N2 = 5) ∧ (¬ (5 : Int32) ≤ nI N2 → min 5 N2 = N2) := by
  by_cases q : N2 < 5
  · have h1 : nI N2 < (5 : Int32) := nI_lt (b := 5) q (by decide)
    have h2 : ¬ (5 : Int32) ≤ nI N2 := nI_ge (b := 5) q (by decide)
    have h3 : min 5 N2 = N2 := by omega
    exact ⟨by unfold j_min_i; rw [if_pos h1, h3], fun q => absurd q h2, fun _ => h3⟩
  · have h1 : ¬ nI N2 < (5 : Int32) := nI_nlt (b := 5) (by omega) (by omega)
    have h2 : (5 : Int32) ≤ nI N2 := nI_le (a := 5) (by omega) (by omega)
    have h3 : min 5 N2 = 5 := by omega
    exact ⟨by unfold j_min_i; rw [if_neg h1, h3]; rfl, fun _ => h3, fun q => absurd h2 q⟩
theorem ap_first (p v : Int32) : AP x (x_first x p v) (m_first p v) := by
  intro c st s hA
  obtain ⟨n, B, H, dn, un, N1, N2, M, N3, R⟩ := hA
  have K := R.1
  have hH := R.2.2.1
  have n1 : ¬ (1 : Int32) = 0 := by decide
  have w2 : m_within v.toInt64 (0 : Int64) (1 : Int64) = x_in v 0 1 := wi (b := 0) (c := 1) (by decide) (by decide)
  obtain ⟨z1, z2, z3, z4⟩ := tlN R
  rcases isHead_c K hH p with ⟨h1, h2⟩ | ⟨h1, h2, h, hh, rfl⟩
  · exact ⟨-1, st, s, by simp only [x_first, h1, hz_ob, gdT (bf_k K.x0), if_true], by simp only [m_first, hz_nm, h2, hz_ob, if_true], R.ra, Mk.rf⟩
  rcases in_cases v 0 1 (by decide) (by decide) with ⟨v1, -⟩ | ⟨v1, -⟩
  · have v1 : x_in v 0 1 = 0 := v1
    exact ⟨-1, st, s, by simp only [x_first, h1, hz_ob, gdT (bf_k K.x0), n1, if_false, v1, if_true], by simp only [m_first, hz_nm, h2, hz_ob, n1, if_false, w2, v1, if_true], R.ra, Mk.rf⟩
  have v1 : x_in v 0 1 = 1 := v1
  obtain ⟨b, b1, b2, b3⟩ := canT R
  cases b with
  | false =>
    have e1 : bI false = 0 := rfl
    have e2 : ¬ bI (!false) = 0 := by decide
    exact ⟨-1, st, s, by simp only [x_first, h1, hz_ob, gdT (bf_k K.x0), n1, if_false, v1, b1, e1, if_true], by simp only [m_first, hz_nm, h2, hz_ob, n1, if_false, w2, v1, b2, e2], R.ra, Mk.rf⟩
  | true =>
    have e1 : ¬ bI true = 0 := by decide
    have e2 : bI (!true) = 0 := rfl
    by_cases hN2 : N2 = 0
    · subst hN2
      exact ⟨-5, st, s, by simp only [x_first, h1, hz_ob, gdT (bf_k K.x0), n1, if_false, v1, b1, e1, z1, show nI 0 = (0 : Int32) from rfl, if_true], by simp only [m_first, hz_nm, h2, hz_ob, n1, if_false, w2, v1, b2, e2, z2, show nI 0 = (0 : Int32) from rfl, if_true], R.ra, Mk.rf⟩
    · have nz : ¬ nI N2 = 0 := fun q => hN2 ((li_eq0 (by omega)).mp q)
      obtain ⟨hd, t, pl, r1, r2, r3, r4, r5, r6⟩ := hH.2.2.2.1 h hh
      have h6 := hH.2.2.1
      obtain ⟨s1, E2, G2, J2⟩ := keeps_K (show h < 6 by omega) s
      have G3 : GA h s (hm_sI s1 42 (-1)) := GA.sI ⟨G2, fun i => J2 _ _ (by decide), fun h2 t2 pl2 hv D => ⟨fun i hi => (J2 _ _ (by decide)).trans (D.1 i hi), (J2 _ _ (by decide)).trans D.2.1, fun k hk => ⟨(J2 _ _ (by decide)).trans (D.2.2 k hk).1, (J2 _ _ (by decide)).trans (D.2.2 k hk).2⟩⟩⟩ (Or.inl rfl)
      obtain ⟨R1, J1, Q1⟩ := R.f15 (f := 15) (v := 0) (Or.inl rfl)
      obtain ⟨R3, J3, Q3, U3⟩ := R1.mko
      have A1 : HdA x h hd st := r1
      have A3 : HdA x h hd (hk_mk (hk_sfI st 15 x 0) 100 5 5) := (Q3.1.2.1 h).1.trans ((Q1.1.2.1 h).1.trans A1)
      have B3 : BR x (hk_mk (hk_sfI st 15 x 0) 100 5 5) (hm_sI s1 42 (-1)) := Or.inl ⟨by
        have := K.wk.lt K.x0
        rw [fI_mk, if_neg (show ¬ x = hk_nx (hk_sfI st 15 x 0) by rw [nx_sfI]; omega), fI_sfI, if_pos ⟨rfl, rfl⟩], by rw [hmI_sI, if_pos rfl]⟩
      obtain ⟨m1, m2, m3⟩ := min5 (N2 := N2) (by omega)
      obtain ⟨st2, s2, M2, i1, i2, R4, I4, B4, J4, -, -⟩ := ord_K (h := h) (hd := hd) (N := min 5 N2) (o := hk_nx (hk_sfI st 15 x 0)) hh (by omega) (by omega) (by omega) (b3 rfl) (min 5 N2) 0 8 (fun _ => 0) 0 _ _ M (by omega) (by omega) R3 ⟨A3, U3, G3⟩ B3 (fun i hi => by omega) (fun i hi => by omega) (fun i hi => by omega) (by decide) (fun v hv => ⟨fun q => (by rw [Nat.zero_testBit] at q; cases q), fun ⟨e, he, _⟩ => by omega⟩)
      have R5 : RR x (c + 1) n B H dn un N1 N2 M2 N3 st2 s2 := R4.mfr I4.2.2.1.frm I4.2.2.2.1 (fun h t pl _ hv D => I4.2.2.2.2 h t pl hv D)
      have A5 : RA x (c + 140) st2 s2 := RA.le ⟨n, B, H, dn, un, N1, N2, M2, N3, R5⟩ (by omega)
      obtain ⟨y, k, y0, y1, k1, c1, c2, c3, c4⟩ := B4
      rw [show wNum (fun _ => 0) 0 0 0 = 0 from rfl, nI_0] at i2
      rw [nI_0] at i1
      have z7 : hm_I (hm_sI s1 42 (-1)) 37 = nI N2 := (G3.1.1 37 rfl (by decide)).trans z2
      obtain ⟨y1', y2', y3', y4'⟩ := tlN R3
      have hl : hk_lR 6 (hk_sfI st 15 x 0) (x + 2) (nI h) = some (some hd) := hdL R1 hh (show HdA x h hd (hk_sfI st 15 x 0) from A1)
      have X : x_first x (nI h) v st = if v = 0 then some (nI y, st2) else some (nI k, st2) := by
        simp only [x_first, h1, hz_ob, gdT (bf_k K.x0), n1, if_false, v1, b1, e1, z1, nz, pI_b (bf_k K.x0), gR_b (bf_k R1.1.x0), R1.1.r2, hz_nn, hl, hz_nm, y1', m1, i1, gdT (bf_k R3.1.x0), gI_b (bf_k R4.1.x0), c1, c3]
      have Y : m_first (nI h) v s = if v = 0 then some (nI y, s2) else some (nI k, s2) := by
        simp only [m_first, hz_nm, h2, hz_ob, n1, if_false, w2, v1, b2, e2, if_true, z2, nz, E2, z7]
        by_cases q5 : (5 : Int32) ≤ nI N2
        · rw [m2 q5] at i2
          rw [if_pos q5, show (5 : Int32) = nI 5 from rfl, i2, hz_ob, c2, c4]
        · rw [m3 q5] at i2
          rw [if_neg q5, i2, hz_ob, c2, c4]
      by_cases h0 : v = 0
      · rw [if_pos h0] at X Y
        exact ⟨_, st2, s2, X, Y, A5, (J1.trans J3).trans J4⟩
      · rw [if_neg h0] at X Y
        exact ⟨_, st2, s2, X, Y, A5, (J1.trans J3).trans J4⟩
end S2AQ
