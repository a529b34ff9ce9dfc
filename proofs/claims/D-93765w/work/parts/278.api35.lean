set_option maxRecDepth 100000
/-! ===== STAGE 2: the methods that throw: asks ===== -/
section S2BC
variable {x c n H dn un N1 N2 M N3 : Nat} {B : Nat → Nat} {st st' : hk_St} {s s' : hk_Ms} {l : Launch} {Gd : hk_G}
theorem RR.le2 (R : RR x c n B H dn un N1 N2 M N3 st s) {c' : Nat} (h : c ≤ c') : RR x c' n B H dn un N1 N2 M N3 st s := by
  obtain ⟨K, hT, hH, hG, hL, hS, hO, hP, hB, hTr, hV, hc1, hc2⟩ := R
  exact ⟨K, hT, hH, hG, hL, hS, hO, hP, hB, hTr, hV, by omega, by omega⟩
theorem Mk.cs {k m : Nat} (h : Mk x st st') : Mk x st (hk_cs st' k m) := h
theorem asks_K {d r m P J : Nat} (hd : d < 6) (hJ : J ≤ 15) (hm : m ≤ 60) (hP : P ≤ 60) : ∀ (k t f f2 c : Nat) (st : hk_St) (s : hk_Ms) (N1 : Nat), t + k = J → k + 1 ≤ f → k + 2 ≤ f2 → RR x c n B H dn un N1 N2 M N3 st s → hk_k st r = some (25, 0) → hk_fR st 2500 r = some (r + 1) → hk_k st (r + 1) = some (100, m) →
    (∀ i, i < m → rwV st 2 r i (hm_B s 28 (60 * d + i))) → hm_A s 27 d = nI m → ∃ v fin s' N1', x_asks_L x r (r + 1) m (nI P) (nI J) f (nI t) (nI t) st = some (v, fin) ∧ m_asks_L69 (nI d) (nI P) (nI J) (fun v6 s7 => some (v6, s7)) f2 (nI t) 1 s = some (v, s') ∧ RR x (c + k + 3) n B H dn un N1' N2 M N3 fin s' ∧ Mk x st fin := by
  intro k
  induction k with
  | zero =>
    intro t f f2 c st s N1 htk hf hf2 R k1 k2 k3 hv hA
    obtain ⟨f, rfl⟩ : ∃ g, f = g + 1 := ⟨f - 1, by omega⟩
    obtain ⟨f2, rfl⟩ : ∃ g, f2 = g + 1 := ⟨f2 - 1, by omega⟩
    have e : t = J := by omega
    subst e
    exact ⟨nI t, st, s, N1, by rw [x_asks_L, if_pos (Int32.le_refl _)], by simp only [m_asks_L69, m_asks_L69b, hz_nm, show ¬ (1 : Int32) = 0 by decide, if_false, Int32.le_refl, if_true], R.le2 (by omega), Mk.rf⟩
  | succ k ih =>
    intro t f f2 c st s N1 htk hf hf2 R k1 k2 k3 hv hA
    obtain ⟨f, rfl⟩ : ∃ g, f = g + 1 := ⟨f - 1, by omega⟩
    obtain ⟨f2, rfl⟩ : ∃ g, f2 = g + 2 := ⟨f2 - 2, by omega⟩
    have K := R.1
    have n1 : ¬ (1 : Int32) = 0 := by decide
    have jt : ¬ nI J ≤ nI t := nI_ge (by omega) (by omega)
    have g : x_asks_G r (r + 1) m st = true := by simp [x_asks_G, k1, k2, k3]
    have eq : nI P + 4 * nI t = nI (P + 4 * t) := by rw [show (4 : Int32) * nI t = nI (4 * t) from pk_mul 4 t, nI_add]
    have ga : ∀ a, nI (P + 4 * t) + nI a = nI (P + 4 * t + a) := fun a => nI_add _ _
    have g1 : nI (P + 4 * t) + 1 = nI (P + 4 * t + 1) := ga 1
    have g2 : nI (P + 4 * t) + 2 = nI (P + 4 * t + 2) := ga 2
    have g3 : nI (P + 4 * t) + 3 = nI (P + 4 * t + 3) := ga 3
    have A : hm_lI s 27 6 (nI d) = some (nI m) := by rw [A27 hd, hA]
    have cm : (nI m - 4) - 4 * nI t < nI P ↔ m < P + 4 * t + 4 := by
      rw [show (4 : Int32) * nI t = nI (4 * t) from pk_mul 4 t, show (4 : Int32) = nI 4 from rfl, Int32.lt_iff_toInt_lt, Int32.toInt_sub, pk_sub_toInt (by omega) (by omega), nI_toInt (by omega), nI_toInt (by omega)]
      rw [Int.bmod_eq_of_le (by omega) (by omega)]
      omega
    have stop : ∀ (s2 : hk_Ms), m_asks_L69 (nI d) (nI P) (nI J) (fun v6 s7 => some (v6, s7)) (f2 + 1) (nI t + 0) 0 s2 = some (nI t, s2) := fun s2 => by
      simp only [m_asks_L69, m_asks_L69b, hz_nm, if_true, Int32.add_zero]
    rw [x_asks_L, if_neg jt, gdT g, eq, hz_nm, g1, g2, g3]
    by_cases hb : P + 4 * t + 4 ≤ m
    · have i4 : ∀ a, a < 4 → hk_in (nI (P + 4 * t + a)) m = true := fun a ha => hk_in_nI (by omega) (by omega)
      have cl : ∀ a, a < 4 → (nI (P + 4 * t + a)).toNatClampNeg = P + 4 * t + a := fun a ha => nI_clamp (by omega)
      rw [if_pos ⟨i4 0 (by decide), i4 1 (by decide), i4 2 (by decide), i4 3 (by decide)⟩, show (nI (P + 4 * t)).toNatClampNeg = P + 4 * t from cl 0 (by decide), cl 1 (by decide), cl 2 (by decide), cl 3 (by decide)]
      rw [hz_nm, hz_nm, hz_nm, hz_nm]
      have v0 : ∀ a, a < 4 → hm_B s 28 (60 * d + P + (4 * t) + a) = (hk_aI st (r + 1) (P + 4 * t + a)).toInt64 := fun a ha => by
        have := (hv (P + 4 * t + a) (by omega)).2
        rw [show 60 * d + P + 4 * t + a = 60 * d + (P + 4 * t + a) by omega]
        exact this.symm
      have l0 : ∀ a, a < 4 → hm_lL s 28 360 (nI (60 * d + P + 4 * t + a)) = some (hk_aI st (r + 1) (P + 4 * t + a)).toInt64 := fun a ha => by rw [hmlB (by omega) (by decide), v0 a ha]
      have eb : (60 : Int32) * nI d + nI P + (4 : Int32) * nI t = nI (60 * d + P + 4 * t + 0) := by rw [n60, show (4 : Int32) * nI t = nI (4 * t) from pk_mul 4 t, nI_add]; rfl
      have b1 : nI (60 * d + P + 4 * t + 0) + 1 = nI (60 * d + P + 4 * t + 1) := nI_add _ 1
      have b2 : nI (60 * d + P + 4 * t + 0) + 2 = nI (60 * d + P + 4 * t + 2) := nI_add _ 2
      have b3 : nI (60 * d + P + 4 * t + 0) + 3 = nI (60 * d + P + 4 * t + 3) := nI_add _ 3
      have y0 := l0 0 (by decide)
      have y1 := l0 1 (by decide)
      have y2 := l0 2 (by decide)
      have y3 := l0 3 (by decide)
      rw [show P + 4 * t + 0 = P + 4 * t from rfl] at y0
      generalize hk_aI st (r + 1) (P + 4 * t) = z0 at *
      generalize hk_aI st (r + 1) (P + 4 * t + 1) = z1 at *
      generalize hk_aI st (r + 1) (P + 4 * t + 2) = z2 at *
      generalize hk_aI st (r + 1) (P + 4 * t + 3) = z3 at *
      have w0 : m_within z0.toInt64 (1 : Int64) (9999 : Int64) = x_in z0 1 9999 := wi (b := 1) (c := 9999) (by decide) (by decide)
      have w1 : m_within z1.toInt64 (1 : Int64) (9999 : Int64) = x_in z1 1 9999 := wi (b := 1) (c := 9999) (by decide) (by decide)
      have hcm : ¬ (nI m - 4) - 4 * nI t < nI P := fun q => by have := cm.mp q; omega
      by_cases x0 : x_in z0 1 9999 = 0
      · rw [if_pos x0]
        exact ⟨nI t, st, s, N1, rfl, by simp only [m_asks_L69, m_asks_L69b, hz_nm, n1, if_false, jt, A, hz_ob, hcm, eb, y0, w0, x0, if_true] at stop ⊢; exact stop s, R.le2 (by omega), Mk.rf⟩
      rw [if_neg x0]
      by_cases x1 : x_in z1 1 9999 = 0
      · rw [if_pos x1]
        exact ⟨nI t, st, s, N1, rfl, by simp only [m_asks_L69, m_asks_L69b, hz_nm, n1, if_false, jt, A, hz_ob, hcm, eb, y0, w0, x0, b1, y1, w1, x1, if_true] at stop ⊢; exact stop s, R.le2 (by omega), Mk.rf⟩
      rw [if_neg x1, gdT (bf_k K.x0)]
      obtain ⟨rr, st2, s2, N1', e1, e2, R2, M2, F, G⟩ := see_R (10000 * z0 + z1) z2 z3 R
      rw [e1, hz_ob]
      by_cases h0 : 0 ≤ rr
      · have h0' : ¬ rr < 0 := Int32.not_lt.mpr h0
        have w := K.wk
        obtain ⟨v, fin, s', N1'', a1, a2, a3, a4⟩ := ih (t + 1) f (f2 + 1) (c + 1) st2 s2 N1' (by omega) (by omega) (by omega) R2 ((F.2.1 _ (w.lt k1)).trans k1) ((F.2.2.2.2.1 _ _ (w.lt k1) (fun q => q)).trans k2) ((F.2.1 _ (w.lt k3)).trans k3) (fun i hi => by
          have := hv i hi
          unfold rwV at this ⊢
          rw [F.2.2.2.2.2.1 _ i (w.lt k3) (fun q => q), F.2.2.2.2.2.2.1 _ i (w.lt k3) (fun q => q), G.2.2 _ (fun q => q)]
          exact this) ((G.2.1 _ _ (by omega)).trans hA)
        refine ⟨v, fin, s', N1'', ?_, ?_, a3.le2 (by omega), M2.trans a4⟩
        · show (if 0 ≤ rr then x_asks_L x r (r + 1) m (nI P) (nI J) f (nI t + 1) (nI t + 1) st2 else some (nI t, st2)) = _
          rw [if_pos h0, nI_1]
          exact a1
        · rw [m_asks_L69]
          simp only [m_asks_L69b, hz_nm, n1, if_false, jt, A, hz_ob, hcm, eb, y0, w0, x0, b1, y1, w1, x1, b2, y2, b3, y3, Int32.toInt32_toInt64, e2, h0', nI_1]
          exact a2
      · have h0' : rr < 0 := Int32.not_le.mp h0
        refine ⟨nI t, st2, s2, N1', ?_, ?_, R2.le2 (by omega), M2⟩
        · show (if 0 ≤ rr then x_asks_L x r (r + 1) m (nI P) (nI J) f (nI t + 1) (nI t + 1) st2 else some (nI t, st2)) = _
          rw [if_neg h0]
        · rw [m_asks_L69]
          simp only [m_asks_L69b, hz_nm, n1, if_false, jt, A, hz_ob, hcm, eb, y0, w0, x0, b1, y1, w1, x1, b2, y2, b3, y3, Int32.toInt32_toInt64, e2, h0', if_true]
          exact stop s2
    · have hno : ¬ (hk_in (nI (P + 4 * t)) m = true ∧ hk_in (nI (P + 4 * t + 1)) m = true ∧ hk_in (nI (P + 4 * t + 2)) m = true ∧ hk_in (nI (P + 4 * t + 3)) m = true) := fun q => by
        have := q.2.2.2
        simp only [hk_in, Bool.and_eq_true, decide_eq_true_eq, nI_clamp (show P + 4 * t + 3 < 2 ^ 31 by omega)] at this
        omega
      rw [if_neg hno]
      have hcm : (nI m - 4) - 4 * nI t < nI P := cm.mpr (by omega)
      refine ⟨nI t, hk_cs st 3 222, s, N1, rfl, ?_, (R.cs (k := 3) (m := 222) (d := 3) (by omega) (by omega)).le2 (by omega), Mk.rf⟩
      rw [m_asks_L69]
      simp only [m_asks_L69b, hz_nm, n1, if_false, jt, A, hz_ob, hcm, if_true]
      exact stop s
set_option maxHeartbeats 1000000 in
theorem apx_asks (htr : l.stackTraces = false) (p p2 p3 : Int32) (hA : RA x c st s) : ∃ r fin s', hx_MG Gd l yX0_asks (wsW_ yX0_asks cX0_asks 12 (some .int) hx_t_asks) 12 10400 [.ref x, .int p, .int p2, .int p3] st (some (.int r)) fin ∧ m_asks p p2 p3 s = some (r, s') ∧
    ∀ z, hk_nx fin ≤ z → RA x (c + 140) (hk_bz fin z) s' ∧ Mk x st (hk_bz fin z) := by
  obtain ⟨n, B, H, dn, un, N1, N2, M, N3, R⟩ := hA
  have K := R.1
  have hV := R.2.2.2.2.2.2.2.2.2.2.1
  have hN := R.2.2.2.2.2.2.2.2.1.2.2.1
  have n1 : ¬ (1 : Int32) = 0 := by decide
  rcases shelf_cases p with ⟨h1, h2⟩ | ⟨d, hd, hp, h1, h2⟩
  · exact ⟨_, _, s, w0_asks htr h1, by simp only [m_asks, hz_nm, h2, if_true], fun z hz => R.still hz⟩
  have wk : m_within p3.toInt64 (1 : Int64) (15 : Int64) = x_in p3 1 15 := wi (b := 1) (c := 15) (by decide) (by decide)
  rcases in_cases p3 1 15 (by decide) (by decide) with ⟨i1, -⟩ | ⟨i1, J, hJ1, hJ, rfl⟩
  · have i1 : x_in p3 1 15 = 0 := i1
    exact ⟨_, _, s, w1_asks htr h1 i1, by simp only [m_asks, hz_nm, h2, if_false, wk, i1, if_true], fun z hz => R.still hz⟩
  have i1 : x_in (nI J) 1 15 = 1 := i1
  have i2 : ¬ x_in (nI J) (1 : Int32) (15 : Int32) = 0 := by rw [i1]; exact n1
  have j0 : ¬ nI J ≤ (0 : Int32) := nI_nle (by omega) (by omega)
  have e2 := sh2 K hd
  rw [← hp] at e2
  have A : hm_lI s 26 6 p = some (hm_A s 26 d) := by rw [hp]; exact A26 hd
  obtain ⟨F, hF⟩ : ∃ g, hk_F = g + 2 := ⟨hk_F - 2, by have := hk_F_big; omega⟩
  have stop : ∀ (s2 : hk_Ms), m_asks_L69 p p2 (nI J) (fun v6 s7 => some (v6, s7)) hk_F 0 0 s2 = some (0, s2) := fun s2 => by
    rw [hF, m_asks_L69]
    simp only [m_asks_L69b, hz_nm, if_true]
  rcases hV.1 d hd with ⟨q1, q2⟩ | ⟨b, w, kd, q1, q2, q3, q4, q5, q6⟩ | ⟨r, q, m, q1, q2, q3, q4, q5, q6, q7, q8, q9, qA⟩
  · rw [q1] at e2
    refine ⟨_, _, s, w2_asks htr h1 i2 (sh1 K) e2 j0, ?_, fun z hz => R.gone (by decide) (by decide) hz⟩
    simp only [m_asks, hz_nm, h2, if_false, wk, i1, n1, A, q2, hz_ob, show (-1 : Int32) < 0 by decide, if_true, show ¬ (-1 : Int32) = 52 by decide]
    exact stop s
  · rw [q2] at e2
    obtain ⟨rr, -, no⟩ := no_way q6
    have ne : ¬ nI b = (52 : Int32) := fun e => by have := (nI_eq (b := 52) (by omega) (by decide)).mp e; omega
    have nb : ¬ nI b < 0 := nI_pos (by omega)
    exact ⟨_, _, s, w3_asks htr h1 i2 (sh1 K) e2 q5 no, by simp only [m_asks, hz_nm, h2, if_false, wk, i1, n1, A, q4, hz_ob, nb, ne], fun z hz => R.gone (by decide) (by decide) hz⟩
  rw [q1] at e2
  by_cases hq : q = 2
  · subst hq
    have q8 : hm_A s 26 d = (52 : Int32) := q8
    have n52 : ¬ (52 : Int32) < 0 := by decide
    have q5 : hk_fR st 2500 r = some (r + 1) := q5
    by_cases h0 : p2 < 0
    · have hin : ¬ hk_in p2 m = true := by simp [hk_in, h0]
      refine ⟨0, hk_cs st 3 222, s, w4_asks (n := 1) (a := r + 1) (k := m) htr h1 i2 (sh1 K) e2 q4 (by omega) ?_, ?_, fun z hz => R.gone (by decide) (by decide) hz⟩
      · have g : x_asks_G r (r + 1) m st = true := by
          have q6 : hk_k st (r + 1) = some (100, m) := q6
          simp [x_asks_G, q4, q5, q6]
        rw [x_asks_L, if_neg j0, gdT g, hz_nm, show p2 + 4 * 0 = p2 from by rw [Int32.mul_zero, Int32.add_zero], if_neg (fun q => hin q.1)]
      · simp only [m_asks, hz_nm, h2, if_false, wk, i1, n1, A, q8, hz_ob, n52, if_true, h0]
        exact stop s
    · obtain ⟨P, hP, rfl⟩ := nI_of h0
      by_cases hP6 : P ≤ 60
      · obtain ⟨v, fin, s', N1', a1, a2, a3, a4⟩ := asks_K hd hJ q7 hP6 J 0 hk_F hk_F c st s N1 (by omega) (by have := hk_F_big; omega) (by have := hk_F_big; omega) R q4 q5 q6 qA q9
        refine ⟨v, fin, s', w4_asks htr h1 i2 (sh1 K) e2 q4 (by omega) a1, ?_, fun z hz => ⟨RA.le ⟨_, _, _, _, _, _, _, _, _, a3.bz hz⟩ (by omega), a4.trans (fun _ _ _ => ⟨fun _ => rfl, fun _ => rfl, fun _ => rfl, fun _ => rfl⟩)⟩⟩
        subst hp
        simp only [m_asks, hz_nm, h2, if_false, wk, i1, n1, A, q8, hz_ob, n52, if_true, h0]
        exact a2
      · have hin : ¬ hk_in (nI P) m = true := by
          simp only [hk_in, nI_clamp hP, Bool.and_eq_true, decide_eq_true_eq]
          omega
        refine ⟨0, hk_cs st 3 222, s, w4_asks (n := 1) (a := r + 1) (k := m) htr h1 i2 (sh1 K) e2 q4 (by omega) ?_, ?_, fun z hz => R.gone (by decide) (by decide) hz⟩
        · have g : x_asks_G r (r + 1) m st = true := by
            have q6 : hk_k st (r + 1) = some (100, m) := q6
            simp [x_asks_G, q4, q5, q6]
          rw [x_asks_L, if_neg j0, gdT g, hz_nm, show nI P + 4 * 0 = nI P from by rw [Int32.mul_zero, Int32.add_zero], if_neg (fun q => hin q.1)]
        · have hcm : (nI m - 4) - 4 * 0 < nI P := by
            rw [Int32.mul_zero, show (nI m - 4) - 0 = nI m - nI 4 from by rw [Int32.sub_zero]; rfl, Int32.lt_iff_toInt_lt, pk_sub_toInt (by omega) (by omega), nI_toInt hP]
            omega
          subst hp
          have jt : ¬ nI J ≤ (0 : Int32) := j0
          simp only [m_asks, hz_nm, h2, if_false, wk, i1, n1, A, q8, hz_ob, n52, if_true, h0]
          rw [hF] at stop ⊢
          rw [m_asks_L69]
          simp only [m_asks_L69b, hz_nm, n1, if_false, jt, A27 hd, q9, hz_ob, hcm, if_true, Int32.add_zero]
          rw [m_asks_L69]
          simp only [m_asks_L69b, hz_nm, if_true]
  · obtain ⟨rr, -, no⟩ := no_row q3
    have ne : ¬ nI (50 + q) = (52 : Int32) := fun e => by have := (nI_eq (b := 52) (by omega) (by decide)).mp e; omega
    have nb : ¬ nI (50 + q) < 0 := nI_pos (by omega)
    exact ⟨_, _, s, w3_asks htr h1 i2 (sh1 K) e2 q4 (no hq), by simp only [m_asks, hz_nm, h2, if_false, wk, i1, n1, A, q8, hz_ob, nb, ne], fun z hz => R.gone (by decide) (by decide) hz⟩
end S2BC
