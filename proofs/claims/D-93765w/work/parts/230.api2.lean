set_option maxRecDepth 100000
/-! ===== STAGE 2: the API: way, step, quickest ===== -/
theorem idx_c (p : Int32) (N : Nat) (hN : N < 2 ^ 30) : (x_in p 0 (nI N - 1) = 0) ∨ (x_in p 0 (nI N - 1) = 1 ∧ ∃ k, k < N ∧ p = nI k) := by
  by_cases h0 : N = 0
  · subst h0
    refine Or.inl ?_
    unfold x_in
    by_cases q : p < 0
    · rw [if_pos q]
    · rw [if_neg q, if_pos]
      show (-1 : Int32) < p
      rw [Int32.lt_iff_toInt_lt] at q ⊢
      have : (0 : Int32).toInt = 0 := rfl
      have : (-1 : Int32).toInt = -1 := rfl
      omega
  · have e3 : nI N - 1 = nI (N - 1) := by rw [← nI1, pk_sub (by omega)]
    rw [e3]
    rcases in_cases p 0 (N - 1) (by omega) (by decide) with ⟨h1, h2⟩ | ⟨h1, k, h2, h3, h4⟩
    · exact Or.inl h1
    · exact Or.inr ⟨h1, k, by omega, h4⟩
theorem wi0 {a c : Int32} : m_within a.toInt64 (0 : Int64) c.toInt64 = x_in a 0 c := wi (b := 0) (by decide) rfl
section S2A2
variable {x : Nat}
theorem RR.ra {x c n H dn un N1 N2 M N3 : Nat} {B : Nat → Nat} {st : hk_St} {s : hk_Ms} (h : RR x c n B H dn un N1 N2 M N3 st s) : RA x (c + 140) st s := RA.le ⟨n, B, H, dn, un, N1, N2, M, N3, h⟩ (by omega)
theorem d10 {v : Nat} (hv : v < 2 ^ 31) {h w : Nat} (e : v = 10 * h + w) (hw : w < 10) : nI v / (10 : Int32) = nI h ∧ nI v - nI h * (10 : Int32) = nI w := by
  have e1 : nI v / (10 : Int32) = nI h := by rw [ld_10 hv]; congr 1; omega
  have e2 := lm_10 hv
  rw [e1, show v % 10 = w by omega] at e2
  exact ⟨e1, e2⟩
theorem ap_way (p q v : Int32) : AP x (x_way x p q v) (m_way p q v) := by
  intro c st s hA
  obtain ⟨n, B, H, dn, un, N1, N2, M, N3, R⟩ := hA
  have K := R.1
  have hH := R.2.2.1
  have h6 := hH.2.2.1
  rcases isBy_c K hH p with ⟨h1, h2⟩ | ⟨h1, h2, h, w, hh, hw, rfl⟩
  · exact ⟨-1, st, s, by simp only [x_way, h1, hz_ob, hz_gd, bf_k K.x0, if_true], by simp only [m_way, h2, hz_ob, if_true], R.ra, Mk.rf⟩
  · rcases isAsk_c q with ⟨q1, q2⟩ | ⟨q1, q2, ab, rfl, hab⟩
    · exact ⟨-1, st, s, by simp only [x_way, h1, hz_ob, hz_gd, bf_k K.x0, if_true, show ¬ (1 : Int32) = 0 by decide, if_false, q1], by simp only [m_way, h2, hz_ob, show ¬ (1 : Int32) = 0 by decide, if_false, q2, if_true], R.ra, Mk.rf⟩
    · have wv : m_within v.toInt64 (0 : Int64) (2 : Int64) = x_in v 0 2 := wi (b := 0) (c := 2) (by decide) (by decide)
      rcases in_z v 0 2 with v1 | ⟨v1, -, -⟩
      · exact ⟨-1, st, s, by simp only [x_way, h1, hz_ob, hz_gd, bf_k K.x0, if_true, show ¬ (1 : Int32) = 0 by decide, if_false, q1, v1], by simp only [m_way, h2, hz_ob, show ¬ (1 : Int32) = 0 by decide, if_false, q2, if_true, wv, v1], R.ra, Mk.rf⟩
      · obtain ⟨A, b, st', s', E1, E2, S1, S2, R2, L1, L2, X1, X2, X3⟩ := x_lays2 R hh (show w ≤ 6 by omega) hab
        have K2 := R2.1
        obtain ⟨d1, d2⟩ := d10 (show 10 * h + w < 2 ^ 31 by omega) rfl (show w < 10 by omega)
        cases b with
        | false => exact ⟨-2, st', s', by simp only [x_way, h1, hz_ob, hz_gd, bf_k K.x0, if_true, show ¬ (1 : Int32) = 0 by decide, if_false, q1, v1, E1, show bI false = 0 from rfl], by simp only [m_way, h2, hz_ob, show ¬ (1 : Int32) = 0 by decide, if_false, q2, if_true, wv, v1, d1, d2, E2, show bI false = 0 from rfl], R2.ra, S1.mk K⟩
        | true =>
          refine ⟨if v = 0 then nI (qSecs (sA A)) else if v = 1 then nI (qMost (sA A)) else nI (sA A).length, st', s', ?_, ?_, R2.ra, S1.mk K⟩
          · simp only [x_way, h1, hz_ob, hz_gd, bf_k K.x0, if_true, show ¬ (1 : Int32) = 0 by decide, if_false, q1, v1, E1, show bI true = 1 from rfl, gR_b (bf_k K2.x0), K2.r9, hz_nn, L1.i.1, L1.i.2.1, L1.i.2.2]
            repeat' split
            all_goals rfl
          · simp only [m_way, h2, hz_ob, show ¬ (1 : Int32) = 0 by decide, if_false, q2, if_true, wv, v1, d1, d2, E2, show bI true = 1 from rfl, m_secs L2 X3, m_most L2 X3 X2, L2.n]
            repeat' split
            all_goals rfl
theorem ap_step (p q i v : Int32) : AP x (x_step x p q i v) (m_step p q i v) := by
  intro c st s hA
  obtain ⟨n, B, H, dn, un, N1, N2, M, N3, R⟩ := hA
  have K := R.1
  have hH := R.2.2.1
  have h6 := hH.2.2.1
  rcases isBy_c K hH p with ⟨h1, h2⟩ | ⟨h1, h2, h, w, hh, hw, rfl⟩
  · exact ⟨-2000000000, st, s, by simp only [x_step, h1, hz_ob, hz_gd, bf_k K.x0, if_true], by simp only [m_step, h2, hz_ob, if_true], R.ra, Mk.rf⟩
  · rcases isAsk_c q with ⟨q1, q2⟩ | ⟨q1, q2, ab, rfl, hab⟩
    · exact ⟨-2000000000, st, s, by simp only [x_step, h1, hz_ob, hz_gd, bf_k K.x0, if_true, show ¬ (1 : Int32) = 0 by decide, if_false, q1], by simp only [m_step, h2, hz_ob, show ¬ (1 : Int32) = 0 by decide, if_false, q2, if_true], R.ra, Mk.rf⟩
    · have wv : m_within v.toInt64 (0 : Int64) (3 : Int64) = x_in v 0 3 := wi (b := 0) (c := 3) (by decide) (by decide)
      rcases in_z v 0 3 with v1 | ⟨v1, -, -⟩
      · exact ⟨-2000000000, st, s, by simp only [x_step, h1, hz_ob, hz_gd, bf_k K.x0, if_true, show ¬ (1 : Int32) = 0 by decide, if_false, q1, v1], by simp only [m_step, h2, hz_ob, show ¬ (1 : Int32) = 0 by decide, if_false, q2, if_true, wv, v1], R.ra, Mk.rf⟩
      · obtain ⟨A, b, st', s', E1, E2, S1, S2, R2, L1, L2, X1, X2, X3⟩ := x_lays2 R hh (show w ≤ 6 by omega) hab
        have K2 := R2.1
        obtain ⟨d1, d2⟩ := d10 (show 10 * h + w < 2 ^ 31 by omega) rfl (show w < 10 by omega)
        cases b with
        | false => exact ⟨-2000000000, st', s', by simp only [x_step, h1, hz_ob, hz_gd, bf_k K.x0, if_true, show ¬ (1 : Int32) = 0 by decide, if_false, q1, v1, E1, show bI false = 0 from rfl], by simp only [m_step, h2, hz_ob, show ¬ (1 : Int32) = 0 by decide, if_false, q2, if_true, wv, v1, d1, d2, E2, show bI false = 0 from rfl], R2.ra, S1.mk K⟩
        | true =>
          rcases idx_c i (sA A).length (by omega) with i1 | ⟨i1, k, hk, rfl⟩
          · exact ⟨-2000000000, st', s', by simp only [x_step, h1, hz_ob, hz_gd, bf_k K.x0, if_true, show ¬ (1 : Int32) = 0 by decide, if_false, q1, v1, E1, show bI true = 1 from rfl, gR_b (bf_k K2.x0), K2.r9, hz_nn, L1.i.1, i1], by simp only [m_step, h2, hz_ob, show ¬ (1 : Int32) = 0 by decide, if_false, q2, if_true, wv, v1, d1, d2, E2, show bI true = 1 from rfl, L2.n, wi0, i1], R2.ra, S1.mk K⟩
          · have hr : (sA A)[k]? = some (sA A)[k] := by simp [hk]
            generalize (sA A)[k] = r at hr
            obtain ⟨c1, c2, c3, c4, c5, c6⟩ := L1.r.2 k r hr (by omega)
            obtain ⟨m1, m2, m3, m4, m5, m6⟩ := L2.r hr
            have r0 := L1.r.1 0 (by decide)
            have r1 := L1.r.1 1 (by decide)
            have r2 := L1.r.1 2 (by decide)
            have r3 := L1.r.1 3 (by decide)
            simp only [Nat.add_zero, Nat.reduceAdd, Nat.add_assoc] at r0 r1 r2 r3
            refine ⟨if v = 0 then nI (aSo r) else if v = 1 then nI (aV r) else if v = 2 then nI (aLe r) else nI (aHe r), st', s', ?_, ?_, R2.ra, S1.mk K⟩
            · simp only [x_step, h1, hz_ob, hz_gd, bf_k K.x0, if_true, show ¬ (1 : Int32) = 0 by decide, if_false, q1, v1, E1, show bI true = 1 from rfl, gR_b (bf_k K2.x0), K2.r9, hz_nn, L1.i.1, i1, r0, r1, r2, r3, c1, c2, c3, c4, lN_i]
              repeat' split
              all_goals rfl
            · simp only [m_step, h2, hz_ob, show ¬ (1 : Int32) = 0 by decide, if_false, q2, if_true, wv, v1, d1, d2, E2, show bI true = 1 from rfl, L2.n, wi0, i1, hml (show k < 200 by omega) (show 200 < 2 ^ 31 by decide), m1, m2, m3, m4]
              repeat' split
              all_goals rfl
theorem quick_L {c n H dn un N1 N2 M N3 h ab : Nat} {B : Nat → Nat} {v : Int32} (hh : h < H) (hab : Pr ab) {eC : Int32 → hk_St → Option (Int32 × hk_St)} {eM : Int32 → hk_Ms → Option (Int32 × hk_Ms)} :
    ∀ m f w bst lst st s, m < f → w + m = 7 → RR x c n B H dn un N1 N2 M N3 st s → ∃ b2 st' s', x_quickest_L37 x (nI h) (nI ab) v eC f bst lst (nI w) st = eC b2 st' ∧ m_quickest_L39 (nI h) (nI ab) v eM f bst lst (nI w) s = eM b2 s' ∧ Scr x st st' ∧ RR x c n B H dn un N1 N2 M N3 st' s' := by
  intro m
  induction m with
  | zero =>
    intro f w bst lst st s hf hw R
    obtain ⟨f, rfl⟩ : ∃ g, f = g + 1 := ⟨f - 1, by omega⟩
    have : w = 7 := by omega
    subst this
    refine ⟨bst, st, s, ?_, ?_, Scr.rf R.1.wk R.1.li, R⟩
    · show x_quickest_L37b _ _ _ _ _ _ _ _ _ _ = _
      simp only [x_quickest_L37b, hz_nm, show (7 : Int32) ≤ nI 7 by decide, if_true]
    · show m_quickest_L39b _ _ _ _ _ _ _ _ _ = _
      simp only [m_quickest_L39b, hz_nm, show (7 : Int32) ≤ nI 7 by decide, if_true]
  | succ m ih =>
    intro f w bst lst st s hf hw R
    obtain ⟨f, rfl⟩ : ∃ g, f = g + 1 := ⟨f - 1, by omega⟩
    have h6 := R.2.2.1.2.2.1
    obtain ⟨A, b, st1, s1, E1, E2, S1, S2, R2, L1, L2, X1, X2, X3⟩ := x_lays2 R hh (show w ≤ 6 by omega) hab
    have K := R.1
    have K2 := R2.1
    have n7 : ¬ (7 : Int32) ≤ nI w := nI_ge (b := 7) (by omega) (by decide)
    have e10 : (10 : Int32) * nI h + nI w = nI (10 * h + w) := by rw [show (10 : Int32) = nI 10 from rfl, pk_mul, nI_add]
    have go : ∀ b' l', ∃ b2 st' s', x_quickest_L37 x (nI h) (nI ab) v eC f b' l' (nI (w + 1)) st1 = eC b2 st' ∧ m_quickest_L39 (nI h) (nI ab) v eM f b' l' (nI (w + 1)) s1 = eM b2 s' ∧ Scr x st st' ∧ RR x c n B H dn un N1 N2 M N3 st' s' := by
      intro b' l'
      obtain ⟨b2, st', s', i1, i2, i3, i4⟩ := ih f (w + 1) b' l' st1 s1 (by omega) (by omega) R2
      exact ⟨b2, st', s', i1, i2, S1.trans i3, i4⟩
    show ∃ b2 st' s', x_quickest_L37b _ _ _ _ _ (x_quickest_L37 x (nI h) (nI ab) v eC f) _ _ _ _ = _ ∧ m_quickest_L39b _ _ _ _ (m_quickest_L39 (nI h) (nI ab) v eM f) _ _ _ _ = _ ∧ _
    simp only [x_quickest_L37b, m_quickest_L39b, hz_nm, n7, if_false, e10, E1, E2, hz_ob, hz_gd, bf_k K.x0, if_true, gR_b (bf_k K2.x0), K2.r9, hz_nn, L1.i.2.1, L1.i.2.2, m_secs L2 X3, m_most L2 X3 X2, nI_1]
    cases b with
    | false =>
      simp only [show bI false = 0 from rfl, if_true]
      exact go bst lst
    | true =>
      simp only [show bI true = 1 from rfl, show ¬ (1 : Int32) = 0 by decide, if_false]
      by_cases c1 : v < nI (qMost (sA A))
      · simp only [c1, if_true]; exact go bst lst
      · simp only [c1, if_false]
        by_cases c2 : bst < 0
        · simp only [c2, if_true]; exact go _ _
        · simp only [c2, if_false]
          by_cases c3 : nI (qSecs (sA A)) < lst
          · have c4 : ¬ lst ≤ nI (qSecs (sA A)) := Int32.not_le.mpr c3
            simp only [c3, c4, if_true, if_false]; exact go _ _
          · have c4 : lst ≤ nI (qSecs (sA A)) := Int32.not_lt.mp c3
            simp only [c3, c4, if_true, if_false]; exact go _ _
theorem ap_quickest (p q v : Int32) : AP x (x_quickest x p q v) (m_quickest p q v) := by
  intro c st s hA
  obtain ⟨n, B, H, dn, un, N1, N2, M, N3, R⟩ := hA
  have K := R.1
  have hH := R.2.2.1
  rcases isHead_c K hH p with ⟨h1, h2⟩ | ⟨h1, h2, h, hh, rfl⟩
  · exact ⟨-1, st, s, by simp only [x_quickest, h1, hz_ob, hz_gd, bf_k K.x0, if_true], by simp only [m_quickest, h2, hz_ob, if_true], R.ra, Mk.rf⟩
  · rcases isAsk_c q with ⟨q1, q2⟩ | ⟨q1, q2, ab, rfl, hab⟩
    · exact ⟨-1, st, s, by simp only [x_quickest, h1, hz_ob, hz_gd, bf_k K.x0, if_true, show ¬ (1 : Int32) = 0 by decide, if_false, q1], by simp only [m_quickest, h2, hz_ob, show ¬ (1 : Int32) = 0 by decide, if_false, q2, if_true], R.ra, Mk.rf⟩
    · have wv : m_within v.toInt64 (1 : Int64) (99 : Int64) = x_in v 1 99 := wi (b := 1) (c := 99) (by decide) (by decide)
      rcases in_z v 1 99 with v1 | ⟨v1, -, -⟩
      · exact ⟨-1, st, s, by simp only [x_quickest, h1, hz_ob, hz_gd, bf_k K.x0, if_true, show ¬ (1 : Int32) = 0 by decide, if_false, q1, v1], by simp only [m_quickest, h2, hz_ob, show ¬ (1 : Int32) = 0 by decide, if_false, q2, if_true, wv, v1], R.ra, Mk.rf⟩
      · obtain ⟨b2, st', s', E1, E2, S1, R2⟩ := quick_L (x := x) (v := v) (eC := fun v10 s11 => some (v10, s11)) (eM := fun v9 s10 => some (v9, s10)) hh hab 7 hk_F 0 (-2) 0 st s (pw_F (by decide)) rfl R
        rw [nI_0] at E1 E2
        refine ⟨b2, st', s', ?_, ?_, R2.ra, S1.mk K⟩
        · simp only [x_quickest, h1, hz_ob, hz_gd, bf_k K.x0, if_true, show ¬ (1 : Int32) = 0 by decide, if_false, q1, v1, E1]
        · simp only [m_quickest, h2, hz_ob, show ¬ (1 : Int32) = 0 by decide, if_false, q2, if_true, wv, v1, E2]
end S2A2
