set_option maxRecDepth 100000
/-! ===== STAGE 2: the reference's crossed ===== -/
section S2Q2
variable {s0 s : hk_Ms} {A : qS} {h : Nat} {t : Nat → Nat} {g : Nat → Int32}
-- crossed
theorem qm_crossed_in {a b k : Nat} {e0 : Int32 → hk_Ms → Option hk_Ms} (H : HM s0 h t) (ht : ∀ i, t i ≤ 99) (ha : nd a ≤ 4) (hb : nd b ≤ 4) (hk : k ≤ 10) :
    ∀ r f s A, r < f → r ≤ k + 1 → RM s0 s A h t g → sP A = k → qG A (2 * (lCol a b k r).length) (qSum (lCol a b k r)) →
    ∃ s', m_goCrossed_L24 (nI a) (nI b) (nI k) e0 f (fI A) (nI (k + 1 - r)) s = e0 (fI (qLooks t (lCol a b k r) A)) s' ∧ RM s0 s' (qLooks t (lCol a b k r) A) h t g := by
  have ha4 : a < 10 ^ 4 := nd_lt _ _ ha
  have hb4 : b < 10 ^ 4 := nd_lt _ _ hb
  intro r
  induction r with
  | zero =>
    intro f s A hf _ R _ _
    obtain ⟨f, rfl⟩ : ∃ g, f = g + 1 := ⟨f - 1, by omega⟩
    refine ⟨s, ?_, R⟩
    show m_goCrossed_L24b (nI a) (nI b) (nI k) e0 _ _ _ _ = _
    have e1 : nI k < nI (k + 1 - 0) := nI_lt (by omega) (by omega)
    simp only [m_goCrossed_L24b, hz_nm, e1, if_true]
    rfl
  | succ r ih =>
    intro f s A hf hr R hP G
    obtain ⟨f, rfl⟩ : ∃ g, f = g + 1 := ⟨f - 1, by omega⟩
    show ∃ s', m_goCrossed_L24b (nI a) (nI b) (nI k) e0 (m_goCrossed_L24 (nI a) (nI b) (nI k) e0 f) (fI A) (nI (k + 1 - (r + 1))) s = _ ∧ _
    have hi : k + 1 - (r + 1) = k - r := by omega
    rw [hi]
    have e2 : ¬ nI k < nI (k - r) := fun q => by have := (nI_ltI (by omega) (by omega)).mp q; omega
    have e3 : nI k - nI (k - r) = nI r := by rw [pk_sub (by omega)]; congr 1; omega
    have e6 : nI (k - r) + (1 : Int32) = nI (k + 1 - r) := by rw [← nI1, nI_add]; congr 1; omega
    have ea : m_figure (nI a) (nI (k - r)) = some (nI (fg a (k - r))) := ll_figure (by omega) (by omega)
    have eb : m_figure (nI b) (nI r) = some (nI (fg b r)) := ll_figure (by omega) (by omega)
    have hfa := fg_10 a (k - r)
    have hfb := fg_10 b r
    have ek := ll_tens (p := k) (by omega)
    rw [lCol] at G ⊢
    by_cases h0 : fg a (k - r) = 0
    · rw [if_pos (Or.inl h0)] at G ⊢
      simp only [m_goCrossed_L24b, hz_nm, e2, if_false, ea, hz_ob, e6]
      rw [if_pos ((li_eq0 (by omega)).mpr h0)]
      exact ih f s A (by omega) (by omega) R hP G
    · by_cases h1 : fg b r = 0
      · rw [if_pos (Or.inr h1)] at G ⊢
        simp only [m_goCrossed_L24b, hz_nm, e2, if_false, ea, hz_ob, e6, e3, eb]
        rw [if_neg (fun q => h0 ((li_eq0 (by omega)).mp q)), if_pos ((li_eq0 (by omega)).mpr h1)]
        exact ih f s A (by omega) (by omega) R hP G
      · have h2 : ¬ (fg a (k - r) = 0 ∨ fg b r = 0) := by omega
        rw [if_neg h2] at G ⊢
        rw [qLooks_ap]
        have hxy0 : fg a (k - r) * fg b r ≠ 0 := Nat.mul_ne_zero h0 h1
        have hxy : fg a (k - r) * fg b r ≤ 9 * 9 := Nat.mul_le_mul (by omega) (by omega)
        have G1 : qG A (2 * (lCol a b k r).length + 2) (fg a (k - r) * fg b r * 1 + qSum (lCol a b k r)) := G.le (by simp; omega) (by simp [qSum])
        have hs := G1.2.2.2
        have hr := G1.2.1
        have hn := G1.2.2.1
        have d0 : ¬ nI (fg a (k - r)) = 0 := fun q => h0 ((li_eq0 (by omega)).mp q)
        have d1 : ¬ nI (fg b r) = 0 := fun q => h1 ((li_eq0 (by omega)).mp q)
        have hz1 : fg a (k - r) * fg b r * 1 = fg a (k - r) * fg b r := Nat.mul_one _
        -- what the reference does here
        have hgo : ∀ s1, RM s0 s1 (if sF A then sR_ A (fg a (k - r) * fg b r * 1) else A) h t g → ∃ s', ((m_acts (0 : Int32) (nI (fg a (k - r) * fg b r)) (nI (min (fg a (k - r)) (fg b r) * 1 * 10 ^ k)) (0 : Int32) s1).bind fun s20 =>
            if fI A = 0 then (m_acts (1 : Int32) (hm_I (hm_sI s20 29 (hm_I s20 29 + nI (fg a (k - r) * fg b r))) 29) (0 : Int32) (nI k) (hm_sI s20 29 (hm_I s20 29 + nI (fg a (k - r) * fg b r)))).bind fun s24 => m_goCrossed_L24 (nI a) (nI b) (nI k) e0 f (0 : Int32) (nI (k + 1 - r)) s24
            else m_goCrossed_L24 (nI a) (nI b) (nI k) e0 f (0 : Int32) (nI (k + 1 - r)) s20) = m_goCrossed_L24 (nI a) (nI b) (nI k) e0 f (0 : Int32) (nI (k + 1 - r)) s' ∧ RM s0 s' (qLook t (fg a (k - r)) (fg b r) 1 A) h t g := by
          intro s1 R1
          by_cases hF : sF A = true
          · rw [if_pos hF] at R1
            obtain ⟨s2, E2, R2⟩ := qm_act (so := 0) (v := fg a (k - r) * fg b r * 1) (le := t 0) (sl := min (fg a (k - r)) (fg b r) * 1) (pl := 0) (vI := nI (fg a (k - r) * fg b r)) (slI := nI (min (fg a (k - r)) (fg b r) * 1 * 10 ^ k)) (plI := 0) R1 H (by decide)
              (by show (sA A).length < 120; omega) (by show fg a (k - r) * fg b r * 1 < 2 ^ 31; omega) (by omega) (by rw [hz1]) (by rw [if_pos rfl]) (by show _ = nI (_ * 10 ^ sP A); rw [hP]) rfl rfl
            refine ⟨s2, ?_, ?_⟩
            · rw [nI_0] at E2
              have : ¬ fI A = 0 := by rw [fI, hF]; decide
              simp only [E2, hz_ob, this, if_false]
            · rw [qLook, if_pos hF]
              exact R2.sF
          · rw [if_neg hF] at R1
            rw [sBs, if_neg hF] at hs
            obtain ⟨s2, E2, R2⟩ := qm_act (so := 0) (v := fg a (k - r) * fg b r * 1) (le := t 0) (sl := min (fg a (k - r)) (fg b r) * 1) (pl := 0) (vI := nI (fg a (k - r) * fg b r)) (slI := nI (min (fg a (k - r)) (fg b r) * 1 * 10 ^ k)) (plI := 0) R1 H (by decide)
              (by omega) hr (by omega) (by rw [hz1]) (by rw [if_pos rfl]) (by rw [hP]) rfl rfl
            have hl3 : (sA (qAct 0 (fg a (k - r) * fg b r * 1) (t 0) (min (fg a (k - r)) (fg b r) * 1) A)).length = (sA A).length + 1 := by rw [qAct_A, List.length_append]; rfl
            obtain ⟨s4, E4, R4⟩ := qm_act (so := 1) (v := sR A + fg a (k - r) * fg b r * 1) (le := t 1 * ns1 (sR A + fg a (k - r) * fg b r * 1)) (sl := 0) (pl := k) (vI := nI (sR A + fg a (k - r) * fg b r * 1)) (slI := 0) (plI := nI k)
              (RM.sR (r := sR A + fg a (k - r) * fg b r * 1) R2) H (by decide)
              (by show (sA (qAct 0 _ _ _ A)).length < 120; omega) (by show sR A + fg a (k - r) * fg b r * 1 < 2 ^ 31; omega) (by omega) rfl (by rw [if_neg (by decide), if_neg (by omega), ns1_pos (by omega)]) (by rw [Nat.zero_mul]; rfl) (by rw [if_pos rfl]; exact hP.symm) rfl
            refine ⟨s4, ?_, ?_⟩
            · rw [nI_0] at E2
              rw [nI1] at E4
              have hr2 : hm_I s2 29 = nI (sR A) := R2.2.2.2.1
              have : fI A = 0 := by rw [fI, if_neg hF]
              have hadd : nI (sR A) + nI (fg a (k - r) * fg b r) = nI (sR A + fg a (k - r) * fg b r * 1) := by rw [nI_add, hz1]
              simp only [E2, hz_ob, this, if_true, hmI_sI, hr2, hadd, E4]
            · rw [qLook, if_neg hF]
              exact R4
        have hgo2 : ∃ s', (m_goCrossed_L24b (nI a) (nI b) (nI k) e0 (m_goCrossed_L24 (nI a) (nI b) (nI k) e0 f) (fI A) (nI (k - r)) s) = m_goCrossed_L24 (nI a) (nI b) (nI k) e0 f (0 : Int32) (nI (k + 1 - r)) s' ∧ RM s0 s' (qLook t (fg a (k - r)) (fg b r) 1 A) h t g := by
          by_cases hF : sF A = true
          · have hfi : ¬ fI A = 0 := by rw [fI, hF]; decide
            obtain ⟨s', E, R'⟩ := hgo (hm_sI s 29 (nI (fg a (k - r) * fg b r))) (by rw [if_pos hF, hz1]; exact RM.sR R)
            refine ⟨s', ?_, R'⟩
            rw [← E]
            by_cases hyx : fg b r ≤ fg a (k - r)
            · have em : nI (fg b r) * nI (10 ^ k) = nI (min (fg a (k - r)) (fg b r) * 1 * 10 ^ k) := by rw [pk_mul, Nat.min_eq_right hyx, Nat.mul_one]
              simp only [m_goCrossed_L24b, hz_nm, e2, if_false, ea, hz_ob, e6, e3, eb, d0, d1, pk_mul (fg a (k - r)) (fg b r), ek, nI_le hyx (show fg a (k - r) < 2 ^ 31 by omega), if_true, hfi, em]
            · have em : nI (fg a (k - r)) * nI (10 ^ k) = nI (min (fg a (k - r)) (fg b r) * 1 * 10 ^ k) := by rw [pk_mul, Nat.min_eq_left (by omega), Nat.mul_one]
              simp only [m_goCrossed_L24b, hz_nm, e2, if_false, ea, hz_ob, e6, e3, eb, d0, d1, pk_mul (fg a (k - r)) (fg b r), ek, nI_ge (show fg a (k - r) < fg b r by omega) (show fg b r < 2 ^ 31 by omega), hfi, em]
          · have hfi : fI A = 0 := by rw [fI, if_neg hF]
            obtain ⟨s', E, R'⟩ := hgo s (by rw [if_neg hF]; exact R)
            refine ⟨s', ?_, R'⟩
            rw [← E]
            by_cases hyx : fg b r ≤ fg a (k - r)
            · have em : nI (fg b r) * nI (10 ^ k) = nI (min (fg a (k - r)) (fg b r) * 1 * 10 ^ k) := by rw [pk_mul, Nat.min_eq_right hyx, Nat.mul_one]
              simp only [m_goCrossed_L24b, hz_nm, e2, if_false, ea, hz_ob, e6, e3, eb, d0, d1, pk_mul (fg a (k - r)) (fg b r), ek, nI_le hyx (show fg a (k - r) < 2 ^ 31 by omega), if_true, hfi, em]
            · have em : nI (fg a (k - r)) * nI (10 ^ k) = nI (min (fg a (k - r)) (fg b r) * 1 * 10 ^ k) := by rw [pk_mul, Nat.min_eq_left (by omega), Nat.mul_one]
              simp only [m_goCrossed_L24b, hz_nm, e2, if_false, if_true, ea, hz_ob, e6, e3, eb, d0, d1, pk_mul (fg a (k - r)) (fg b r), ek, nI_ge (show fg a (k - r) < fg b r by omega) (show fg b r < 2 ^ 31 by omega), hfi, em]
        obtain ⟨s2, E2, R2⟩ := hgo2
        rw [E2]
        have hF0 : fI (qLook t (fg a (k - r)) (fg b r) 1 A) = 0 := by rw [fI, qLook_F]; rfl
        have := ih f s2 (qLook t (fg a (k - r)) (fg b r) 1 A) (by omega) (by omega) R2 (by rw [qLook_P]; exact hP) (qLook_G ht G1)
        rw [hF0] at this
        exact this
theorem qm_crossed_out {a b : Nat} {e0 : hk_Ms → Option hk_Ms} (H : HM s0 h t) (ht : ∀ i, t i ≤ 99) (ha : nd a ≤ 4) (hb : nd b ≤ 4) (ha0 : a ≠ 0) (hb0 : b ≠ 0) :
    ∀ r f k s A, r < f → k + r = nd a + nd b - 1 → RM s0 s A h t g → qG A (9 * r) 500 → sR A ≤ 99 →
    ∃ s', m_goCrossed_L5 (nI a) (nI b) e0 f (fI A) (nI k) s = e0 s' ∧ RM s0 s' (qCols t a b r k A) h t g := by
  have hna := nd_gt0 ha0
  have hnb := nd_gt0 hb0
  have ha4 : a < 10 ^ 4 := nd_lt _ _ ha
  have hb4 : b < 10 ^ 4 := nd_lt _ _ hb
  have hab : nI (nd a) + nI (nd b) - (2 : Int32) = nI (nd a + nd b - 2) := by rw [nI_add, ← nI2, pk_sub (by omega)]
  intro r
  induction r with
  | zero =>
    intro f k s A hf hk R _ _
    obtain ⟨f, rfl⟩ : ∃ g, f = g + 1 := ⟨f - 1, by omega⟩
    refine ⟨s, ?_, R⟩
    show m_goCrossed_L5b (nI a) (nI b) e0 _ _ _ _ = _
    have e1 : nI (nd a + nd b - 2) < nI k := nI_lt (by omega) (by omega)
    simp only [m_goCrossed_L5b, ll_digits (show a < 2 ^ 31 by omega), ll_digits (show b < 2 ^ 31 by omega), hz_ob, hab, e1, if_true]
  | succ r ih =>
    intro f k s A hf hk R G hs
    obtain ⟨f, rfl⟩ : ∃ g, f = g + 1 := ⟨f - 1, by omega⟩
    have e1 : ¬ nI (nd a + nd b - 2) < nI k := fun q => by have := (nI_ltI (by omega) (by omega)).mp q; omega
    have R1 : RM s0 s (sP_ A k) h t g := R
    have hl : (lCol a b k (k + 1)).length ≤ 4 := Nat.le_trans (lCol_len (k + 1) (Nat.le_refl _)) (by omega)
    have hsum := lCol_sum (a := a) (b := b) (k := k) (k + 1)
    have G1 : qG (sP_ A k) (9 * r + 1 + 2 * (lCol a b k (k + 1)).length) (qSum (lCol a b k (k + 1)) + 0) := qG.le (A := sP_ A k) (n := 9 * (r + 1)) (N := 500) G (by omega) (by omega)
    obtain ⟨s2, E2, R2⟩ := qm_crossed_in (a := a) (b := b) (k := k) (e0 := fun (v12 : Int32) (s13 : hk_Ms) =>
    hk_nm ((hm_I s13 29) - (hm_I s13 29) / (10 : Int32) * (10 : Int32)) fun x48 =>
    hk_nm (hm_sI s13 28 ((hm_I s13 28) + (1 : Int32))) fun s49 =>
    hk_nm (hm_sI s49 29 ((hm_I s49 29) / (10 : Int32))) fun s50 =>
    (m_acts (2 : Int32) x48 (0 : Int32) (0 : Int32) s50).bind fun s51 =>
    hk_nm (nI k + (1 : Int32)) fun x52 =>
    m_goCrossed_L5 (nI a) (nI b) e0 f v12 x52 s51) H ht ha hb (by omega) (k + 1) hk_F s (sP_ A k) (pw_F (by omega)) (Nat.le_refl _) R1 rfl (G1.le (by omega) (by omega))
    rw [Nat.sub_self, nI_0] at E2
    have G2 := qLooks_G ht _ _ G1
    have hR2 := qLooks_Rle (t := t) (lCol a b k (k + 1)) (sP_ A k)
    have hR3 : sR (sP_ A k) = sR A := rfl
    have hP2 : sP (qLooks t (lCol a b k (k + 1)) (sP_ A k)) = k := by rw [qLooks_P]; rfl
    have hr31 : sR (qLooks t (lCol a b k (k + 1)) (sP_ A k)) < 2 ^ 31 := by omega
    rw [qCols]
    show ∃ s', m_goCrossed_L5b (nI a) (nI b) e0 (m_goCrossed_L5 (nI a) (nI b) e0 f) (fI A) (nI k) s = _ ∧ _
    simp only [m_goCrossed_L5b, ll_digits (show a < 2 ^ 31 by omega), ll_digits (show b < 2 ^ 31 by omega), hz_ob, hab, e1, if_false]
    have hfA : fI (sP_ A k) = fI A := rfl
    rw [hfA] at E2
    rw [E2]
    generalize hB : qLooks t (lCol a b k (k + 1)) (sP_ A k) = B at *
    have R3 : RM s0 (hm_sI (hm_sI s2 28 (nI (sK B + 1))) 29 (nI (sR B / 10))) (sK_ (sR_ B (sR B / 10)) (sK B + 1)) h t g := by
      obtain ⟨RS, R1, R2, R3, R4, R5, RG, RX⟩ := R2
      exact ⟨(RS.sI rfl).sI rfl, R1, rfl, rfl, R4, R5, RG, RX⟩
    have hm10 : sR B % 10 < 10 := Nat.mod_lt _ (by decide)
    have hnd1 : (if 2 = 2 ∧ sR B % 10 = 0 then 1 else nd (sR B % 10)) = 1 := by
      by_cases hz : sR B % 10 = 0
      · rw [if_pos ⟨rfl, hz⟩]
      · rw [if_neg (fun q => hz q.2), nd_pos hz, show sR B % 10 / 10 = 0 by omega, nd_0]
    obtain ⟨s4, E4, R4⟩ := qm_act (so := 2) (v := sR B % 10) (le := t 2 * 1) (sl := 0) (pl := 0) (vI := nI (sR B % 10)) (slI := 0) (plI := 0) R3 H (by decide) (by show (sA B).length < 120; have := G2.2.2.1; omega) (by show sR B / 10 < 2 ^ 31; omega) (by omega) rfl
      (by rw [if_neg (by decide), hnd1]) (by rw [Nat.zero_mul]; rfl) rfl rfl
    rw [nI2] at E4
    have hmod := lm_10 hr31
    rw [ld_10 hr31] at hmod
    simp only [hz_nm, R2.2.2.2.1, R2.2.2.1, hmI_sI, Nat.reduceEqDiff, if_false, ld_10 hr31, hmod, nI_1, E4, hz_ob]
    have G3 : qG (qCol t B) (9 * r) 0 := qCol_G ht (G2.le (by omega) (Nat.le_refl _))
    refine ih f (k + 1) s4 (qCol t B) (by omega) (by omega) R4 ?_ ?_
    · refine ⟨G3.1, G3.2.1, G3.2.2.1, ?_⟩
      show (if sF B = true then 0 else sR B / 10) + 500 < 2 ^ 31
      split <;> omega
    · show sR B / 10 ≤ 99
      omega
theorem qm_crossed {a b : Nat} (H : HM s0 h t) (ht : ∀ i, t i ≤ 99) (ha : nd a ≤ 4) (hb : nd b ≤ 4) (ha0 : a ≠ 0) (hb0 : b ≠ 0) (R : RM s0 s qS0 h t g) :
    ∃ s', m_goCrossed (nI a) (nI b) s = some s' ∧ RM s0 s' (qCrossed t a b qS0) h t g := by
  have hna := nd_gt0 ha0
  have hnb := nd_gt0 hb0
  obtain ⟨s2, E2, R2⟩ := qm_crossed_out (a := a) (b := b) (e0 := fun s => some s) H ht ha hb ha0 hb0 (nd a + nd b - 1) hk_F 0 s qS0 (pw_F (by omega)) (by omega) R
    ⟨⟨by decide, by decide, by decide⟩, by decide, (by show 0 + _ ≤ 120; omega), by decide⟩ (by decide)
  exact ⟨s2, E2, R2⟩
end S2Q2
