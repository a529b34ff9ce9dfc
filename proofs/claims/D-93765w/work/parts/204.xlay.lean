set_option maxRecDepth 100000
/-! ===== STAGE 2: crossed, squared, split ===== -/
theorem fg_nil {v i : Nat} (h : nd v ≤ i) : fg v i = 0 := by
  have h1 : v < 10 ^ i := nd_lt _ _ h
  rw [fg, Nat.div_eq_of_lt h1]
theorem lCol_nil {a b k : Nat} : ∀ r, r ≤ k + 1 → nd a ≤ k + 1 - r → lCol a b k r = [] := by
  intro r
  induction r with
  | zero => intro _ _; rfl
  | succ r ih =>
    intro hr h
    rw [lCol, if_pos (Or.inl (fg_nil (by omega))), ih (by omega) (by omega)]
    rfl
theorem lCol_len {a b k : Nat} : ∀ r, r ≤ k + 1 → (lCol a b k r).length ≤ nd a - (k + 1 - r) := by
  intro r
  induction r with
  | zero => intro _; simp [lCol]
  | succ r ih =>
    intro hr
    by_cases h : nd a ≤ k + 1 - (r + 1)
    · rw [lCol_nil (r + 1) hr h]; simp
    · rw [lCol, List.length_append]
      have := ih (by omega)
      split
      · simp; omega
      · simp; omega
theorem lCol_sum {a b k : Nat} : ∀ r, qSum (lCol a b k r) ≤ 81 * (lCol a b k r).length := by
  intro r
  induction r with
  | zero => simp [lCol, qSum]
  | succ r ih =>
    rw [lCol, List.length_append, qSum_ap]
    split
    · simp [qSum]; omega
    · have h1 := fg_10 a (k - r)
      have h2 := fg_10 b r
      have h3 : fg a (k - r) * fg b r ≤ 9 * 9 := Nat.mul_le_mul (by omega) (by omega)
      simp [qSum]; omega
theorem qLooks_Rle {t : Nat → Nat} : ∀ l A, sR (qLooks t l A) ≤ sR A + qSum l := by
  intro l A
  by_cases h : l = []
  · subst h; exact Nat.le_refl _
  · have h1 := qLooks_Bs (t := t) l A
    have h2 := qLooks_F (t := t) l A h
    rw [sBs, h2, if_neg (by decide)] at h1
    have h3 : sBs A ≤ sR A := by unfold sBs; split <;> omega
    omega
theorem qCol_G {t : Nat → Nat} {n N : Nat} {A : qS} (ht : ∀ i, t i ≤ 99) (G : qG A (n + 1) N) : qG (qCol t A) n N := by
  refine qHold_G ht (by decide) ⟨G.1, ?_, G.2.2.1, ?_⟩
  · show sR A / 10 < 2 ^ 31
    have := G.2.1; omega
  · have := G.2.2.2
    unfold sBs at this ⊢
    show (if sF A = true then 0 else sR A / 10) + N < 2 ^ 31
    by_cases h : sF A = true
    · rw [if_pos h] at this ⊢; omega
    · rw [if_neg h] at this ⊢; omega
section S2L
variable {ac hd td : Nat} {st : hk_St} {u : hk_U} {A : qS} {t : Nat → Nat} {g : Nat → Int64}
theorem fgL {v i : Nat} (hv : v < 2 ^ 31) (hi : i ≤ 18) : (lN (10 ^ i) ≠ 0) ∧ lN v / lN (10 ^ i) - lN v / lN (10 ^ i) / (10 : Int64) * (10 : Int64) = lN (fg v i) := by
  have hp : 10 ^ i < 2 ^ 63 := Nat.lt_of_le_of_lt (Nat.pow_le_pow_right (by decide) hi) (by decide)
  have hp0 : 10 ^ i ≠ 0 := Nat.pos_iff_ne_zero.mp (Nat.pow_pos (by decide))
  refine ⟨fun q => hp0 ((lL_eq0 hp).mp q), ?_⟩
  rw [pk_lDiv (by omega) (Nat.pos_of_ne_zero hp0) hp]
  exact lLm_10 (Nat.lt_of_le_of_lt (Nat.div_le_self _ _) (by omega))
theorem qx_crossed_in {a b k : Nat} {e0 : hk_St → Option hk_St} (K : hk_KA ac st) (H : hk_KH st hd td t) (ht : ∀ i, t i ≤ 99) (ha : nd a ≤ 4) (hb : nd b ≤ 4) (hk : k ≤ 10) :
    ∀ r f u A, r < f → r ≤ k + 1 → RU u A hd g → qG A (2 * (lCol a b k r).length) (qSum (lCol a b k r)) →
    ∃ u', xActs_crossed_L39 ac (lN a) (lN b) (nI (nd a)) (nI (nd b)) (nI k) e0 f (nI (k + 1 - r)) (hk_aU ac st u) = e0 (hk_aU ac st u') ∧ RU u' (qLooks t (lCol a b k r) A) hd g := by
  have ha4 : a < 10 ^ 4 := nd_lt _ _ ha
  have hb4 : b < 10 ^ 4 := nd_lt _ _ hb
  intro r
  induction r with
  | zero =>
    intro f u A hf _ R _
    obtain ⟨f, rfl⟩ : ∃ g, f = g + 1 := ⟨f - 1, by omega⟩
    refine ⟨u, ?_, R⟩
    show xActs_crossed_L39b ac (lN a) (lN b) (nI (nd a)) (nI (nd b)) (nI k) e0 _ _ _ = _
    have e1 : nI k < nI (k + 1 - 0) := nI_lt (by omega) (by omega)
    simp only [xActs_crossed_L39b, e1, if_true, ite_self]
  | succ r ih =>
    intro f u A hf hr R G
    obtain ⟨f, rfl⟩ : ∃ g, f = g + 1 := ⟨f - 1, by omega⟩
    show ∃ u', xActs_crossed_L39b ac (lN a) (lN b) (nI (nd a)) (nI (nd b)) (nI k) e0 (xActs_crossed_L39 ac (lN a) (lN b) (nI (nd a)) (nI (nd b)) (nI k) e0 f) (nI (k + 1 - (r + 1))) (hk_aU ac st u) = _ ∧ _
    have hi : k + 1 - (r + 1) = k - r := by omega
    rw [hi]
    by_cases hm : nd a ≤ k - r
    · rw [lCol_nil (r + 1) hr (by omega)]
      refine ⟨u, ?_, R⟩
      have e1 : nI (nd a) ≤ nI (k - r) := nI_le hm (by omega)
      simp only [xActs_crossed_L39b, e1, if_true]
    · have e1 : ¬ nI (nd a) ≤ nI (k - r) := nI_ge (by omega) (by omega)
      have e2 : ¬ nI k < nI (k - r) := fun q => by have := (nI_ltI (by omega) (by omega)).mp q; omega
      have e3 : nI k - nI (k - r) = nI r := by rw [pk_sub (by omega)]; congr 1; omega
      have e4 := fgL (v := a) (i := k - r) (by omega) (by omega)
      have e5 := fgL (v := b) (i := r) (by omega) (by omega)
      have e6 : nI (k - r) + (1 : Int32) = nI (k + 1 - r) := by rw [← nI1, nI_add]; congr 1; omega
      have hfa := fg_10 a (k - r)
      have hfb := fg_10 b r
      rw [lCol] at G ⊢
      simp only [xActs_crossed_L39b, e1, e2, e3, e6, if_false, hk_nm, hk_gd, ll_tenTo (show k - r < 1000000 by omega), ll_tenTo (show r < 1000000 by omega), Option.bind_some, e4.1, e5.1, e4.2, e5.2, not_false_eq_true, decide_true, if_true, K.bf]
      by_cases hn : r < nd b
      · rw [if_pos (nI_lt hn (by omega))]
        by_cases h0 : fg a (k - r) = 0
        · rw [if_pos (Or.inl h0)] at G ⊢
          rw [if_pos ((lL_le0 (by omega)).mpr h0)]
          exact ih f u A (by omega) (by omega) R G
        · rw [if_neg (fun q => h0 ((lL_le0 (by omega)).mp q))]
          by_cases h1 : fg b r = 0
          · rw [if_pos (Or.inr h1)] at G ⊢
            rw [if_pos ((lL_le0 (by omega)).mpr h1)]
            exact ih f u A (by omega) (by omega) R G
          · rw [if_neg (fun q => h1 ((lL_le0 (by omega)).mp q))]
            have h2 : ¬ (fg a (k - r) = 0 ∨ fg b r = 0) := by omega
            rw [if_neg h2] at G ⊢
            rw [qLooks_ap]
            have G1 : qG A (2 * (lCol a b k r).length + 2) (fg a (k - r) * fg b r * 1 + qSum (lCol a b k r)) := G.le (by simp; omega) (by simp [qSum])
            obtain ⟨u2, E2, R2⟩ := qx_look (x := fg a (k - r)) (y := fg b r) (w := 1) K H ht R (G1.le (by omega) (by omega)) (by omega) (by omega)
            rw [lN1] at E2
            rw [E2]
            exact ih f u2 _ (by omega) (by omega) R2 (qLook_G ht G1)
      · rw [if_neg (fun q => hn ((nI_ltI (by omega) (by omega)).mp q))]
        rw [if_pos (Or.inr (fg_nil (by omega)))] at G ⊢
        exact ih f u A (by omega) (by omega) R G
theorem qx_crossed_out {a b : Nat} {e0 : hk_St → Option hk_St} (K : hk_KA ac st) (H : hk_KH st hd td t) (ht : ∀ i, t i ≤ 99) (ha : nd a ≤ 4) (hb : nd b ≤ 4) (ha0 : a ≠ 0) (hb0 : b ≠ 0) :
    ∀ r f k u A, r < f → k + r = nd a + nd b - 1 → RU u A hd g → qG A (9 * r) 500 → sR A ≤ 99 →
    ∃ u', xActs_crossed_L15 ac (lN a) (lN b) (nI (nd a)) (nI (nd b)) e0 f (nI k) (hk_aU ac st u) = e0 (hk_aU ac st u') ∧ RU u' (qCols t a b r k A) hd g := by
  have hna := nd_gt0 ha0
  have hnb := nd_gt0 hb0
  have hab : nI (nd a) + nI (nd b) - (2 : Int32) = nI (nd a + nd b - 2) := by rw [nI_add, ← nI2, pk_sub (by omega)]
  intro r
  induction r with
  | zero =>
    intro f k u A hf hk R _ _
    obtain ⟨f, rfl⟩ : ∃ g, f = g + 1 := ⟨f - 1, by omega⟩
    refine ⟨u, ?_, R⟩
    show xActs_crossed_L15b ac (lN a) (lN b) (nI (nd a)) (nI (nd b)) e0 _ _ _ = _
    have e1 : nI (nd a + nd b - 2) < nI k := nI_lt (by omega) (by omega)
    simp only [xActs_crossed_L15b, hab, e1, if_true]
  | succ r ih =>
    intro f k u A hf hk R G hs
    obtain ⟨f, rfl⟩ : ∃ g, f = g + 1 := ⟨f - 1, by omega⟩
    have e1 : ¬ nI (nd a + nd b - 2) < nI k := fun q => by have := (nI_ltI (by omega) (by omega)).mp q; omega
    have R1 : RU (uL_ u 11 (lN (10 ^ k))) (sP_ A k) hd g := by
      obtain ⟨R6, R7, R8, R9, RA, RB, RC, RH, RW, RX⟩ := R
      exact ⟨R6, R7, R8, R9, RA, rfl, RC, RH, RW, RX⟩
    have hl : (lCol a b k (k + 1)).length ≤ 4 := Nat.le_trans (lCol_len (k + 1) (Nat.le_refl _)) (by omega)
    have hsum := lCol_sum (a := a) (b := b) (k := k) (k + 1)
    have G1 : qG (sP_ A k) (9 * r + 1 + 2 * (lCol a b k (k + 1)).length) (qSum (lCol a b k (k + 1)) + 0) := qG.le (A := sP_ A k) (n := 9 * (r + 1)) (N := 500) G (by omega) (by omega)
    obtain ⟨u2, E2, R2⟩ := qx_crossed_in (a := a) (b := b) (k := k) (e0 := fun (s16 : hk_St) =>
      (hk_gL [2] 210 s16 ac).bind fun x34 =>
      hk_nm (x34 - x34 / (10 : Int64) * (10 : Int64)) fun x35 =>
      (hk_gL [2] 210 s16 ac).bind fun x36 =>
      (hk_pL [2] 210 s16 ac (x36 / (10 : Int64))).bind fun s37 =>
      (xActs_hold ac x35 (1 : Int32) s37).bind fun s38 =>
      hk_gd (hk_bf [2] s37 ac) <|
      hk_nm (nI k + (1 : Int32)) fun x40 =>
      xActs_crossed_L15 ac (lN a) (lN b) (nI (nd a)) (nI (nd b)) e0 f x40 s38) K H ht ha hb (by omega) (k + 1) hk_F _ _ (pw_F (by omega)) (Nat.le_refl _) R1 (G1.le (by omega) (by omega))
    rw [Nat.sub_self, nI_0] at E2
    have G2 := qLooks_G ht _ _ G1
    have hR2 := qLooks_Rle (t := t) (lCol a b k (k + 1)) (sP_ A k)
    have hR3 : sR (sP_ A k) = sR A := rfl
    have hr63 : sR (qLooks t (lCol a b k (k + 1)) (sP_ A k)) < 2 ^ 63 := by omega
    have R3 : RU (uL_ u2 10 (lN (sR (qLooks t (lCol a b k (k + 1)) (sP_ A k)) / 10))) (sR_ (qLooks t (lCol a b k (k + 1)) (sP_ A k)) (sR (qLooks t (lCol a b k (k + 1)) (sP_ A k)) / 10)) hd g := by
      obtain ⟨R6, R7, R8, R9, RA, RB, RC, RH, RW, RX⟩ := R2
      exact ⟨R6, R7, R8, R9, rfl, RB, RC, RH, RW, RX⟩
    have G3 : qG (sR_ (qLooks t (lCol a b k (k + 1)) (sP_ A k)) (sR (qLooks t (lCol a b k (k + 1)) (sP_ A k)) / 10)) (9 * r + 1) 0 := by
      refine ⟨G2.1, (by show sR (qLooks t (lCol a b k (k + 1)) (sP_ A k)) / 10 < 2 ^ 31; omega), G2.2.2.1, ?_⟩
      show (if sF (qLooks t (lCol a b k (k + 1)) (sP_ A k)) = true then 0 else sR (qLooks t (lCol a b k (k + 1)) (sP_ A k)) / 10) + 0 < 2 ^ 31
      split <;> omega
    obtain ⟨u4, E4, R4⟩ := qx_hold (v := sR (qLooks t (lCol a b k (k + 1)) (sP_ A k)) % 10) (size := 1) K H R3 (G3.le (by omega) (Nat.le_refl _)) (by decide)
    rw [nI1] at E4
    have gA := fun u => aU_gL (u := u) K 10
    have pA := fun u => aU_pL (u := u) K 10
    have pB := fun u => aU_pL (u := u) K 11
    simp only [Nat.reduceAdd] at gA pA pB
    show ∃ u', xActs_crossed_L15b ac (lN a) (lN b) (nI (nd a)) (nI (nd b)) e0 (xActs_crossed_L15 ac (lN a) (lN b) (nI (nd a)) (nI (nd b)) e0 f) (nI k) (hk_aU ac st u) = _ ∧ _
    simp only [xActs_crossed_L15b, hab, e1, if_false, ll_tenTo (show k < 1000000 by omega), Option.bind_some, pB]
    rw [E2]
    have hmod := lLm_10 hr63
    rw [lL_10 hr63] at hmod
    simp only [gA, pA, Option.bind_some, hk_nm, R2.2.2.2.2.1, lL_10 hr63, hmod, E4, hk_gd, K.bf, if_true, nI_1]
    rw [qCols]
    refine ih f (k + 1) u4 _ (by omega) (by omega) R4 ?_ ?_
    · have G4 := qHold_G (t := t) (v := sR (qLooks t (lCol a b k (k + 1)) (sP_ A k)) % 10) (size := 1) ht (by decide) G3
      refine ⟨G4.1, G4.2.1, G4.2.2.1, ?_⟩
      show (if sF (qLooks t (lCol a b k (k + 1)) (sP_ A k)) = true then 0 else sR (qLooks t (lCol a b k (k + 1)) (sP_ A k)) / 10) + 500 < 2 ^ 31
      split <;> omega
    · show sR (qLooks t (lCol a b k (k + 1)) (sP_ A k)) / 10 ≤ 99
      omega
theorem qx_crossed {a b : Nat} (K : hk_KA ac st) (H : hk_KH st hd td t) (ht : ∀ i, t i ≤ 99) (ha : nd a ≤ 4) (hb : nd b ≤ 4) (ha0 : a ≠ 0) (hb0 : b ≠ 0) (R : RU u qS0 hd g) :
    ∃ u', xActs_crossed ac (lN a) (lN b) (hk_aU ac st u) = some (hk_aU ac st u') ∧ RU u' (qCrossed t a b qS0) hd g := by
  have ha4 : a < 10 ^ 4 := nd_lt _ _ ha
  have hb4 : b < 10 ^ 4 := nd_lt _ _ hb
  have hna := nd_gt0 ha0
  have hnb := nd_gt0 hb0
  obtain ⟨u2, E2, R2⟩ := qx_crossed_out (e0 := fun s => some s) K H ht ha hb ha0 hb0 (nd a + nd b - 1) hk_F 0 u qS0 (pw_F (by omega)) (by omega) R
    ⟨⟨by decide, by decide, by decide⟩, by decide, (by show 0 + _ ≤ 120; omega), by decide⟩ (by decide)
  refine ⟨u2, ?_, R2⟩
  simp only [xActs_crossed, ll_sizeOf (show a < 2 ^ 63 by omega), ll_sizeOf (show b < 2 ^ 63 by omega), ns1_pos ha0, ns1_pos hb0, Option.bind_some]
  exact E2
theorem jabs_lN {a b : Nat} (ha : a < 2 ^ 31) (hb : b < 2 ^ 31) : j_abs_j (lN a - lN b) = lN (max a b - min a b) := by
  unfold j_abs_j
  by_cases h : b ≤ a
  · have h1 : (0 : Int64) ≤ lN (a - b) := (pk_lLE (a := 0) (b := a - b) (by decide) (by omega)).mpr (Nat.zero_le _)
    rw [lN_sub h, Nat.max_eq_left h, Nat.min_eq_right h, if_pos h1]
  · have h2 : lN a - lN b = - lN (b - a) := by
      rw [← lN_sub (show a ≤ b by omega)]
      simp
    have h3 : ¬ (0 : Int64) ≤ lN a - lN b := by
      have e : (lN a - lN b).toInt = (a : Int) - b := by
        rw [Int64.toInt_sub, pk_lT (by omega), pk_lT (by omega)]
        exact Int.bmod_eq_of_le (by omega) (by omega)
      rw [Int64.le_iff_toInt_le, e]
      show ¬ (0 : Int) ≤ (a : Int) - b
      omega
    rw [Nat.max_eq_right (by omega), Nat.min_eq_left (by omega), if_neg h3, h2]
    simp
end S2L
