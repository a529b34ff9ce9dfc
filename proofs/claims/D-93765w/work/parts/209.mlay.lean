set_option maxRecDepth 100000
/-! ===== STAGE 2: the reference's squared, split, layOut ===== -/
section S2P
variable {s0 s : hk_Ms} {A : qS} {h : Nat} {t : Nat → Nat} {g : Nat → Int32}
theorem msize_sub {a b : Nat} (ha : a < 2 ^ 30) (hb : b < 2 ^ 30) : m_size (nI a - nI b) = nI (max a b - min a b) := by
  unfold m_size
  by_cases h : b ≤ a
  · rw [pk_sub h, if_pos (nI_pos' (by omega)), Nat.max_eq_left h, Nat.min_eq_right h]
  · have h2 : ¬ (0 : Int32) ≤ nI a - nI b := by
      have := pk_sneg hb (show a < b by omega)
      rw [Int32.lt_iff_toInt_lt] at this
      rw [Int32.le_iff_toInt_le]
      omega
    rw [if_neg h2, Nat.max_eq_right (by omega), Nat.min_eq_left (by omega), ← pk_sub (show a ≤ b by omega)]
    simp
theorem qm_last {v z : Nat} (R : RM s0 s A h t g) (H : HM s0 h t) (hn : (sA A).length < 120) (hv : v < 2 ^ 31) (hv0 : v ≠ 0) (hP : sP A = 0) (hz : sK A = z) :
    ∃ s', m_acts (1 : Int32) (nI v) (0 : Int32) (0 : Int32) (hm_sI (hm_sI s 28 0) 29 (nI v)) = some s' ∧ RM s0 s' (qLast t v z A) h t g := by
  have R1 : RM s0 (hm_sI (hm_sI s 28 0) 29 (nI v)) (sR_ (sK_ A (sK A - z)) v) h t g := by
    obtain ⟨RS, R1, R2, R3, R4, R5, RG, RX⟩ := R
    refine ⟨(RS.sI rfl).sI rfl, R1, ?_, rfl, R4, R5, RG, RX⟩
    show (0 : Int32) = nI (sK A - z)
    rw [hz, Nat.sub_self]; rfl
  obtain ⟨s2, E2, R2⟩ := qm_act (so := 1) (v := v) (le := t 1 * ns1 v) (sl := 0) (pl := 0) (vI := nI v) (slI := 0) (plI := 0) R1 H (by decide) hn hv hv rfl
    (by rw [if_neg (by decide), if_neg (by omega), ns1_pos hv0]) (by rw [Nat.zero_mul]; rfl) (by rw [if_pos rfl]; exact hP.symm) rfl
  rw [nI1] at E2
  exact ⟨s2, E2, R2⟩
theorem qm_squared {a b : Nat} (H : HM s0 h t) (ht : ∀ i, t i ≤ 99) (ha : nd a ≤ 4) (hb : nd b ≤ 4) (ha0 : a ≠ 0) (hb0 : b ≠ 0) (R : RM s0 s qS0 h t g) :
    ∃ s', m_goSquared (nI a) (nI b) s = some (if (qSquared t a b qS0).1 then (1 : Int32) else 0, s') ∧ RM s0 s' (qSquared t a b qS0).2 h t g := by
  have ha4 : a < 10 ^ 4 := nd_lt _ _ ha
  have hb4 : b < 10 ^ 4 := nd_lt _ _ hb
  have e1 : (nI a + nI b) - (nI a + nI b) / (2 : Int32) * (2 : Int32) = nI ((a + b) % 2) := by
    rw [nI_add]; exact pk_rem (d := 2) (by omega) (by decide) (by decide)
  have e2 : (nI a + nI b) / (2 : Int32) = nI ((a + b) / 2) := by
    rw [nI_add]; exact pk_div (d := 2) (by omega) (by decide) (by decide)
  have e3 : m_size (nI a - nI b) / (2 : Int32) = nI ((max a b - min a b) / 2) := by
    rw [msize_sub (by omega) (by omega)]; exact pk_div (d := 2) (by omega) (by decide) (by decide)
  by_cases h2 : (a + b) % 2 = 0
  · have hs : (a + b) / 2 < 10 ^ 4 := by omega
    have hs0 : (a + b) / 2 ≠ 0 := by omega
    have hd4 : (max a b - min a b) / 2 < 10 ^ 4 := by omega
    have hns := nd_bnd 4 _ hs
    have hnd := nd_bnd 4 _ hd4
    have hss : (a + b) / 2 * ((a + b) / 2) < 10 ^ 8 := by
      have := Nat.mul_lt_mul'' hs hs
      simpa using this
    have hdd : (max a b - min a b) / 2 * ((max a b - min a b) / 2) < 10 ^ 8 := by
      have := Nat.mul_lt_mul'' hd4 hd4
      simpa using this
    have hab : a * b < 10 ^ 8 := by
      have := Nat.mul_lt_mul'' ha4 hb4
      simpa using this
    have hab0 : a * b ≠ 0 := Nat.mul_ne_zero ha0 hb0
    have hq : qSquared t a b qS0 = (true, qLast t (a * b) (ns1 ((a + b) / 2 * ((a + b) / 2))) (qSq t ((a + b) / 2) ((max a b - min a b) / 2)
      (qHold t ((a + b) / 2 * ((a + b) / 2)) (ns1 ((a + b) / 2 * ((a + b) / 2))) (qBegin (qLeft t ((a + b) / 2) ((a + b) / 2) qS0))))) := by
      rw [qSquared, if_neg (fun q => q h2)]
    rw [hq]
    generalize (a + b) / 2 = w at *
    generalize (max a b - min a b) / 2 = d at *
    have m1 : nd w * nd w ≤ 4 * 4 := Nat.mul_le_mul hns hns
    have m2 : nd d * nd d ≤ 4 * 4 := Nat.mul_le_mul hnd hnd
    have hww0 : w * w ≠ 0 := Nat.mul_ne_zero hs0 hs0
    have G0 : qG qS0 (34 + 2 * (nd w * nd w)) (w * w + 0) := ⟨⟨by decide, by decide, by decide⟩, by decide, (by show 0 + _ ≤ 120; omega), (by show 0 + _ < 2 ^ 31; omega)⟩
    obtain ⟨s1, E1, R1⟩ := qm_left (a := w) (b := w) H ht (by omega) (by omega) R rfl rfl (G0.le (by omega) (by omega))
    have G1 := qLeft_G ht G0
    have hR1 : sR (qLeft t w w qS0) = w * w := by rw [qLeft_R hww0]; show 0 + _ = _; rw [Nat.zero_add]
    obtain ⟨s2, E2, R2⟩ := qm_holds R1 H (G1.le (by omega) (by omega)) (by rw [hR1]; exact hww0)
    rw [hR1] at R2
    have hz := ns1_63 (show w * w < 2 ^ 63 by omega)
    have G2 : qG (qHold t (w * w) (ns1 (w * w)) (qBegin (qLeft t w w qS0))) 33 (10 ^ 9) := qHold_G ht hz (n := 33) (qBegin_G G1 (by decide))
    have hP2 : sP (qHold t (w * w) (ns1 (w * w)) (qBegin (qLeft t w w qS0))) = 0 := by show sP (qLeft t w w qS0) = 0; rw [qLeft_P]; rfl
    have hK2 : sK (qHold t (w * w) (ns1 (w * w)) (qBegin (qLeft t w w qS0))) = ns1 (w * w) := by
      show sK (qLeft t w w qS0) + ns1 (w * w) = _
      rw [qLeft_K]; show 0 + _ = _; rw [Nat.zero_add]
    have hF2 : sF (qHold t (w * w) (ns1 (w * w)) (qBegin (qLeft t w w qS0))) = true := rfl
    generalize qHold t (w * w) (ns1 (w * w)) (qBegin (qLeft t w w qS0)) = B at *
    obtain ⟨s3, E3, R3⟩ : ∃ s3, m_goLeft (nI d) (nI d) s2 = some s3 ∧ RM s0 s3 (qSq t w d B) h t g := by
      by_cases hd0 : d = 0
      · subst hd0
        refine ⟨s2, ?_, by rw [qSq, if_pos rfl]; exact R2⟩
        simp only [m_goLeft, ll_digits (show 0 < 2 ^ 31 by decide), nd_0, hz_ob, hz_nm]
        obtain ⟨f, hf⟩ : ∃ f, hk_F = f + 1 := ⟨hk_F - 1, by have := hk_F_big; omega⟩
        rw [hf]
        show m_goLeft_L10b (nI 0) (nI 0) _ _ _ _ _ = _
        simp only [m_goLeft_L10b, im1_lt, if_true]
      · rw [qSq, if_neg hd0]
        obtain ⟨s3, E3, R3⟩ := qm_left (a := d) (b := d) H ht (by omega) (by omega) R2 hP2 hF2 (G2.le (by omega) (by omega))
        exact ⟨s3, E3, R3⟩
    have G3 : (sA (qSq t w d B)).length < 120 := by
      by_cases hd0 : d = 0
      · rw [qSq, if_pos hd0]; have := G2.2.2.1; omega
      · rw [qSq, if_neg hd0]
        have := (qLeft_G (n := 1) (N := 0) ht (G2.le (show 1 + 2 * (nd d * nd d) ≤ 33 by omega) (show d * d + 0 ≤ _ by omega))).2.2.1
        omega
    have hP3 : sP (qSq t w d B) = 0 := by rw [qSq]; split; exact hP2; rw [qLeft_P]; exact hP2
    have hK3 : sK (qSq t w d B) = ns1 (w * w) := by rw [qSq]; split; exact hK2; rw [qLeft_K]; exact hK2
    obtain ⟨s4, E4, R4⟩ := qm_last (v := a * b) (z := ns1 (w * w)) R3 H G3 (by omega) hab0 hP3 hK3
    refine ⟨s4, ?_, R4⟩
    have e1' : nI a + nI b - nI w * (2 : Int32) = nI ((a + b) % 2) := by rw [← e2]; exact e1
    simp only [m_goSquared, hz_nm, e1', h2, e2, e3, show ¬ nI 0 = (1 : Int32) by decide, if_false, E1, E2, E3, hz_ob, pk_mul, hmI_sI, if_true, E4]
  · have hq : (qSquared t a b qS0) = (false, qS0) := by rw [qSquared, if_pos h2]
    rw [hq]
    refine ⟨s, ?_, R⟩
    have h3 : (a + b) % 2 = 1 := by omega
    simp only [m_goSquared, e1, h3, nI1, if_true]
    rfl
theorem qm_split_L {a b : Nat} {e0 : hk_Ms → Option (Int32 × hk_Ms)} (hb : b < 2 ^ 31) (hb0 : b ≠ 0) :
    ∀ p f, p < f → p ≤ 99 → m_goSplit_L5 (nI a) (nI b) e0 f (nI p) s = if qFind b p = 0 then e0 s else
      (m_goLeft (nI a) (nI (qFind b p)) s).bind fun s12 => (m_holds s12).bind fun s13 => (m_goLeft (nI (a * qFind b p)) (nI (b / qFind b p)) s13).bind fun s15 => some ((1 : Int32), s15) := by
  intro p
  induction p with
  | zero =>
    intro f hf _
    obtain ⟨f, rfl⟩ : ∃ g, f = g + 1 := ⟨f - 1, by omega⟩
    show m_goSplit_L5b (nI a) (nI b) e0 _ _ _ = _
    simp only [m_goSplit_L5b, show nI 0 < (2 : Int32) by decide, if_true, qFind]
  | succ p ih =>
    intro f hf hp
    obtain ⟨f, rfl⟩ : ∃ g, f = g + 1 := ⟨f - 1, by omega⟩
    show m_goSplit_L5b (nI a) (nI b) e0 (m_goSplit_L5 (nI a) (nI b) e0 f) (nI (p + 1)) s = _
    by_cases h0 : p = 0
    · subst h0
      simp only [m_goSplit_L5b, show nI (0 + 1) < (2 : Int32) by decide, if_true, qFind]
    · have e1 : ¬ nI (p + 1) < (2 : Int32) := fun q => by
        rw [← nI2] at q
        have := (nI_ltI (by omega) (by decide)).mp q; omega
      have e2 : ¬ nI (p + 1) = 0 := fun q => by have := (li_eq0 (v := p + 1) (by omega)).mp q; omega
      have e3 : nI b - nI b / nI (p + 1) * nI (p + 1) = nI (b % (p + 1)) := pk_rem hb (by omega) (by omega)
      have e4 : nI b / nI (p + 1) = nI (b / (p + 1)) := pk_div hb (by omega) (by omega)
      have e5 : nI (p + 1) + (-1 : Int32) = nI p := pk_m1 p
      have hm : b % (p + 1) < 2 ^ 31 := Nat.lt_of_le_of_lt (Nat.mod_le _ _) hb
      have hdv : b / (p + 1) < 2 ^ 31 := Nat.lt_of_le_of_lt (Nat.div_le_self _ _) hb
      simp only [m_goSplit_L5b, e1, if_false, hz_gd, e2, not_false_eq_true, decide_true, if_true, e3, e5, hz_nm]
      by_cases h1 : b % (p + 1) = 0
      · rw [if_pos ((li_eq0 hm).mpr h1)]
        have hbq : b / (p + 1) * (p + 1) = b := Nat.div_mul_cancel (Nat.dvd_of_mod_eq_zero h1)
        simp only [e4]
        by_cases h2 : b = p + 1
        · have h3 : b / (p + 1) = 1 := by rw [← h2]; exact Nat.div_self (by omega)
          rw [h3, if_pos (show nI 1 ≤ (1 : Int32) by decide), ih f (by omega) (by omega)]
          have : qFind b (p + 1) = qFind b p := by rw [qFind, if_neg h0, if_neg (by omega)]
          rw [this]
        · have h3 : 2 ≤ b / (p + 1) := by
            have h4 : b / (p + 1) ≠ 0 := fun q => by rw [q] at hbq; omega
            have h5 : b / (p + 1) ≠ 1 := fun q => by rw [q] at hbq; omega
            exact Nat.lt_of_le_of_ne (Nat.pos_of_ne_zero h4) (fun q => h5 q.symm)
          have h6 : ¬ nI (b / (p + 1)) ≤ (1 : Int32) := fun q => by
            rw [← nI1] at q
            have := (nI_leI hdv (by decide)).mp q; omega
          have : qFind b (p + 1) = p + 1 := by rw [qFind, if_neg h0, if_pos ⟨h1, h2⟩]
          rw [if_neg h6, this, if_neg (by omega), pk_mul]
      · rw [if_neg (fun q => h1 ((li_eq0 hm).mp q)), ih f (by omega) (by omega)]
        have : qFind b (p + 1) = qFind b p := by rw [qFind, if_neg h0, if_neg (by omega)]
        rw [this]
theorem qm_split {a b : Nat} (H : HM s0 h t) (ht : ∀ i, t i ≤ 99) (ha : nd a ≤ 4) (hb : nd b ≤ 4) (ha0 : a ≠ 0) (hb0 : b ≠ 0) (R : RM s0 s qS0 h t g) :
    ∃ s', m_goSplit (nI a) (nI b) s = some (if (qSplit t a b qS0).1 then (1 : Int32) else 0, s') ∧ RM s0 s' (qSplit t a b qS0).2 h t g := by
  have ha4 : a < 10 ^ 4 := nd_lt _ _ ha
  have hb4 : b < 10 ^ 4 := nd_lt _ _ hb
  have ht3' := ht 3
  simp only [m_goSplit, hz_nm, R.2.2.2.2.2.1]
  rw [qm_split_L (by omega) hb0 (t 3) hk_F (pw_F (by omega)) ht3', qSplit]
  by_cases hf : qFind b (t 3) = 0
  · rw [if_pos hf, if_pos hf]
    exact ⟨s, rfl, R⟩
  · rw [if_neg hf, if_neg hf]
    obtain ⟨f1, f2, f3⟩ := qFind_is b (t 3) hf
    have f4 := qFind_le b (t 3)
    generalize qFind b (t 3) = q at *
    have hbq : b / q * q = b := Nat.div_mul_cancel (Nat.dvd_of_mod_eq_zero f2)
    have haq0 : a * q ≠ 0 := Nat.mul_ne_zero ha0 (by omega)
    have haq : a * q < 10 ^ 6 := by
      have := Nat.mul_lt_mul'' ha4 (show q < 10 ^ 2 by omega)
      simpa using this
    have hbq5 : b / q < 5000 := by
      have h1 : b / q ≤ b / 2 := Nat.div_le_div_left f1 (by decide)
      omega
    have hprod : a * q * (b / q) = a * b := by rw [Nat.mul_assoc, Nat.mul_comm q, hbq]
    have hab : a * b < 10 ^ 8 := by
      have := Nat.mul_lt_mul'' ha4 hb4
      simpa using this
    have n1 := nd_bnd 2 q (by omega)
    have n2 := nd_bnd 6 _ haq
    have n3 := nd_bnd 4 (b / q) (by omega)
    have m1 : nd a * nd q ≤ 4 * 2 := Nat.mul_le_mul ha n1
    have m2 : nd (a * q) * nd (b / q) ≤ 6 * 4 := Nat.mul_le_mul n2 n3
    have G0 : qG qS0 (49 + 2 * (nd a * nd q)) (a * q + 0) := ⟨⟨by decide, by decide, by decide⟩, by decide, (by show 0 + _ ≤ 120; omega), (by show 0 + _ < 2 ^ 31; omega)⟩
    obtain ⟨s1, E1, R1⟩ := qm_left (a := a) (b := q) H ht (by omega) (by omega) R rfl rfl (G0.le (by omega) (by omega))
    have G1 := qLeft_G ht G0
    have hR1 : sR (qLeft t a q qS0) = a * q := by rw [qLeft_R haq0]; show 0 + _ = _; rw [Nat.zero_add]
    obtain ⟨s2, E2, R2⟩ := qm_holds R1 H (G1.le (by omega) (by omega)) (by rw [hR1]; exact haq0)
    rw [hR1] at R2
    have hz := ns1_63 (show a * q < 2 ^ 63 by omega)
    have G2 : qG (qHold t (a * q) (ns1 (a * q)) (qBegin (qLeft t a q qS0))) 48 (10 ^ 9) := qHold_G ht hz (n := 48) (qBegin_G G1 (by decide))
    obtain ⟨s3, E3, R3⟩ := qm_left (a := a * q) (b := b / q) H ht (by omega) (by omega) R2 (by show sP (qLeft t a q qS0) = 0; rw [qLeft_P]; rfl) rfl (G2.le (by omega) (by rw [hprod]; omega))
    refine ⟨s3, ?_, R3⟩
    simp only [E1, E2, E3, hz_ob]
    rfl
/-- the whole of layOut; tb: the table that is thought of, or none -/
theorem qm_layOut {a b w ab : Nat} {kn : Bool} {tb : Int32} (hh : h < 6) (ht : ∀ i, t i ≤ 99) (H : ∀ i, i < 3 → hm_A s0 0 (5 * h + i) = nI (t i)) (htb : (tb ≤ 0 ∧ hm_A s0 0 (5 * h + 3) = nI (t 3)) ∨ (¬ tb ≤ 0 ∧ tb = nI (t 3)))
    (hab : ab < 2 ^ 31) (hae : ab / 10000 = a) (hbe : ab % 10000 = b) (ha : nd a ≤ 4) (hb : nd b ≤ 4) (ha0 : a ≠ 0) (hb0 : b ≠ 0) (hw : w ≤ 6)
    (hkn : ∀ s, ScM s0 s → hm_I s 30 = nI h → hm_I s 31 = nI (t 3) → m_isKnown (nI a) (nI b) s = some (if kn then (1 : Int32) else 0)) :
    ∃ s' g', m_layOut (nI h) (nI w) (nI ab) tb s0 = some (if (qLay t kn w a b).1 then (1 : Int32) else 0, s') ∧ RM s0 s' (qLay t kn w a b).2 h t g' := by
  have HH : HM s0 h t := ⟨hh, H⟩
  have ha4 : a < 10 ^ 4 := nd_lt _ _ ha
  have hb4 : b < 10 ^ 4 := nd_lt _ _ hb
  have habm : a * b < 10 ^ 8 := by
    have := Nat.mul_lt_mul'' ha4 hb4
    simpa using this
  have hab0 : a * b ≠ 0 := Nat.mul_ne_zero ha0 hb0
  have hba : b * a < 2 ^ 31 := by rw [Nat.mul_comm]; omega
  have e1 : nI ab / (10000 : Int32) = nI a := by rw [ld_4 hab, hae]
  have e2 : nI ab - nI ab / (10000 : Int32) * (10000 : Int32) = nI b := by rw [lm_4 hab, hbe]
  have e2' : nI ab - nI a * (10000 : Int32) = nI b := by rw [← e1]; exact e2
  have m1 : nd a * nd b ≤ 4 * 4 := Nat.mul_le_mul ha hb
  have R0 : ∀ z : Int32, z = nI (t 3) → RM s0 (hm_sI (hm_sI (hm_sI (hm_sI (hm_sI s0 30 (nI h)) 31 z) 21 0) 28 0) 29 0) qS0 h t (fun i => hm_A s0 17 i) := by
    intro z hz
    subst hz
    refine ⟨((((ScM.rf.sI rfl).sI rfl).sI rfl).sI rfl).sI rfl, rfl, rfl, rfl, rfl, rfl, fun i => rfl, ?_⟩
    intro i r h
    exact absurd h (by show ¬ ([] : List qA)[i]? = some r; simp)
  have hB : ∀ k, (k = true ∨ k = false) → (if k = true then (1 : Int32) else 0) &&& 1 = (if k = true then (1 : Int32) else 0) := by
    intro k hk; rcases hk with rfl | rfl <;> decide
  have q0 : nI 0 = (0 : Int32) := rfl
  have q1 : nI 1 = (1 : Int32) := rfl
  have q2 : nI 2 = (2 : Int32) := rfl
  have q3 : nI 3 = (3 : Int32) := rfl
  have q4 : nI 4 = (4 : Int32) := rfl
  have q5 : nI 5 = (5 : Int32) := rfl
  have q6 : nI 6 = (6 : Int32) := rfl
  have e3 : (5 : Int32) * nI h + (3 : Int32) = nI (5 * h + 3) := by rw [show (5 : Int32) = nI 5 from rfl, pk_mul, ← q3, nI_add]
  -- the place behind the table's choice
  have key : ∀ z : Int32, z = nI (t 3) → ∃ s' g', RM s0 s' (qLay t kn w a b).2 h t g' ∧
      (let s10 := (hm_sI (hm_sI (hm_sI (hm_sI (hm_sI s0 30 (nI h)) 31 z) 21 0) 28 0) 29 0)
      (if nI w = 0 then
        (m_isKnown (nI a) (nI b) s10).bind fun x13 =>
          if x13 = 0 then some ((0 : Int32), s10)
          else if nI b ≤ nI a then (m_acts (0 : Int32) (hm_I (hm_sI s10 29 (nI a * nI b)) 29) (nI b) (0 : Int32) (hm_sI s10 29 (nI a * nI b))).bind fun s4 => some ((1 : Int32), s4)
          else (m_acts (0 : Int32) (hm_I (hm_sI s10 29 (nI a * nI b)) 29) (nI a) (0 : Int32) (hm_sI s10 29 (nI a * nI b))).bind fun s4 => some ((1 : Int32), s4)
      else if nI w = 1 then (m_goLeft (nI a) (nI b) s10).bind fun s18 => some ((1 : Int32), s18)
      else if nI w = 2 then (m_goRight (nI a) (nI b) s10).bind fun s20 => some ((1 : Int32), s20)
      else if nI w = 3 then (m_goCrossed (nI a) (nI b) s10).bind fun s22 => some ((1 : Int32), s22)
      else if nI w = 4 then (m_goSquared (nI a) (nI b) s10).bind fun q24 => hk_gd (decide (q24.1 &&& 1 = q24.1)) <| some (q24.1, q24.2)
      else if nI w = 5 then (m_goSplit (nI a) (nI b) s10).bind fun q27 => hk_gd (decide (q27.1 &&& 1 = q27.1)) <| some (q27.1, q27.2)
      else (m_goRight (nI b) (nI a) s10).bind fun s30 => some ((1 : Int32), s30)) = some (if (qLay t kn w a b).1 then (1 : Int32) else 0, s')) := by
    intro z hz
    have R1 := R0 z hz
    have hS1 := R1.1
    have h30 := R1.2.2.2.2.1
    have h31 := R1.2.2.2.2.2.1
    have hk1 := hkn _ hS1 h30 h31
    generalize (hm_sI (hm_sI (hm_sI (hm_sI (hm_sI s0 30 (nI h)) 31 z) 21 0) 28 0) 29 0) = s10 at R1 hk1 ⊢
    have hc : w = 0 ∨ w = 1 ∨ w = 2 ∨ w = 3 ∨ w = 4 ∨ w = 5 ∨ w = 6 := by omega
    rcases hc with rfl | rfl | rfl | rfl | rfl | rfl | rfl
    · simp only [q0, if_true, hk1, hz_ob]
      cases kn with
      | false => exact ⟨s10, _, R1, rfl⟩
      | true =>
        have hx1 : a * b * 1 = a * b := Nat.mul_one _
        obtain ⟨s2, E2, R2⟩ := qm_act (so := 0) (v := a * b * 1) (le := t 0) (sl := min a b * 1) (pl := 0) (vI := nI (a * b)) (slI := nI (min a b)) (plI := 0) (RM.sR (r := a * b * 1) R1) HH (by decide) (by show 0 < 120; decide) (by show a * b * 1 < 2 ^ 31; omega) (by omega)
          (by rw [hx1]) (by rw [if_pos rfl]) (by show _ = nI (min a b * 1 * 10 ^ 0); simp) rfl rfl
        rw [hx1] at E2
        refine ⟨s2, _, R2, ?_⟩
        simp only [if_true, show ¬ (1 : Int32) = 0 by decide, if_false, pk_mul, hmI_sI]
        rw [q0] at E2
        by_cases hyx : b ≤ a
        · rw [Nat.min_eq_right hyx] at E2
          rw [if_pos (nI_le hyx (by omega)), E2]; rfl
        · rw [Nat.min_eq_left (by omega)] at E2
          rw [if_neg (nI_ge (by omega) (by omega)), E2]; rfl
    · obtain ⟨s2, E2, R2⟩ := qm_left (a := a) (b := b) HH ht (by omega) (by omega) R1 rfl rfl ⟨⟨by decide, by decide, by decide⟩, by decide, (by show 0 + _ ≤ 120; omega), (by show 0 + _ < 2 ^ 31; omega)⟩
      refine ⟨s2, _, R2, ?_⟩
      simp only [q1, show ¬ (1 : Int32) = 0 by decide, if_false, if_true, E2, hz_ob]
      rfl
    · obtain ⟨s2, g2, E2, R2⟩ := qm_right (a := a) (b := b) HH ht ha hb ha0 (by omega) R1
      refine ⟨s2, g2, R2, ?_⟩
      simp only [q2, show ¬ (2 : Int32) = 0 by decide, show ¬ (2 : Int32) = 1 by decide, if_false, if_true, E2, hz_ob]
      rfl
    · obtain ⟨s2, E2, R2⟩ := qm_crossed (a := a) (b := b) HH ht ha hb ha0 hb0 R1
      refine ⟨s2, _, R2, ?_⟩
      simp only [q3, show ¬ (3 : Int32) = 0 by decide, show ¬ (3 : Int32) = 1 by decide, show ¬ (3 : Int32) = 2 by decide, if_false, if_true, E2, hz_ob]
      rfl
    · obtain ⟨s2, E2, R2⟩ := qm_squared (a := a) (b := b) HH ht ha hb ha0 hb0 R1
      refine ⟨s2, _, R2, ?_⟩
      have hb2 := hB (qSquared t a b qS0).1 (by cases (qSquared t a b qS0).1 <;> simp)
      simp only [q4, show ¬ (4 : Int32) = 0 by decide, show ¬ (4 : Int32) = 1 by decide, show ¬ (4 : Int32) = 2 by decide, show ¬ (4 : Int32) = 3 by decide, if_false, if_true, E2, hz_ob, hb2, hz_gd, decide_true]
      rfl
    · obtain ⟨s2, E2, R2⟩ := qm_split (a := a) (b := b) HH ht ha hb ha0 hb0 R1
      refine ⟨s2, _, R2, ?_⟩
      have hb2 := hB (qSplit t a b qS0).1 (by cases (qSplit t a b qS0).1 <;> simp)
      simp only [q5, show ¬ (5 : Int32) = 0 by decide, show ¬ (5 : Int32) = 1 by decide, show ¬ (5 : Int32) = 2 by decide, show ¬ (5 : Int32) = 3 by decide, show ¬ (5 : Int32) = 4 by decide, if_false, if_true, E2, hz_ob, hb2, hz_gd, decide_true]
      rfl
    · obtain ⟨s2, g2, E2, R2⟩ := qm_right (a := b) (b := a) HH ht hb ha hb0 hba R1
      refine ⟨s2, g2, R2, ?_⟩
      simp only [q6, show ¬ (6 : Int32) = 0 by decide, show ¬ (6 : Int32) = 1 by decide, show ¬ (6 : Int32) = 2 by decide, show ¬ (6 : Int32) = 3 by decide, show ¬ (6 : Int32) = 4 by decide, show ¬ (6 : Int32) = 5 by decide, if_false, E2, hz_ob]
      rfl
  rcases htb with ⟨h1, h2⟩ | ⟨h1, h2⟩
  · obtain ⟨s', g', R', E'⟩ := key (nI (t 3)) rfl
    refine ⟨s', g', ?_, R'⟩
    rw [← E']
    simp only [m_layOut, hz_nm, h1, if_true, e3, hml (show 5 * h + 3 < 30 by omega) (show 30 < 2 ^ 31 by decide), hmA_sI, h2, hz_ob, e1, e2']
  · obtain ⟨s', g', R', E'⟩ := key tb h2
    refine ⟨s', g', ?_, R'⟩
    rw [← E']
    simp only [m_layOut, hz_nm, h1, if_false, e1, e2']
end S2P
