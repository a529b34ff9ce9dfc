set_option maxRecDepth 100000
/-! ===== STAGE 2: the choice: comparisons and operands ===== -/
section S2J
variable {x rd n o : Nat} {B : Nat → Nat} {st : hk_St}
theorem FrR.at {p : Nat} : FrR rd st (hk_sfI st 600 rd (nI p)) := by
  have h : FrR rd st st := Fr.rf
  exact Fr.sfI h (fun _ => ⟨rfl, by decide, by decide⟩)
theorem FrR.opn {st0 : hk_St} {p : Int32} (h : FrR rd st0 st) : FrR rd st0 (hk_sfI st 602 rd p) := Fr.sfI h (fun _ => ⟨rfl, by decide, by decide⟩)
theorem FrR.flt {st0 : hk_St} {p : Int32} (h : FrR rd st0 st) : FrR rd st0 (hk_sfI st 601 rd p) := Fr.sfI h (fun _ => ⟨rfl, by decide, by decide⟩)
theorem cmp_K {d : Nat} (hsub : LvK x d 3) : LvK x (d + 1) 2 := by
  intro rd n B p o st R hfc hw ho hd
  show ∃ st' r, xReader_compared (g_R d 3) rd st = some (r, st') ∧ OutK x rd n B p o st (m_compared (g_P d 3)) st' r
  have hn := R.1.2.2.2.2.1
  obtain ⟨st1, r1, E1, p1, a1, a2, fr1, hw1, b1, b2, hO⟩ := hsub rd n B p o st R hfc hw ho (by omega)
  rcases hO with ⟨f, nd, hlt, R1, hr, hN, hM⟩ | ⟨q, o', hq, R1, hM⟩
  · subst hr
    have hB := R.hB
    cases hc : (opL 0).contains (chr B n p1) with
    | false =>
      refine ⟨st1, some nd, ?_, p1, a1, a2, fr1, hw1, b1, b2, Or.inl ⟨f, nd, hlt, R1, rfl, hN, fun s0 s S P => ?_⟩⟩
      · simp only [xReader_compared, E1, hz_ob, hz_gd, R.bf, if_true, gI_b R1.bf, R1.2.2.2.2.1, nlem1, if_false, c_isOne R1 (show 0 < 4 by decide), hc, Bool.false_eq_true, R1.bf]
      · obtain ⟨s1, h1, P1⟩ := hM s0 s S P
        have hc : chr B n p1 ≠ 60 ∧ chr B n p1 ≠ 61 ∧ chr B n p1 ≠ 62 := by simpa [opL] using hc
        have h256 := chr_256 hB (p := p1)
        have n1 : ¬ nI (chr B n p1) = (60 : Int32) := fun q => hc.1 ((nI_eq (b := 60) (by omega) (by decide)).mp q)
        have n2 : ¬ nI (chr B n p1) = (61 : Int32) := fun q => hc.2.1 ((nI_eq (b := 61) (by omega) (by decide)).mp q)
        have n3 : ¬ nI (chr B n p1) = (62 : Int32) := fun q => hc.2.2 ((nI_eq (b := 62) (by omega) (by decide)).mp q)
        refine ⟨s1, ?_, P1⟩
        simp only [m_compared, hz_nm, h1, hz_ob, m_byte S P1 a2, P1.2.2.2.2.1, nlem1, if_false, n1, n2, n3]
    | true =>
      have hc2 : chr B n p1 = 60 ∨ chr B n p1 = 61 ∨ chr B n p1 = 62 := by simpa [opL] using hc
      have hlt1 : p1 < n := chr_ne (B := B) (n := n) (p := p1) (by omega)
      have hop : opC (chr B n p1) := by unfold opC; omega
      have he : hv B n p1 = nI (chr B n p1) := (hv_eq hB (by omega) (by omega)).mpr rfl
      have R2 : RdS x rd n B (p1 + 1) (-1) o (hk_sfI st1 600 rd (nI (p1 + 1))) := R1.at (by omega) R1.nn
      have fr2 : FrR rd st1 (hk_sfI st1 600 rd (nI (p1 + 1))) := FrR.at
      have fc1 := hfc.nx hw fr1.nx
      have fc2 := fc1.nx hw1 fr2.nx
      have c1 : hk_nc (hk_sfI st1 600 rd (nI (p1 + 1))) = hk_nc st1 := rfl
      have c2 : hk_ns (hk_sfI st1 600 rd (nI (p1 + 1))) = hk_ns st1 := rfl
      obtain ⟨st3, r3, E3, p3, d1, d2, fr3, hw3, e1, e2, hO3⟩ := hsub rd n B (p1 + 1) o _ R2 fc2 hw1 ho (by omega)
      have fr13 : FrR rd st1 st3 := Fr.trans fr2 fr3
      rcases hO3 with ⟨g, nd3, hlt3, R3, hr3, hN3, hM3⟩ | ⟨q, o', hq, R3, hM3⟩
      · subst hr3
        have hNd := hN.nx fr13.nx (Nat.le_refl _)
        obtain ⟨E4, R4⟩ := c_joined (l := nd) (r := nd3) R3 hw3 hop hNd hN3
        have hN4 := NdE_pair hop hNd hN3
        have fr4 : FrR rd st3 (mkP st3 (chr B n p1) nd nd3) := mkP_fr.r
        have hw4 : Wp (mkP st3 (chr B n p1) nd nd3) := Wp.mk (t := 12) (len := 0) (sl := 3) hw3
        have g1 : hk_nc (mkP st3 (chr B n p1) nd nd3) = hk_nc st3 + 1 := rfl
        have g2 : hk_ns (mkP st3 (chr B n p1) nd nd3) = hk_ns st3 + 3 := rfl
        refine ⟨mkP st3 (chr B n p1) nd nd3, some (hk_nx st3), ?_, p3, by omega, d2, Fr.trans fr1 (Fr.trans fr13 fr4), hw4, by omega, by omega, Or.inl ⟨fun N => pv (chr B n p1) (f N) (g N), hk_nx st3, by omega, R4, rfl, hN4.nx Nx.rf (by omega), fun s0 s S P => ?_⟩⟩
        · simp only [xReader_compared, E1, hz_ob, hz_gd, R.bf, if_true, gI_b R1.bf, pI_b R1.bf, R1.2.2.2.2.1, R1.2.2.2.1, nlem1, if_false, c_isOne R1 (show 0 < 4 by decide), hc, show ¬ (1 : Int32) = 0 by decide, R1.bf, c_here R1, he, nI_1, E3, R2.bf, E4, R3.bf]
        · obtain ⟨s1, h1, P1⟩ := hM s0 s S P
          obtain ⟨s3, h3, P3⟩ := hM3 s0 _ S P1.at
          refine ⟨s3, ?_, P3⟩
          rcases hc2 with h | h | h
          · simp only [m_compared, hz_nm, h1, hz_ob, m_byte S P1 a2, P1.2.2.2.2.1, nlem1, if_false, h, show nI 60 = (60 : Int32) from rfl, if_true, P1.2.2.2.1, nI_1, h3, pv_60]
            split <;> rfl
          · simp only [m_compared, hz_nm, h1, hz_ob, m_byte S P1 a2, P1.2.2.2.2.1, nlem1, if_false, h, show nI 61 = (61 : Int32) from rfl, show ¬ (61 : Int32) = 60 by decide, if_true, P1.2.2.2.1, nI_1, h3, pv_61]
            split <;> rfl
          · simp only [m_compared, hz_nm, h1, hz_ob, m_byte S P1 a2, P1.2.2.2.2.1, nlem1, if_false, h, show nI 62 = (62 : Int32) from rfl, show ¬ (62 : Int32) = 60 by decide, show ¬ (62 : Int32) = 61 by decide, if_true, P1.2.2.2.1, nI_1, h3, pv_62]
            split <;> rfl
      · refine ⟨st3, none, ?_, p3, by omega, d2, Fr.trans fr1 fr13, hw3, by omega, by omega, Or.inr ⟨q, o', hq, R3, fun s0 s S P => ?_⟩⟩
        · simp only [xReader_compared, E1, hz_ob, hz_gd, R.bf, if_true, gI_b R1.bf, pI_b R1.bf, R1.2.2.2.2.1, R1.2.2.2.1, nlem1, if_false, c_isOne R1 (show 0 < 4 by decide), hc, show ¬ (1 : Int32) = 0 by decide, R1.bf, c_here R1, he, nI_1, E3, R2.bf, c_joined_f R3 hq, R3.bf]
        · obtain ⟨s1, h1, P1⟩ := hM s0 s S P
          obtain ⟨v, s3, h3, P3⟩ := hM3 s0 _ S P1.at
          rcases hc2 with h | h | h
          · refine ⟨if v ≤ f (Nm s0) then 0 else 1, s3, ?_, P3⟩
            simp only [m_compared, hz_nm, h1, hz_ob, m_byte S P1 a2, P1.2.2.2.2.1, nlem1, if_false, h, show nI 60 = (60 : Int32) from rfl, if_true, P1.2.2.2.1, nI_1, h3]
            split <;> rfl
          · refine ⟨if f (Nm s0) = v then 1 else 0, s3, ?_, P3⟩
            simp only [m_compared, hz_nm, h1, hz_ob, m_byte S P1 a2, P1.2.2.2.2.1, nlem1, if_false, h, show nI 61 = (61 : Int32) from rfl, show ¬ (61 : Int32) = 60 by decide, if_true, P1.2.2.2.1, nI_1, h3]
            split <;> rfl
          · refine ⟨if f (Nm s0) ≤ v then 0 else 1, s3, ?_, P3⟩
            simp only [m_compared, hz_nm, h1, hz_ob, m_byte S P1 a2, P1.2.2.2.2.1, nlem1, if_false, h, show nI 62 = (62 : Int32) from rfl, show ¬ (62 : Int32) = 60 by decide, show ¬ (62 : Int32) = 61 by decide, if_true, P1.2.2.2.1, nI_1, h3]
            split <;> rfl
  · refine ⟨st1, r1, ?_, p1, a1, a2, fr1, hw1, b1, b2, Or.inr ⟨q, o', hq, R1, fun s0 s S P => ?_⟩⟩
    · simp only [xReader_compared, E1, hz_ob, hz_gd, R.bf, if_true, gI_b R1.bf, R1.2.2.2.2.1, nI_pos' (show q < 2 ^ 31 by omega)]
    · obtain ⟨v, s1, h1, P1⟩ := hM s0 s S P
      refine ⟨v, s1, ?_, P1⟩
      rcases P1.cases S with ⟨k1, c, k2⟩ | ⟨k1, c, k2, k3, k4⟩
      · simp only [m_compared, hz_nm, h1, hz_ob, k2, k1, if_true]
      · have n1 : ¬ nI c = (60 : Int32) := fun q => by have := (nI_eq (b := 60) (by omega) (by decide)).mp q; omega
        have n2 : ¬ nI c = (61 : Int32) := fun q => by have := (nI_eq (b := 61) (by omega) (by decide)).mp q; omega
        have n3 : ¬ nI c = (62 : Int32) := fun q => by have := (nI_eq (b := 62) (by omega) (by decide)).mp q; omega
        simp only [m_compared, hz_nm, h1, hz_ob, k2, k1, nlem1, if_false, n1, n2, n3]
theorem c_dig {p : Nat} (hB : ∀ i, i < n → B i < 256) : x_in (hv B n p) (48 : Int32) (57 : Int32) = if dgt (chr B n p) = true then 1 else 0 := by
  have h256 := chr_256 hB (p := p)
  unfold x_in dgt
  rcases hv_cases hB (p := p) with ⟨h1, h2⟩ | ⟨h1, h2⟩
  · have h3 : hv B n p < (48 : Int32) := by
      rw [Int32.lt_iff_toInt_lt] at h1 ⊢
      have : (0 : Int32).toInt = 0 := rfl
      have : (48 : Int32).toInt = 48 := rfl
      omega
    rw [if_pos h3, if_neg (by simp only [decide_eq_true_eq]; omega)]
  · rw [h2, show (48 : Int32) = nI 48 from rfl, show (57 : Int32) = nI 57 from rfl]
    by_cases c1 : chr B n p < 48
    · rw [if_pos (nI_lt c1 (by decide)), if_neg (by simp only [decide_eq_true_eq]; omega)]
    · rw [if_neg (nI_nlt (by omega) (by omega))]
      by_cases c2 : 57 < chr B n p
      · rw [if_pos (nI_lt c2 (by omega)), if_neg (by simp only [decide_eq_true_eq]; omega)]
      · rw [if_neg (nI_nlt (by omega) (by decide)), if_pos (by simp only [decide_eq_true_eq]; omega)]
theorem c_wrong {p : Nat} (R : RdS x rd n B p (-1) o st) : xReader_wrong rd st = some (none, hk_sfI st 601 rd (nI p)) := by
  simp only [xReader_wrong, gI_b R.bf, pI_b R.bf, R.2.2.2.2.1, R.2.2.2.1, hz_ob, nlem1, if_false]
/-- figures: of at most four -/
theorem digits_K {rcC1 rcC2 : Nat → hk_St → Option (Option Nat × hk_St)} {rcM1 rcM2 : hk_Ms → Option (Int32 × hk_Ms)} {eC : Int32 → Int32 → hk_St → Option (Option Nat × hk_St)} {eM : Int32 → Int32 → hk_Ms → Option (Int32 × hk_Ms)} :
    ∀ m F k v p st, m < F → k + m = 4 → RdS x rd n B p (-1) o st → Wp st → ∃ k' v' p' st', k ≤ k' ∧ k' ≤ 4 ∧ p' = p + (k' - k) ∧ (k' < 4 → dgt (chr B n p') = false) ∧ (k < 4 → dgt (chr B n p) = true → k < k') ∧
      xReader_operand_L179 rcC1 rcC2 rd eC F (nI k) v st = eC (nI k') v' st' ∧ RdS x rd n B p' (-1) o st' ∧ FrR rd st st' ∧ Wp st' ∧ hk_nc st' = hk_nc st ∧ hk_ns st' = hk_ns st ∧
      ∀ s0 s, BSm n B s0 → Pm s0 s p (-1) o → ∃ s', m_one_L176 rcM1 rcM2 eM F v (nI k) s = eM v' (nI k') s' ∧ Pm s0 s' p' (-1) o := by
  intro m
  induction m with
  | zero =>
    intro F k v p st hF hk R hw
    obtain ⟨F, rfl⟩ : ∃ g, F = g + 1 := ⟨F - 1, by omega⟩
    have : k = 4 := by omega
    subst this
    refine ⟨4, v, p, st, Nat.le_refl _, Nat.le_refl _, rfl, fun h => by omega, fun h => by omega, ?_, R, Fr.rf, hw, rfl, rfl, fun s0 s S P => ⟨s, ?_, P⟩⟩
    · show xReader_operand_L179b _ _ _ _ _ _ _ _ = _
      simp only [xReader_operand_L179b, show (4 : Int32) ≤ nI 4 by decide, if_true]
    · show m_one_L176b _ _ _ _ _ _ _ = _
      simp only [m_one_L176b, show (4 : Int32) ≤ nI 4 by decide, if_true]
  | succ m ih =>
    intro F k v p st hF hk R hw
    obtain ⟨F, rfl⟩ : ∃ g, F = g + 1 := ⟨F - 1, by omega⟩
    have hB := R.hB
    have h256 := chr_256 hB (p := p)
    have n4 : ¬ (4 : Int32) ≤ nI k := by rw [show (4 : Int32) = nI 4 from rfl]; exact nI_ge (by omega) (by decide)
    have hp := R.2.2.2.2.2.2
    cases hd : dgt (chr B n p) with
    | false =>
      have hd2 : ¬ (48 ≤ chr B n p ∧ chr B n p ≤ 57) := by simpa [dgt] using hd
      refine ⟨k, v, p, st, Nat.le_refl _, by omega, by omega, fun _ => hd, (fun _ h => absurd h (by decide)), ?_, R, Fr.rf, hw, rfl, rfl, fun s0 s S P => ⟨s, ?_, P⟩⟩
      · show xReader_operand_L179b _ _ _ _ _ _ _ _ = _
        simp only [xReader_operand_L179b, n4, if_false, c_here R, hz_ob, hz_gd, R.bf, if_true, c_dig hB, hd, Bool.false_eq_true]
      · show m_one_L176b _ _ _ _ _ _ _ = _
        simp only [m_one_L176b, n4, if_false, m_byte S P hp, hz_ob]
        by_cases c1 : chr B n p < 48
        · rw [if_pos (show nI (chr B n p) < (48 : Int32) from nI_lt (b := 48) c1 (by decide))]
        · rw [if_neg (show ¬ nI (chr B n p) < (48 : Int32) from nI_nlt (b := 48) (by omega) (by omega)), if_pos (show (57 : Int32) < nI (chr B n p) from nI_lt (a := 57) (by omega) (by omega))]
    | true =>
      have hd2 : 48 ≤ chr B n p ∧ chr B n p ≤ 57 := by simpa [dgt] using hd
      have hlt : p < n := chr_ne (B := B) (n := n) (p := p) (by omega)
      have he : hv B n p = nI (chr B n p) := (hv_eq hB (by omega) (by omega)).mpr rfl
      have R1 : RdS x rd n B (p + 1) (-1) o (hk_sfI st 600 rd (nI (p + 1))) := R.at (by omega) R.nn
      obtain ⟨k', v', p', st', i1, i2, i3, i4, i5, i6, i7, i8, i9, iA, iB, iC⟩ := ih F (k + 1) (((10 : Int32) * v + nI (chr B n p)) - (48 : Int32)) (p + 1) _ (by omega) (by omega) R1 hw
      refine ⟨k', v', p', st', by omega, i2, by omega, i4, fun _ _ => by omega, ?_, i7, Fr.trans FrR.at i8, i9, iA, iB, fun s0 s S P => ?_⟩
      · show xReader_operand_L179b _ _ _ _ _ _ _ _ = _
        have hx : x_in (nI (chr B n p)) (48 : Int32) (57 : Int32) = 1 := by rw [← he, c_dig hB, hd]; rfl
        simp only [xReader_operand_L179b, n4, if_false, c_here R, hz_ob, hz_gd, R.bf, if_true, hx, show ¬ (1 : Int32) = 0 by decide, he, hz_nm, gI_b R.bf, pI_b R.bf, R.2.2.2.1, nI_1]
        exact i6
      · obtain ⟨s', h1, P1⟩ := iC s0 _ S P.at
        refine ⟨s', ?_, P1⟩
        show m_one_L176b _ _ _ _ _ _ _ = _
        simp only [m_one_L176b, n4, if_false, m_byte S P hp, hz_ob, show ¬ nI (chr B n p) < (48 : Int32) from nI_nlt (b := 48) hd2.1 (by omega), show ¬ (57 : Int32) < nI (chr B n p) from nI_nlt (a := 57) hd2.2 (by decide), hz_nm, P.2.2.2.1, nI_1]
        exact h1
end S2J
