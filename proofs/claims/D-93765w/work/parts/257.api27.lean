set_option maxRecDepth 100000
/-! ===== STAGE 2: the API: head (what is read) ===== -/
def ltr (k : Nat) : Nat := if k = 0 then 108 else if k = 1 then 97 else if k = 2 then 104 else if k = 3 then 116 else 99
/-- one letter of a head and what stands behind it -/
def hdB (x a : Nat) (e0 : Int32 → Int32 → hk_St → Option (Int32 × hk_St)) (rc : Int32 → Int32 → Int32 → hk_St → Option (Int32 × hk_St)) (p k l : Int32) (st : hk_St) : Option (Int32 × hk_St) :=
  (hk_gI [0] 1 st x).bind fun x40 =>
  if x40 ≤ p then
    e0 p p st
  else
  (hk_gR [0] 0 st x).bind fun x42 =>
  hk_nn x42 fun a43 =>
  (hk_lI 1 st a43 p).bind fun x44 =>
  if x44 = l then
    x_head_L117 x a (-1 : Int32) k (p + (1 : Int32)) (fun (v54 : Int32) (v55 : Int32) (s56 : hk_St) =>
      if v54 = (p + (1 : Int32)) then
        (hk_gR [3] 300 s56 a).bind fun x31 =>
        hk_nn x31 fun a32 =>
        (hk_tI 0 s56 a32 k v55).bind fun s33 =>
        rc (p + (1 : Int32)) v54 (k + (1 : Int32)) s33
      else
      if (x_isTold k v55) = 0 then
        (hk_gR [3] 300 s56 a).bind fun x31 =>
        hk_nn x31 fun a32 =>
        (hk_tI 0 s56 a32 k v55).bind fun s33 =>
        rc (p + (1 : Int32)) v54 (k + (1 : Int32)) s33
      else
      (hk_gR [3] 300 s56 a).bind fun x71 =>
      hk_nn x71 fun a72 =>
      (hk_tI 0 s56 a72 k v55).bind fun s73 =>
      rc (-1 : Int32) v54 (k + (1 : Int32)) s73) hk_F (p + (1 : Int32)) (0 : Int32) st
  else
  e0 p p st
theorem hdB_eq {x a k : Nat} {e0 : Int32 → Int32 → hk_St → Option (Int32 × hk_St)} {rc : Int32 → Int32 → Int32 → hk_St → Option (Int32 × hk_St)} {p : Int32} {st : hk_St} (hk : k < 5) : x_head_L27b x a e0 rc (-1 : Int32) p (nI k) st = hdB x a e0 rc p (nI k) (nI (ltr k)) st := by
  unfold x_head_L27b
  simp only [hz_nm]
  have h5 : k = 0 ∨ k = 1 ∨ k = 2 ∨ k = 3 ∨ k = 4 := by omega
  have m1 : ¬ (0 : Int32) ≤ -1 := by decide
  rcases h5 with rfl | rfl | rfl | rfl | rfl
  · rw [if_neg (show ¬ (5 : Int32) ≤ nI 0 by decide), if_neg m1, if_pos (show nI 0 = (0 : Int32) by decide)]
    rfl
  · rw [if_neg (show ¬ (5 : Int32) ≤ nI 1 by decide), if_neg m1, if_neg (show ¬ nI 1 = (0 : Int32) by decide), if_pos (show nI 1 = (1 : Int32) by decide)]
    rfl
  · rw [if_neg (show ¬ (5 : Int32) ≤ nI 2 by decide), if_neg m1, if_neg (show ¬ nI 2 = (0 : Int32) by decide), if_neg (show ¬ nI 2 = (1 : Int32) by decide), if_pos (show nI 2 = (2 : Int32) by decide)]
    rfl
  · rw [if_neg (show ¬ (5 : Int32) ≤ nI 3 by decide), if_neg m1, if_neg (show ¬ nI 3 = (0 : Int32) by decide), if_neg (show ¬ nI 3 = (1 : Int32) by decide), if_neg (show ¬ nI 3 = (2 : Int32) by decide), if_pos (show nI 3 = (3 : Int32) by decide)]
    rfl
  · rw [if_neg (show ¬ (5 : Int32) ≤ nI 4 by decide), if_neg m1, if_neg (show ¬ nI 4 = (0 : Int32) by decide), if_neg (show ¬ nI 4 = (1 : Int32) by decide), if_neg (show ¬ nI 4 = (2 : Int32) by decide), if_neg (show ¬ nI 4 = (3 : Int32) by decide)]
    rfl
theorem told_k {k : Nat} (hk : k < 5) (q : Int32) : (x_isTold (nI k) q = 0 ∧ m_isOf (nI k) q = 0) ∨ ∃ b, q = nI b ∧ Tw k b ∧ x_isTold (nI k) q = 1 ∧ m_isOf (nI k) q = 1 := by
  rcases told_c (nI k) q with ⟨h1, h2⟩ | ⟨w, b, h1, h2, h3, h4, h5, -, h7⟩
  · refine Or.inl ⟨h1, ?_⟩
    rcases h2 with h2 | h2
    · have hx : m_within (nI k).toInt64 (0 : Int64) (4 : Int64) = x_in (nI k) 0 4 := wi (b := 0) (c := 4) (by decide) (by decide)
      rw [hx] at h2
      rcases in_cases (nI k) 0 4 (by decide) (by decide) with ⟨-, q2⟩ | ⟨q1, -⟩
      · exact absurd rfl (q2 k (Nat.zero_le _) (by omega))
      · have q1 : x_in (nI k) 0 4 = 1 := q1
        rw [q1] at h2
        exact absurd h2 (by decide)
    · exact h2
  · have : k = w := (nI_eq (by omega) (by omega)).mp h2
    subst this
    exact Or.inr ⟨b, h3, h4, h5, h7⟩
theorem ex_nI (v : Int32) : ∃ o, v = nI o := ⟨v.toBitVec.toNat, by
  apply Int32.toBitVec_inj.mp
  show v.toBitVec = BitVec.ofNat 32 v.toBitVec.toNat
  simp⟩
section S2AR
variable {x a n : Nat} {B : Nat → Nat} {st : hk_St} {s s0 : hk_Ms}
theorem TS.rA {g : Nat → Int32} (T : TS x n B st) (hne : a ≠ x) : TS x n B (hk_rA st (a + 1) g) := by
  obtain ⟨T1, T2, T3, T4, T5, T6⟩ := T
  exact ⟨T1, T2, T3, T4, T5, fun i hi => ⟨(T6 i hi).1, by rw [rA_aI, if_neg (by omega)]; exact (T6 i hi).2⟩⟩
theorem TS.ld {q : Nat} (T : TS x n B st) (hq : q < n) : hk_lI 1 st (x + 1) (nI q) = some (hv B n q) := by
  obtain ⟨T1, T2, T3, T4, T5, T6⟩ := T
  rw [lI_k (ty := 1) T4 (show q < 120 by omega) (by decide), (T6 q hq).2, hv, if_pos hq]
theorem hdig_K {p : Nat} {v47 : Nat} {v48 v50 p1 p2 : Int32} {e0 : Int32 → Int32 → hk_St → Option (Int32 × hk_St)} {eM : Int32 → hk_Ms → Option (Int32 × hk_Ms)} (T : TS x n B st) :
    ∀ m q v F, m < F → q + m = p + 2 → p ≤ q → q ≤ n → (q = p → v = 0) → (q = p + 1 → v ≤ 9) → v ≤ 99 → ∃ q' v', q ≤ q' ∧ q' ≤ n ∧ q' ≤ p + 2 ∧ v' ≤ 99 ∧ x_head_L117 x v47 v48 v50 (nI p) e0 F (nI q) (nI v) st = e0 (nI q') (nI v') st ∧
      ∀ s0 s o, BSm n B s0 → Pm s0 s q (-1) o → ∃ s', m_readOne_L28 p1 p2 (nI p) eM F (nI v) s = eM (nI v') s' ∧ Pm s0 s' q' (-1) o := by
  have hB : ∀ i, i < n → B i < 256 := fun i hi => (T.2.2.2.2.2 i hi).1
  have h120 := T.2.2.2.2.1
  have p2e : nI p + (2 : Int32) = nI (p + 2) := nI_add p 2
  have g1 : hk_gI [0] 1 st x = some (nI n) := by rw [gI_b (bf_k T.1), T.2.1]
  have g0 : hk_gR [0] 0 st x = some (some (x + 1)) := by rw [gR_b (bf_k T.1), T.2.2.1]
  intro m
  induction m with
  | zero =>
    intro q v F hF hq h1 h2 h3 h4 h5
    obtain ⟨F, rfl⟩ : ∃ g, F = g + 1 := ⟨F - 1, by omega⟩
    have : q = p + 2 := by omega
    subst this
    refine ⟨p + 2, v, Nat.le_refl _, h2, Nat.le_refl _, h5, ?_, fun s0 s o S P => ⟨s, ?_, P⟩⟩
    · show x_head_L117b _ _ _ _ _ _ _ _ _ _ = _
      simp only [x_head_L117b, g1, hz_ob, p2e, Int32.le_refl, if_true]
      split <;> rfl
    · show m_readOne_L28b _ _ _ _ _ _ _ = _
      simp only [m_readOne_L28b, P.2.2.2.1, p2e, Int32.le_refl, if_true]
  | succ m ih =>
    intro q v F hF hq h1 h2 h3 h4 h5
    obtain ⟨F, rfl⟩ : ∃ g, F = g + 1 := ⟨F - 1, by omega⟩
    have nq : ¬ nI (p + 2) ≤ nI q := nI_ge (show q < p + 2 by omega) (by omega)
    have h256 := chr_256 hB (p := q)
    cases hd : dgt (chr B n q) with
    | false =>
      have hd2 : ¬ (48 ≤ chr B n q ∧ chr B n q ≤ 57) := by simpa [dgt] using hd
      refine ⟨q, v, Nat.le_refl _, h2, by omega, h5, ?_, fun s0 s o S P => ⟨s, ?_, P⟩⟩
      · show x_head_L117b _ _ _ _ _ _ _ _ _ _ = _
        by_cases hqn : q < n
        · simp only [x_head_L117b, g1, hz_ob, p2e, nq, if_false, nI_ge hqn (show n < 2 ^ 31 by omega), g0, hz_nn, T.ld hqn, c_dig hB, hd, Bool.false_eq_true, if_true]
        · simp only [x_head_L117b, g1, hz_ob, nI_le (show n ≤ q by omega) (show q < 2 ^ 31 by omega), if_true]
      · show m_readOne_L28b _ _ _ _ _ _ _ = _
        simp only [m_readOne_L28b, P.2.2.2.1, p2e, nq, if_false, m_byte S P h2, hz_ob]
        by_cases c1 : chr B n q < 48
        · rw [if_pos (show nI (chr B n q) < (48 : Int32) from nI_lt (b := 48) c1 (by decide))]
        · rw [if_neg (show ¬ nI (chr B n q) < (48 : Int32) from nI_nlt (b := 48) (by omega) (by omega)), if_pos (show (57 : Int32) < nI (chr B n q) from nI_lt (a := 57) (by omega) (by omega))]
    | true =>
      have hd2 : 48 ≤ chr B n q ∧ chr B n q ≤ 57 := by simpa [dgt] using hd
      have hlt : q < n := chr_ne (B := B) (n := n) (p := q) (by omega)
      have he : hv B n q = nI (chr B n q) := (hv_eq hB (by omega) (by omega)).mpr rfl
      have hv9 : v ≤ 9 := by
        by_cases e : q = p
        · have := h3 e; omega
        · exact h4 (by omega)
      have ev : ((10 : Int32) * nI v + nI (chr B n q)) - (48 : Int32) = nI (10 * v + chr B n q - 48) := by
        rw [show (10 : Int32) = nI 10 from rfl, pk_mul, nI_add, show (48 : Int32) = nI 48 from rfl, pk_sub (by omega)]
      obtain ⟨q', v', i1, i2, i3, i4, i5, i6⟩ := ih (q + 1) (10 * v + chr B n q - 48) F (by omega) (by omega) (by omega) (by omega) (fun e => by omega) (fun e => by have := h3 (by omega); omega) (by omega)
      refine ⟨q', v', by omega, i2, i3, i4, ?_, fun s0 s o S P => ?_⟩
      · show x_head_L117b _ _ _ _ _ _ (x_head_L117 x v47 v48 v50 (nI p) e0 F) _ _ _ = _
        have hx : x_in (nI (chr B n q)) (48 : Int32) (57 : Int32) = 1 := by rw [← he, c_dig hB, hd]; rfl
        simp only [x_head_L117b, g1, hz_ob, p2e, nq, if_false, nI_ge hlt (show n < 2 ^ 31 by omega), g0, hz_nn, T.ld hlt, he, hx, show ¬ (1 : Int32) = 0 by decide, hz_nm, ev, nI_1]
        exact i5
      · obtain ⟨s', k1, P1⟩ := i6 s0 _ o S P.at
        refine ⟨s', ?_, P1⟩
        show m_readOne_L28b _ _ _ _ (m_readOne_L28 p1 p2 (nI p) eM F) _ _ = _
        simp only [m_readOne_L28b, P.2.2.2.1, p2e, nq, if_false, m_byte S P h2, hz_ob, show ¬ nI (chr B n q) < (48 : Int32) from nI_nlt (b := 48) hd2.1 (by omega), show ¬ (57 : Int32) < nI (chr B n q) from nI_nlt (a := 57) hd2.2 (by decide), hz_nm, ev, nI_1]
        exact k1
theorem hfl {k f q : Int32} {F : Nat} {e0 : Int32 → Int32 → hk_St → Option (Int32 × hk_St)} (hf : 0 ≤ f) : x_head_L27 x a e0 (F + 1) f q k st = e0 f q st := by
  show x_head_L27b _ _ _ _ _ _ _ _ = _
  simp only [x_head_L27b, hz_nm, hf, if_true]
  split <;> rfl
/-- one letter: the class and the reference -/
theorem hstep_K {k p F : Nat} {g : Nat → Int32} {e0 : Int32 → Int32 → hk_St → Option (Int32 × hk_St)} (hk : k < 5) (hp : p ≤ n) (T : TS x n B st) (ka : hk_k st a = some (3, 0)) (fa : hk_fR st 300 a = some (a + 1)) (k1 : hk_k st (a + 1) = some (100, 5)) (hne : a ≠ x) :
    (∃ f q p' g', f ≤ n ∧ q ≤ n ∧ x_head_L27 x a e0 (F + 2) (-1 : Int32) (nI p) (nI k) (hk_rA st (a + 1) g) = e0 (nI f) (nI q) (hk_rA st (a + 1) g') ∧ ∀ s o, BSm n B s → Pm s s p (-1) o → ∃ s', m_readOne (nI (ltr k)) (nI k) s = some (0, s') ∧ Pm s s' p' (nI f) o) ∨
    (∃ q v, q ≤ n ∧ Tw k v ∧ x_head_L27 x a e0 (F + 2) (-1 : Int32) (nI p) (nI k) (hk_rA st (a + 1) g) = x_head_L27 x a e0 (F + 1) (-1 : Int32) (nI q) (nI (k + 1)) (hk_rA st (a + 1) (fun j => if j = k then nI v else g j)) ∧
      ∀ s o, BSm n B s → Pm s s p (-1) o → ∃ s', m_readOne (nI (ltr k)) (nI k) s = some (nI v, s') ∧ Pm s s' q (-1) o) := by
  have hB : ∀ i, i < n → B i < 256 := fun i hi => (T.2.2.2.2.2 i hi).1
  have h120 := T.2.2.2.2.1
  have T' : TS x n B (hk_rA st (a + 1) g) := T.rA hne
  have g1 : hk_gI [0] 1 (hk_rA st (a + 1) g) x = some (nI n) := by rw [gI_b (bf_k T'.1), T'.2.1]
  have g0 : hk_gR [0] 0 (hk_rA st (a + 1) g) x = some (some (x + 1)) := by rw [gR_b (bf_k T'.1), T'.2.2.1]
  have m1 : ¬ (0 : Int32) ≤ -1 := by decide
  have lk : 1 ≤ ltr k ∧ ltr k < 128 := by unfold ltr; split <;> (try split) <;> (try split) <;> (try split) <;> omega
  have E0 : x_head_L27 x a e0 (F + 2) (-1 : Int32) (nI p) (nI k) (hk_rA st (a + 1) g) = hdB x a e0 (x_head_L27 x a e0 (F + 1)) (nI p) (nI k) (nI (ltr k)) (hk_rA st (a + 1) g) := hdB_eq hk
  have h256 := chr_256 hB (p := p)
  by_cases hc : chr B n p = ltr k
  · have hpn : p < n := chr_ne (B := B) (n := n) (p := p) (by omega)
    have hh : hv B n p = nI (ltr k) := (hv_eq hB lk.1 lk.2).mpr hc
    obtain ⟨q, v, d1, d2, d3, d4, d5, d6⟩ := hdig_K (p := p + 1) (v47 := a) (v48 := (-1 : Int32)) (v50 := nI k) (p1 := nI (ltr k)) (p2 := nI k) (e0 := fun (v54 : Int32) (v55 : Int32) (s56 : hk_St) =>
      if v54 = (nI (p + 1)) then
        (hk_gR [3] 300 s56 a).bind fun x31 =>
        hk_nn x31 fun a32 =>
        (hk_tI 0 s56 a32 (nI k) v55).bind fun s33 =>
        x_head_L27 x a e0 (F + 1) (nI (p + 1)) v54 (nI (k + 1)) s33
      else
      if (x_isTold (nI k) v55) = 0 then
        (hk_gR [3] 300 s56 a).bind fun x31 =>
        hk_nn x31 fun a32 =>
        (hk_tI 0 s56 a32 (nI k) v55).bind fun s33 =>
        x_head_L27 x a e0 (F + 1) (nI (p + 1)) v54 (nI (k + 1)) s33
      else
      (hk_gR [3] 300 s56 a).bind fun x71 =>
      hk_nn x71 fun a72 =>
      (hk_tI 0 s56 a72 (nI k) v55).bind fun s73 =>
      x_head_L27 x a e0 (F + 1) (-1 : Int32) v54 (nI (k + 1)) s73)
      (eM := fun (v10 : Int32) (s11 : hk_Ms) =>
        if (hm_I s11 11) = nI (p + 1) then
          (m_wrong  s11).bind fun q24 =>
          some (q24.1, q24.2)
        else
        if (m_isOf (nI k) v10) = 0 then
          (m_wrong  (hm_sI s11 11 (nI (p + 1)))).bind fun q23 =>
          some (q23.1, q23.2)
        else
        some (v10, s11)) T' 2 (p + 1) 0 hk_F (pw_F (by decide)) rfl (Nat.le_refl _) (by omega) (fun _ => rfl) (fun _ => by omega) (by omega)
    have gr : hk_gR [3] 300 (hk_rA st (a + 1) g) a = some (some (a + 1)) := by rw [gR_b (st := hk_rA st (a + 1) g) (bf_k ka), rA_fR, fa]
    have ti : hk_tI 0 (hk_rA st (a + 1) g) (a + 1) (nI k) (nI v) = some (hk_rA st (a + 1) (fun j => if j = k then nI v else g j)) := by
      rw [tI_k (st := hk_rA st (a + 1) g) (ty := 0) k1 (show k < 5 by omega) (by decide), ← rA_saI]
      rfl
    rw [nI_0] at d5
    have EX := eqt d5 (show x_head_L27 x a e0 (F + 2) (-1 : Int32) (nI p) (nI k) (hk_rA st (a + 1) g) = _ from by
      rw [E0]
      simp only [hdB, g1, hz_ob, nI_ge hpn (show n < 2 ^ 31 by omega), if_false, g0, hz_nn, T'.ld hpn, hh, if_true, nI_1]
      try rfl)
    have EM : ∀ s o, BSm n B s → Pm s s p (-1) o → ∃ s', Pm s s' q (-1) o ∧ m_readOne (nI (ltr k)) (nI k) s = (if (hm_I s' 11) = nI (p + 1) then
          (m_wrong  s').bind fun q24 =>
          some (q24.1, q24.2)
        else
        if (m_isOf (nI k) (nI v)) = 0 then
          (m_wrong  (hm_sI s' 11 (nI (p + 1)))).bind fun q23 =>
          some (q23.1, q23.2)
        else
        some (nI v, s')) := fun s o S P => by
      obtain ⟨s', j1, j2⟩ := d6 s (hm_sI s 11 (nI (p + 1))) o S P.at
      refine ⟨s', j2, ?_⟩
      rw [nI_0] at j1
      simp only [m_readOne, hz_nm, P.2.2.2.2.1, m1, if_false, m_takes, m_byte S P hp, hz_ob, hc, if_true, P.2.2.2.1, nI_1, show ¬ (1 : Int32) = 0 by decide, hmI_sI]
      exact j1
    try dsimp only at EX
    by_cases hq : q = p + 1
    · refine Or.inl ⟨p + 1, q, q, fun j => if j = k then nI v else g j, by omega, d2, ?_, fun s o S P => ?_⟩
      · rw [EX, if_pos (by rw [hq])]
        simp only [gr, hz_ob, hz_nn, ti]
        exact hfl (nI_pos' (by omega))
      · obtain ⟨s', j1, j2⟩ := EM s o S P
        refine ⟨hm_sI s' 13 (nI (p + 1)), ?_, j1.fault⟩
        rw [j2, if_pos (by rw [j1.2.2.2.1, hq])]
        simp only [m_wrong, j1.2.2.2.2.1, m1, if_false, hz_nm, j1.2.2.2.1, hz_ob, hq]
    · have nq : ¬ nI q = nI (p + 1) := fun e => hq ((nI_eq (by omega) (by omega)).mp e)
      rcases told_k hk (nI v) with ⟨t1, t2⟩ | ⟨b, t1, t2, t3, t4⟩
      · refine Or.inl ⟨p + 1, q, p + 1, fun j => if j = k then nI v else g j, by omega, d2, ?_, fun s o S P => ?_⟩
        · rw [EX, if_neg nq, if_pos t1]
          simp only [gr, hz_ob, hz_nn, ti]
          exact hfl (nI_pos' (by omega))
        · obtain ⟨s', j1, j2⟩ := EM s o S P
          refine ⟨hm_sI (hm_sI s' 11 (nI (p + 1))) 13 (nI (p + 1)), ?_, j1.at.fault⟩
          rw [j2, if_neg (by rw [j1.2.2.2.1]; exact nq), if_pos t2]
          have q13 : hm_I (hm_sI s' 11 (nI (p + 1))) 13 = -1 := by rw [hmI_sI, if_neg (by decide)]; exact j1.2.2.2.2.1
          have q11 : hm_I (hm_sI s' 11 (nI (p + 1))) 11 = nI (p + 1) := by rw [hmI_sI, if_pos rfl]
          simp only [m_wrong, q13, m1, if_false, hz_nm, q11, hz_ob]
      · have hb : v = b := (nI_eq (by omega) (by have := t2.1; omega)).mp t1
        subst hb
        refine Or.inr ⟨q, v, d2, t2, ?_, fun s o S P => ?_⟩
        · rw [EX, if_neg nq, if_neg (by rw [t3]; decide)]
          simp only [gr, hz_ob, hz_nn, ti]
        · obtain ⟨s', j1, j2⟩ := EM s o S P
          refine ⟨s', ?_, j1⟩
          rw [j2, if_neg (by rw [j1.2.2.2.1]; exact nq), if_neg (by rw [t4]; decide)]
  · refine Or.inl ⟨p, p, p, g, hp, hp, ?_, fun s o S P => ⟨hm_sI s 13 (nI p), ?_, P.fault⟩⟩
    · rw [E0]
      by_cases hpn : p < n
      · have hh : ¬ hv B n p = nI (ltr k) := fun e => hc ((hv_eq hB lk.1 lk.2).mp e)
        simp only [hdB, g1, hz_ob, nI_ge hpn (show n < 2 ^ 31 by omega), if_false, g0, hz_nn, T'.ld hpn, hh]
      · simp only [hdB, g1, hz_ob, nI_le (show n ≤ p by omega) (show p < 2 ^ 31 by omega), if_true]
    · have hh : ¬ nI (chr B n p) = nI (ltr k) := fun e => hc ((nI_eq (by omega) (by omega)).mp e)
      simp only [m_readOne, hz_nm, P.2.2.2.2.1, m1, if_false, m_takes, m_byte S P hp, hz_ob, hh, if_true, m_wrong, P.2.2.2.1]
/-- what reading a head can change in the reference -/
def FH (s s' : hk_Ms) : Prop := (∀ f, f ≠ 11 → f ≠ 13 → hm_I s' f = hm_I s f) ∧ (∀ j i, j ≠ 7 → hm_A s' j i = hm_A s j i) ∧ s'.2.2 = s.2.2
theorem FH.rf : FH s s := ⟨fun _ _ _ => rfl, fun _ _ _ => rfl, rfl⟩
theorem FH.trans {s1 s2 : hk_Ms} (h : FH s s1) (k : FH s1 s2) : FH s s2 := ⟨fun f a b => (k.1 f a b).trans (h.1 f a b), fun j i a => (k.2.1 j i a).trans (h.2.1 j i a), k.2.2.trans h.2.2⟩
theorem FH.sA {s1 : hk_Ms} (h : FH s s1) {i : Nat} {v : Int32} : FH s (hm_sA s1 7 i v) := ⟨h.1, fun j k hj => by rw [hmA_sA, if_neg (fun q => hj q.1)]; exact h.2.1 j k hj, h.2.2⟩
theorem Pm.fh {p o : Nat} {fl : Int32} {s1 : hk_Ms} (P : Pm s s1 p fl o) (h14 : hm_I s 14 = nI o) : FH s s1 := ⟨fun f h1 h2 => by
  by_cases e : f = 14
  · subst e; exact P.2.2.2.2.2.trans h14.symm
  · exact P.1 f h1 h2 e, fun j i _ => P.2.1 j i, P.2.2.1⟩
theorem BSm.fh {s1 : hk_Ms} (S : BSm n B s) (F : FH s s1) : BSm n B s1 :=
  ⟨S.1, (F.1 12 (by decide) (by decide)).trans S.2.1, by
    rcases S.2.2 with ⟨h1, h2⟩ | ⟨h1, h2⟩
    · exact Or.inl ⟨(F.1 10 (by decide) (by decide)).trans h1, fun i hi => (F.2.1 4 i (by decide)).trans (h2 i hi)⟩
    · exact Or.inr ⟨(F.1 10 (by decide) (by decide)).trans h1, fun i hi => (F.2.1 5 i (by decide)).trans (h2 i hi)⟩⟩
/-- the reference reads m letters from the k-th on -/
def mRd : Nat → Nat → (hk_Ms → Option (Int32 × hk_Ms)) → hk_Ms → Option (Int32 × hk_Ms)
  | 0, _, e, s => e s
  | m + 1, k, e, s => (m_readOne (nI (ltr k)) (nI k) s).bind fun q => (hm_tI q.2 7 5 (nI k) q.1).bind fun s' => mRd m (k + 1) e s'
theorem mRd_f {e : hk_Ms → Option (Int32 × hk_Ms)} : ∀ m k s, k + m = 5 → 0 ≤ hm_I s 13 → ∃ s', mRd m k e s = e s' ∧ hm_I s' 13 = hm_I s 13 ∧ FH s s' := by
  intro m
  induction m with
  | zero => intro k s _ _; exact ⟨s, rfl, rfl, FH.rf⟩
  | succ m ih =>
    intro k s hk h0
    have e1 : m_readOne (nI (ltr k)) (nI k) s = some (0, hm_sI s 13 (hm_I s 13)) := by
      simp only [m_readOne, hz_nm, h0, if_true, m_wrong, hz_ob]
    have F1 : FH s (hm_sA (hm_sI s 13 (hm_I s 13)) 7 k 0) := FH.sA (s := s) (s1 := hm_sI s 13 (hm_I s 13)) ⟨fun f _ h2 => by rw [hmI_sI, if_neg h2], fun _ _ _ => rfl, rfl⟩
    have h13 : hm_I (hm_sA (hm_sI s 13 (hm_I s 13)) 7 k 0) 13 = hm_I s 13 := by rw [hmI_sA, hmI_sI, if_pos rfl]
    obtain ⟨s', i1, i2, i3⟩ := ih (k + 1) (hm_sA (hm_sI s 13 (hm_I s 13)) 7 k 0) (by omega) (by rw [h13]; exact h0)
    refine ⟨s', ?_, i2.trans h13, F1.trans i3⟩
    show ((m_readOne (nI (ltr k)) (nI k) s).bind fun q => (hm_tI q.2 7 5 (nI k) q.1).bind fun s' => mRd m (k + 1) e s') = _
    simp only [e1, hz_ob, hmt (show k < 5 by omega) (show 5 < 2 ^ 31 by decide)]
    exact i1
theorem rds_K {e0 : Int32 → Int32 → hk_St → Option (Int32 × hk_St)} {e : hk_Ms → Option (Int32 × hk_Ms)} (T : TS x n B st) (ka : hk_k st a = some (3, 0)) (fa : hk_fR st 300 a = some (a + 1)) (k1 : hk_k st (a + 1) = some (100, 5)) (hne : a ≠ x) :
    ∀ m k p g F, k + m = 5 → m + 2 ≤ F → p ≤ n →
    (∃ (f q : Nat) (g' : Nat → Int32), f ≤ n ∧ q ≤ n ∧ x_head_L27 x a e0 F (-1 : Int32) (nI p) (nI k) (hk_rA st (a + 1) g) = e0 (nI f) (nI q) (hk_rA st (a + 1) g') ∧ ∀ s, BSm n B s → hm_I s 11 = nI p → hm_I s 13 = -1 → ∃ s', mRd m k e s = e s' ∧ hm_I s' 13 = nI f ∧ FH s s') ∨
    (∃ (q : Nat) (t : Nat → Nat) (g' : Nat → Int32), q ≤ n ∧ (∀ i, k ≤ i → i < 5 → Tw i (t i)) ∧ x_head_L27 x a e0 F (-1 : Int32) (nI p) (nI k) (hk_rA st (a + 1) g) = e0 (-1 : Int32) (nI q) (hk_rA st (a + 1) g') ∧ (∀ i, k ≤ i → i < 5 → g' i = nI (t i)) ∧ (∀ i, i < k → g' i = g i) ∧
      ∀ s, BSm n B s → hm_I s 11 = nI p → hm_I s 13 = -1 → ∃ s', mRd m k e s = e s' ∧ hm_I s' 13 = -1 ∧ hm_I s' 11 = nI q ∧ FH s s' ∧ (∀ i, k ≤ i → i < 5 → hm_A s' 7 i = nI (t i)) ∧ ∀ i, i < k → hm_A s' 7 i = hm_A s 7 i) := by
  intro m
  induction m with
  | zero =>
    intro k p g F hk hF hp
    obtain ⟨F, rfl⟩ : ∃ g, F = g + 1 := ⟨F - 1, by omega⟩
    have : k = 5 := by omega
    subst this
    refine Or.inr ⟨p, fun _ => 0, g, hp, fun i h1 h2 => by omega, ?_, fun i h1 h2 => by omega, fun _ _ => rfl, fun s S h11 h13 => ⟨s, rfl, h13, h11, FH.rf, fun i h1 h2 => by omega, fun _ _ => rfl⟩⟩
    show x_head_L27b _ _ _ _ _ _ _ _ = _
    simp only [x_head_L27b, hz_nm, show (5 : Int32) ≤ nI 5 by decide, if_true]
  | succ m ih =>
    intro k p g F hk hF hp
    obtain ⟨F, rfl⟩ : ∃ g, F = g + 2 := ⟨F - 2, by omega⟩
    have step : ∀ s s' v, m_readOne (nI (ltr k)) (nI k) s = some (v, s') → mRd (m + 1) k e s = mRd m (k + 1) e (hm_sA s' 7 k v) := fun s s' v h => by
      show ((m_readOne (nI (ltr k)) (nI k) s).bind fun q => (hm_tI q.2 7 5 (nI k) q.1).bind fun s' => mRd m (k + 1) e s') = _
      simp only [h, hz_ob, hmt (show k < 5 by omega) (show 5 < 2 ^ 31 by decide)]
    rcases hstep_K (e0 := e0) (F := F) (g := g) (show k < 5 by omega) hp T ka fa k1 hne with ⟨f, q, p', g', h1, h2, h3, h4⟩ | ⟨q, v, h1, h2, h3, h4⟩
    · refine Or.inl ⟨f, q, g', h1, h2, h3, fun s S h11 h13 => ?_⟩
      obtain ⟨o, ho⟩ := ex_nI (hm_I s 14)
      obtain ⟨s1, j1, j2⟩ := h4 s o S ⟨fun _ _ _ _ => rfl, fun _ _ => rfl, rfl, h11, h13, ho⟩
      have f13 : hm_I (hm_sA s1 7 k 0) 13 = nI f := j2.2.2.2.2.1
      obtain ⟨s2, i1, i2, i3⟩ := mRd_f (e := e) m (k + 1) (hm_sA s1 7 k 0) (by omega) (by rw [f13]; exact nI_pos' (by have := T.2.2.2.2.1; omega))
      exact ⟨s2, (step _ _ _ j1).trans i1, i2.trans f13, ((j2.fh ho).sA).trans i3⟩
    · rw [h3]
      have aft : ∀ s, BSm n B s → hm_I s 11 = nI p → hm_I s 13 = -1 → ∃ s1, mRd (m + 1) k e s = mRd m (k + 1) e (hm_sA s1 7 k (nI v)) ∧ FH s (hm_sA s1 7 k (nI v)) ∧ BSm n B (hm_sA s1 7 k (nI v)) ∧ hm_I (hm_sA s1 7 k (nI v)) 11 = nI q ∧ hm_I (hm_sA s1 7 k (nI v)) 13 = -1 ∧ ∀ i, hm_A (hm_sA s1 7 k (nI v)) 7 i = if i = k then nI v else hm_A s 7 i := fun s S h11 h13 => by
        obtain ⟨o, ho⟩ := ex_nI (hm_I s 14)
        obtain ⟨s1, j1, j2⟩ := h4 s o S ⟨fun _ _ _ _ => rfl, fun _ _ => rfl, rfl, h11, h13, ho⟩
        have F1 : FH s (hm_sA s1 7 k (nI v)) := (j2.fh ho).sA
        refine ⟨s1, step _ _ _ j1, F1, S.fh F1, j2.2.2.2.1, j2.2.2.2.2.1, fun i => ?_⟩
        rw [hmA_sA]
        by_cases e : i = k
        · rw [if_pos ⟨rfl, e⟩, if_pos e]
        · rw [if_neg (fun q => e q.2), if_neg e]; exact j2.2.1 7 i
      rcases ih (k + 1) q (fun j => if j = k then nI v else g j) (F + 1) (by omega) (by omega) h1 with ⟨f, q2, g', i1, i2, i3, i4⟩ | ⟨q2, t, g', i1, i2, i3, i4, i5, i6⟩
      · refine Or.inl ⟨f, q2, g', i1, i2, i3, fun s S h11 h13 => ?_⟩
        obtain ⟨s1, a1, a2, a3, a4, a5, -⟩ := aft s S h11 h13
        obtain ⟨s2, b1, b2, b3⟩ := i4 _ a3 a4 a5
        exact ⟨s2, a1.trans b1, b2, a2.trans b3⟩
      · refine Or.inr ⟨q2, fun i => if i = k then v else t i, g', i1, fun i j1 j2 => ?_, i3, fun i j1 j2 => ?_, fun i hi => ?_, fun s S h11 h13 => ?_⟩
        · show Tw i (if i = k then v else t i)
          by_cases e : i = k
          · rw [if_pos e, e]; exact h2
          · rw [if_neg e]; exact i2 i (by omega) j2
        · show g' i = nI (if i = k then v else t i)
          by_cases e : i = k
          · rw [if_pos e, i5 i (by omega)]
            simp only [e, if_true]
          · rw [if_neg e]; exact i4 i (by omega) j2
        · rw [i5 i (by omega)]
          simp only [show ¬ i = k by omega, if_false]
        · obtain ⟨s1, a1, a2, a3, a4, a5, a6⟩ := aft s S h11 h13
          obtain ⟨s2, b1, b2, b3, b4, b5, b6⟩ := i6 _ a3 a4 a5
          refine ⟨s2, a1.trans b1, b2, b3, a2.trans b4, fun i j1 j2 => ?_, fun i hi => ?_⟩
          · show hm_A s2 7 i = nI (if i = k then v else t i)
            by_cases e : i = k
            · rw [if_pos e, b6 i (by omega), a6, if_pos e]
            · rw [if_neg e]; exact b5 i (by omega) j2
          · rw [b6 i (by omega), a6, if_neg (by omega)]
end S2AR
