set_option maxRecDepth 100000
/-! ===== STAGE 2: the methods that throw: shift ===== -/
theorem fit_b {a : Int32} (h : a.toInt8.toInt32 = a) : fits .byte (.int a) = true := by
  have e : a.toInt = a.toInt8.toInt := by rw [← Int8.toInt_toInt32, h]
  have h1 := Int8.le_toInt a.toInt8
  have h2 := Int8.toInt_lt a.toInt8
  show (decide (-128 ≤ a) && decide (a ≤ 127)) = true
  simp only [Bool.and_eq_true, decide_eq_true_eq, Int32.le_iff_toInt_le]
  rw [show (-128 : Int32).toInt = -128 from by decide, show (127 : Int32).toInt = 127 from by decide]
  omega
theorem fit_s {a : Int32} (h : a.toInt16.toInt32 = a) : fits .short (.int a) = true := by
  have e : a.toInt = a.toInt16.toInt := by rw [← Int16.toInt_toInt32, h]
  have h1 := Int16.le_toInt a.toInt16
  have h2 := Int16.toInt_lt a.toInt16
  show (decide (-32768 ≤ a) && decide (a ≤ 32767)) = true
  simp only [Bool.and_eq_true, decide_eq_true_eq, Int32.le_iff_toInt_le]
  rw [show (-32768 : Int32).toInt = -32768 from by decide, show (32767 : Int32).toInt = 32767 from by decide]
  omega
theorem fit_z {a : Int32} (h : a &&& 1 = a) : fits .boolean (.int a) = true := by
  rcases and1z h with rfl | rfl <;> decide
def rwN (q : Nat) : String := match q with
  | 0 => "HeadReckons$ByteRow"
  | 1 => "HeadReckons$ShortRow"
  | 2 => "HeadReckons$IntRow"
  | 3 => "HeadReckons$LongRow"
  | _ => "HeadReckons$BooleanRow"
theorem no_rr {q q2 : Nat} (h : q < 5) (h2 : q2 < 5) (hne : q2 ≠ q) : ∃ r, hx_No (23 + q2) r (rwN q) := by
  have c1 : q = 0 ∨ q = 1 ∨ q = 2 ∨ q = 3 ∨ q = 4 := by omega
  have c2 : q2 = 0 ∨ q2 = 1 ∨ q2 = 2 ∨ q2 = 3 ∨ q2 = 4 := by omega
  rcases c1 with rfl | rfl | rfl | rfl | rfl <;> rcases c2 with rfl | rfl | rfl | rfl | rfl <;> first | exact absurd rfl hne | exact ⟨_, by decide, rfl, by decide +kernel, by decide +kernel, by decide +kernel⟩
def cpS (st : hk_St) (q r r2 i j n : Nat) : hk_St := match q with
  | 3 => hk_cpL st (r + 1) (r2 + 1) i j n
  | _ => hk_cpI st (r + 1) (r2 + 1) i j n
section S2BA
variable {x c n H dn un N1 N2 M N3 : Nat} {B : Nat → Nat} {st st' : hk_St} {s s' : hk_Ms} {l : Launch} {Gd : hk_G}
set_option maxHeartbeats 2000000 in
theorem copy_row (htr : l.stackTraces = false) {q r m : Nat} (i j k : Int32) (hq : q < 5) (h1 : hk_k st r = some (23 + q, 0)) (h2 : hk_fR st (rwF q) r = some (r + 1)) (h3 : hk_k st (r + 1) = some (rwT q, m)) (h4 : m ≤ 60) (hv : q ≠ 3 → ∀ t, t < m → hk_nar (rwT q - 100) (hk_aI st (r + 1) t) = hk_aI st (r + 1) t) : ∃ y bc mx, mx ≤ 5 ∧ hk_CO "HeadReckons" 443 (23 + q) ⟨"HeadReckons$Row", "copy", "(ILHeadReckons$Row;II)V"⟩ y bc mx none 4 ∧
    (∀ to ci rr, hk_k st to = some (ci, 0) → hx_No ci rr (rwN q) → hx_MT Gd l y bc mx none 9 10300 (.ref r :: [.int i, .ref to, .int j, .int k]) st (hk_cs st 3 1010) "java/lang/ClassCastException") ∧
    ∀ r2 m2, hk_k st r2 = some (23 + q, 0) → hk_fR st (rwF q) r2 = some (r2 + 1) → hk_k st (r2 + 1) = some (rwT q, m2) → m2 ≤ 60 →
      (¬ (¬ i < 0 ∧ ¬ j < 0 ∧ ¬ k < 0 ∧ ¬ i.toInt + k.toInt > m ∧ ¬ j.toInt + k.toInt > m2) → hx_MT Gd l y bc mx none 9 10300 (.ref r :: [.int i, .ref r2, .int j, .int k]) st (hk_cs st 3 510) "java/lang/ArrayIndexOutOfBoundsException") ∧
      ∀ a b e, i = nI a → j = nI b → k = nI e → a + e ≤ m → b + e ≤ m2 → hk_Met Gd l y bc mx none 9 10300 (.ref r :: [.int i, .ref r2, .int j, .int k]) st none (cpS st q r r2 a b e) := by
  have : q = 0 ∨ q = 1 ∨ q = 2 ∨ q = 3 ∨ q = 4 := by omega
  have hm : m < 2 ^ 31 := by omega
  have cl : ∀ {a : Nat}, a ≤ 60 → (nI a).toNatClampNeg = a := fun h => nI_clamp (by omega)
  have ng : ∀ {a : Nat}, a ≤ 60 → ¬ nI a < 0 := fun h => nI_pos (by omega)
  rcases this with rfl | rfl | rfl | rfl | rfl
  · refine ⟨_, _, _, by decide, csr_copy_23, fun to ci rr g1 g2 => wc_ByteRow_copy htr h1 h2 g1 g2.1 g2.2.1 g2.2.2.1 g2.2.2.2.1 g2.2.2.2.2, fun r2 m2 g1 g2 g3 g4 => ⟨fun g5 => wt_ByteRow_copy htr h1 h2 g1 g2 h3 g3 hm (by omega) g5, fun a b e ea eb ee u1 u2 => ?_⟩⟩
    subst ea eb ee
    have := wr_ByteRow_copy (l := l) (Gd := Gd) (i := nI a) (j := nI b) (n := nI e) h1 h2 g1 g2 h3 g3 (ng (by omega)) (ng (by omega)) (ng (by omega)) (by rw [cl (by omega), cl (by omega)]; exact u1) (by rw [cl (by omega), cl (by omega)]; exact u2) (fun t ht => by rw [cl (by omega)] at ht ⊢; exact fit_b (hv (by decide) (a + t) (by omega)))
    rw [cl (by omega), cl (by omega), cl (by omega)] at this
    exact this
  · refine ⟨_, _, _, by decide, csr_copy_24, fun to ci rr g1 g2 => wc_ShortRow_copy htr h1 h2 g1 g2.1 g2.2.1 g2.2.2.1 g2.2.2.2.1 g2.2.2.2.2, fun r2 m2 g1 g2 g3 g4 => ⟨fun g5 => wt_ShortRow_copy htr h1 h2 g1 g2 h3 g3 hm (by omega) g5, fun a b e ea eb ee u1 u2 => ?_⟩⟩
    subst ea eb ee
    have := wr_ShortRow_copy (l := l) (Gd := Gd) (i := nI a) (j := nI b) (n := nI e) h1 h2 g1 g2 h3 g3 (ng (by omega)) (ng (by omega)) (ng (by omega)) (by rw [cl (by omega), cl (by omega)]; exact u1) (by rw [cl (by omega), cl (by omega)]; exact u2) (fun t ht => by rw [cl (by omega)] at ht ⊢; exact fit_s (hv (by decide) (a + t) (by omega)))
    rw [cl (by omega), cl (by omega), cl (by omega)] at this
    exact this
  · refine ⟨_, _, _, by decide, csr_copy_25, fun to ci rr g1 g2 => wc_IntRow_copy htr h1 h2 g1 g2.1 g2.2.1 g2.2.2.1 g2.2.2.2.1 g2.2.2.2.2, fun r2 m2 g1 g2 g3 g4 => ⟨fun g5 => wt_IntRow_copy htr h1 h2 g1 g2 h3 g3 hm (by omega) g5, fun a b e ea eb ee u1 u2 => ?_⟩⟩
    subst ea eb ee
    have := wr_IntRow_copy (l := l) (Gd := Gd) (i := nI a) (j := nI b) (n := nI e) h1 h2 g1 g2 h3 g3 (ng (by omega)) (ng (by omega)) (ng (by omega)) (by rw [cl (by omega), cl (by omega)]; exact u1) (by rw [cl (by omega), cl (by omega)]; exact u2) (fun t ht => rfl)
    rw [cl (by omega), cl (by omega), cl (by omega)] at this
    exact this
  · refine ⟨_, _, _, by decide, csr_copy_26, fun to ci rr g1 g2 => wc_LongRow_copy htr h1 h2 g1 g2.1 g2.2.1 g2.2.2.1 g2.2.2.2.1 g2.2.2.2.2, fun r2 m2 g1 g2 g3 g4 => ⟨fun g5 => wt_LongRow_copy htr h1 h2 g1 g2 h3 g3 hm (by omega) g5, fun a b e ea eb ee u1 u2 => ?_⟩⟩
    subst ea eb ee
    have := wr_LongRow_copy (l := l) (Gd := Gd) (i := nI a) (j := nI b) (n := nI e) h1 h2 g1 g2 h3 g3 (ng (by omega)) (ng (by omega)) (ng (by omega)) (by rw [cl (by omega), cl (by omega)]; exact u1) (by rw [cl (by omega), cl (by omega)]; exact u2)
    rw [cl (by omega), cl (by omega), cl (by omega)] at this
    exact this
  · refine ⟨_, _, _, by decide, csr_copy_27, fun to ci rr g1 g2 => wc_BooleanRow_copy htr h1 h2 g1 g2.1 g2.2.1 g2.2.2.1 g2.2.2.2.1 g2.2.2.2.2, fun r2 m2 g1 g2 g3 g4 => ⟨fun g5 => wt_BooleanRow_copy htr h1 h2 g1 g2 h3 g3 hm (by omega) g5, fun a b e ea eb ee u1 u2 => ?_⟩⟩
    subst ea eb ee
    have := wr_BooleanRow_copy (l := l) (Gd := Gd) (i := nI a) (j := nI b) (n := nI e) h1 h2 g1 g2 h3 g3 (ng (by omega)) (ng (by omega)) (ng (by omega)) (by rw [cl (by omega), cl (by omega)]; exact u1) (by rw [cl (by omega), cl (by omega)]; exact u2) (fun t ht => by rw [cl (by omega)] at ht ⊢; exact fit_z (hv (by decide) (a + t) (by omega)))
    rw [cl (by omega), cl (by omega), cl (by omega)] at this
    exact this
/-- the reference's two loops -/
theorem sh_L1 {p3 p4 : Int32} {d a e : Nat} (hd : d < 6) (h : a + e ≤ 60) {e0 : hk_Ms → Option (Int32 × hk_Ms)} : ∀ (k n : Nat) (s : hk_Ms), k ≤ e → k < n → ∃ s', m_shift_L113 (nI d) (nI a) p3 p4 (nI e) e0 n (nI (e - k)) s = e0 s' ∧ (∀ f, hm_I s' f = hm_I s f) ∧ (∀ j i, hm_A s' j i = hm_A s j i) ∧ (∀ j i, j ≠ 29 → hm_B s' j i = hm_B s j i) ∧ (∀ t, e - k ≤ t → t < e → hm_B s' 29 t = hm_B s 28 (60 * d + a + t)) ∧ ∀ t, t < e - k → hm_B s' 29 t = hm_B s 29 t := by
  intro k
  induction k with
  | zero =>
    intro n s _ hn
    obtain ⟨n, rfl⟩ : ∃ m, n = m + 1 := ⟨n - 1, by omega⟩
    exact ⟨s, by simp only [m_shift_L113, m_shift_L113b, Nat.sub_zero, Int32.le_refl, if_true], fun _ => rfl, fun _ _ => rfl, fun _ _ _ => rfl, fun i _ _ => by omega, fun _ _ => rfl⟩
  | succ k ih =>
    intro n s hk hn
    obtain ⟨n, rfl⟩ : ∃ m, n = m + 1 := ⟨n - 1, by omega⟩
    obtain ⟨s', h1, h2, h3, h4, h5, h6⟩ := ih n (hm_sB s 29 (e - (k + 1)) (hm_B s 28 (60 * d + a + (e - (k + 1))))) (by omega) (by omega)
    refine ⟨s', ?_, fun f => (h2 f).trans hmI_sB, fun j i => (h3 j i).trans hmA_sB, fun j i hj => by rw [h4 j i hj, hmB_sB, if_neg (fun q => hj q.1)], fun t q1 q2 => ?_, fun t ht => ?_⟩
    · simp only [m_shift_L113, m_shift_L113b, nI_ge (show e - (k + 1) < e by omega) (show e < 2 ^ 31 by omega), if_false, n60, nI_add, hmlB (show 60 * d + a + (e - (k + 1)) < 360 by omega) (show 360 < 2 ^ 31 by decide), hmtB (show e - (k + 1) < 60 by omega) (show 60 < 2 ^ 31 by decide), hz_ob, hz_nm, nI_1]
      rw [show e - (k + 1) + 1 = e - k by omega]
      exact h1
    · by_cases e1 : t = e - (k + 1)
      · subst e1
        rw [h6 _ (by omega), hmB_sB, if_pos ⟨rfl, rfl⟩]
      · rw [h5 t (by omega) q2, hmB_sB, if_neg (fun q => absurd q.1 (by decide))]
    · rw [h6 t (by omega), hmB_sB, if_neg (by omega)]
theorem sh_L2 {p1 p2 : Int32} {d a e : Nat} (hd : d < 6) (h : a + e ≤ 60) {e0 : hk_Ms → Option (Int32 × hk_Ms)} : ∀ (k n : Nat) (s : hk_Ms), k ≤ e → k < n → ∃ s', m_shift_L150 p1 p2 (nI d) (nI a) (nI e) e0 n (nI (e - k)) s = e0 s' ∧ (∀ f, hm_I s' f = hm_I s f) ∧ (∀ j i, hm_A s' j i = hm_A s j i) ∧ (∀ t, hm_B s' 29 t = hm_B s 29 t) ∧ (∀ t, e - k ≤ t → t < e → hm_B s' 28 (60 * d + a + t) = hm_B s 29 t) ∧ ∀ i, ¬ (60 * d + a + (e - k) ≤ i ∧ i < 60 * d + a + e) → hm_B s' 28 i = hm_B s 28 i := by
  intro k
  induction k with
  | zero =>
    intro n s _ hn
    obtain ⟨n, rfl⟩ : ∃ m, n = m + 1 := ⟨n - 1, by omega⟩
    exact ⟨s, by simp only [m_shift_L150, m_shift_L150b, Nat.sub_zero, Int32.le_refl, if_true], fun _ => rfl, fun _ _ => rfl, fun _ => rfl, fun i _ _ => by omega, fun _ _ => rfl⟩
  | succ k ih =>
    intro n s hk hn
    obtain ⟨n, rfl⟩ : ∃ m, n = m + 1 := ⟨n - 1, by omega⟩
    obtain ⟨s', h1, h2, h3, h4, h5, h6⟩ := ih n (hm_sB s 28 (60 * d + a + (e - (k + 1))) (hm_B s 29 (e - (k + 1)))) (by omega) (by omega)
    have e29 : ∀ t, hm_B (hm_sB s 28 (60 * d + a + (e - (k + 1))) (hm_B s 29 (e - (k + 1)))) 29 t = hm_B s 29 t := fun t => by rw [hmB_sB, if_neg (fun q => absurd q.1 (by decide))]
    refine ⟨s', ?_, fun f => (h2 f).trans hmI_sB, fun j i => (h3 j i).trans hmA_sB, fun t => (h4 t).trans (e29 t), fun t q1 q2 => ?_, fun i hi => ?_⟩
    · simp only [m_shift_L150, m_shift_L150b, nI_ge (show e - (k + 1) < e by omega) (show e < 2 ^ 31 by omega), if_false, n60, nI_add, hmlB (show e - (k + 1) < 60 by omega) (show 60 < 2 ^ 31 by decide), hmtB (show 60 * d + a + (e - (k + 1)) < 360 by omega) (show 360 < 2 ^ 31 by decide), hz_ob, hz_nm, nI_1]
      rw [show e - (k + 1) + 1 = e - k by omega]
      exact h1
    · by_cases e1 : t = e - (k + 1)
      · subst e1
        rw [h6 _ (by omega), hmB_sB, if_pos ⟨rfl, rfl⟩]
      · rw [h5 t (by omega) q2, e29]
    · rw [h6 i (by omega), hmB_sB, if_neg (by omega)]
theorem cpS_3 {q r r2 a b e : Nat} (h : q ≠ 3) (hq : q < 5) : cpS st q r r2 a b e = hk_cpI st (r + 1) (r2 + 1) a b e := by
  have : q = 0 ∨ q = 1 ∨ q = 2 ∨ q = 3 ∨ q = 4 := by omega
  rcases this with rfl | rfl | rfl | rfl | rfl <;> first | rfl | exact absurd rfl h
theorem aI_cpI (a b sp dp e y t : Nat) : hk_aI (hk_cpI st a b sp dp e) y t = if y = b ∧ dp ≤ t ∧ t < dp + e then hk_aI st a (sp + (t - dp)) else hk_aI st y t := by
  show (fun c => if c = b then va_cpy (hk_aI st a) (hk_aI st b) sp dp e else hk_aI st c) y t = _
  by_cases h : y = b
  · subst h
    show (if y = y then va_cpy (hk_aI st a) (hk_aI st y) sp dp e else hk_aI st y) t = _
    rw [if_pos rfl, va_cpy]
    by_cases h2 : dp ≤ t ∧ t < dp + e
    · rw [if_pos h2, if_pos ⟨rfl, h2⟩]
    · rw [if_neg h2, if_neg (fun q => h2 q.2)]
  · show (if y = b then va_cpy (hk_aI st a) (hk_aI st b) sp dp e else hk_aI st y) t = _
    rw [if_neg h, if_neg (fun q => h q.1)]
theorem aL_cpL (a b sp dp e y t : Nat) : hk_aL (hk_cpL st a b sp dp e) y t = if y = b ∧ dp ≤ t ∧ t < dp + e then hk_aL st a (sp + (t - dp)) else hk_aL st y t := by
  show (fun c => if c = b then va_cpy (hk_aL st a) (hk_aL st b) sp dp e else hk_aL st c) y t = _
  by_cases h : y = b
  · subst h
    show (if y = y then va_cpy (hk_aL st a) (hk_aL st y) sp dp e else hk_aL st y) t = _
    rw [if_pos rfl, va_cpy]
    by_cases h2 : dp ≤ t ∧ t < dp + e
    · rw [if_pos h2, if_pos ⟨rfl, h2⟩]
    · rw [if_neg h2, if_neg (fun q => h2 q.2)]
  · show (if y = b then va_cpy (hk_aL st a) (hk_aL st b) sp dp e else hk_aL st y) t = _
    rw [if_neg h, if_neg (fun q => h q.1)]
theorem RR.cpy (R : RR x c n B H dn un N1 N2 M N3 st s) {d d2 r r2 q m m2 a b e : Nat} (hd : d < 6) (hd2 : d2 < 6) (g3 : q < 5) (hv : ∀ i, i < m → rwV st q r i (hm_B s 28 (60 * d + i)))
    (g1 : hk_aR st (x + 21) d2 = some r2) (g2 : x + 53 ≤ r2) (g4 : hk_k st r2 = some (23 + q, 0)) (g5 : hk_fR st (rwF q) r2 = some (r2 + 1)) (g6 : hk_k st (r2 + 1) = some (rwT q, m2)) (g7 : m2 ≤ 60) (hv2 : ∀ i, i < m2 → rwV st q r2 i (hm_B s 28 (60 * d2 + i))) (ha : a + e ≤ m) (hb : b + e ≤ m2) (hm : m ≤ 60)
    (m1 : ∀ f, hm_I s' f = hm_I s f) (m3 : ∀ j i, hm_A s' j i = hm_A s j i) (m5 : ∀ t, t < e → hm_B s' 28 (60 * d2 + b + t) = hm_B s 28 (60 * d + a + t)) (m6 : ∀ i, ¬ (60 * d2 + b ≤ i ∧ i < 60 * d2 + b + e) → hm_B s' 28 i = hm_B s 28 i) :
    RR x c n B H dn un N1 N2 M N3 (cpS st q r r2 a b e) s' ∧ Mk x st (cpS st q r r2 a b e) := by
  have K := R.1
  have G : FrM (fun _ => False) (fun _ _ => False) (fun i => 60 * d2 ≤ i ∧ i < 60 * d2 + 60) s s' := ⟨fun f _ => m1 f, fun j i _ => m3 j i, fun i hi => m6 i (by omega)⟩
  by_cases h3 : q = 3
  · subst h3
    have F : Fr no2 no2 no2 (fun a => a = r2 + 1) (fun a => a = r2 + 1) no1 st (hk_cpL st (r + 1) (r2 + 1) a b e) := ⟨Nat.le_refl _, fun _ _ => rfl, fun _ _ _ _ => rfl, fun _ _ _ _ => rfl, fun _ _ _ _ => rfl, fun _ _ _ _ => rfl, fun y i _ hy => by rw [aL_cpL, if_neg (fun q => hy q.1)], fun _ _ _ _ => rfl⟩
    refine R.rwc (st1 := hk_cpL st (r + 1) (r2 + 1) a b e) hd2 g1 g2 g3 g4 g5 g6 g7 F K.wk K.li G (fun i hi => ?_) rfl rfl
    have u2 := hv2 i hi
    unfold rwV at u2 ⊢
    rw [if_pos rfl] at u2 ⊢
    rw [aL_cpL]
    by_cases h : b ≤ i ∧ i < b + e
    · have u1 := hv (a + (i - b)) (by omega)
      unfold rwV at u1
      rw [if_pos rfl] at u1
      rw [if_pos ⟨rfl, h⟩, u1]
      have := m5 (i - b) (by omega)
      rw [show 60 * d2 + b + (i - b) = 60 * d2 + i by omega, show 60 * d + a + (i - b) = 60 * d + (a + (i - b)) by omega] at this
      exact this.symm
    · rw [if_neg (fun q => h q.2), u2, m6 _ (by omega)]
  · rw [cpS_3 h3 g3]
    have F : Fr no2 no2 no2 (fun a => a = r2 + 1) (fun a => a = r2 + 1) no1 st (hk_cpI st (r + 1) (r2 + 1) a b e) := ⟨Nat.le_refl _, fun _ _ => rfl, fun _ _ _ _ => rfl, fun _ _ _ _ => rfl, fun _ _ _ _ => rfl, fun y i _ hy => by rw [aI_cpI, if_neg (fun q => hy q.1)], fun _ _ _ _ => rfl, fun _ _ _ _ => rfl⟩
    refine R.rwc (st1 := hk_cpI st (r + 1) (r2 + 1) a b e) hd2 g1 g2 g3 g4 g5 g6 g7 F K.wk K.li G (fun i hi => ?_) rfl rfl
    have u2 := hv2 i hi
    unfold rwV at u2 ⊢
    rw [if_neg h3] at u2 ⊢
    rw [aI_cpI]
    by_cases h : b ≤ i ∧ i < b + e
    · have u1 := hv (a + (i - b)) (by omega)
      unfold rwV at u1
      rw [if_neg h3] at u1
      rw [if_pos ⟨rfl, h⟩]
      have := m5 (i - b) (by omega)
      rw [show 60 * d2 + b + (i - b) = 60 * d2 + i by omega, show 60 * d + a + (i - b) = 60 * d + (a + (i - b)) by omega] at this
      rw [this]
      exact u1
    · rw [if_neg (fun q => h q.2), m6 _ (by omega)]
      exact u2
set_option maxHeartbeats 1000000 in
theorem apx_shift (htr : l.stackTraces = false) (p i p2 j k : Int32) (hA : RA x c st s) : ∃ r fin s', hx_MG Gd l yX0_shift (wsW_ yX0_shift cX0_shift 7 (some .int) hx_t_shift) 12 10400 [.ref x, .int p, .int i, .int p2, .int j, .int k] st (some (.int r)) fin ∧ m_shift p i p2 j k s = some (r, s') ∧
    ∀ z, hk_nx fin ≤ z → RA x (c + 140) (hk_bz fin z) s' ∧ Mk x st (hk_bz fin z) := by
  obtain ⟨n, B, H, dn, un, N1, N2, M, N3, R⟩ := hA
  have K := R.1
  have hV := R.2.2.2.2.2.2.2.2.2.2.1
  have hN := R.2.2.2.2.2.2.2.2.1.2.2.1
  rcases shelf_cases p with ⟨h1, h2⟩ | ⟨d, hd, hp, h1, h2⟩
  · exact ⟨_, _, s, w0_shift htr h1, by simp only [m_shift, h2, if_true], fun z hz => R.still hz⟩
  rcases shelf_cases p2 with ⟨h3, h4⟩ | ⟨d2, hd2, hp2, h3, h4⟩
  · exact ⟨_, _, s, w1_shift htr h1 h3, by simp only [m_shift, h2, h4, if_true, if_false], fun z hz => R.still hz⟩
  have e2 := sh2 K hd
  have e3 := sh2 K hd2
  rw [← hp] at e2
  rw [← hp2] at e3
  have A : hm_lI s 26 6 p = some (hm_A s 26 d) := by rw [hp]; exact A26 hd
  have A' : hm_lI s 26 6 p2 = some (hm_A s 26 d2) := by rw [hp2]; exact A26 hd2
  -- what stands on a shelf is null or an object
  rcases hV.1 d hd with ⟨q1, q2⟩ | q
  · rw [q1] at e2
    exact ⟨_, _, s, w2_shift htr h1 h3 (sh1 K) e2, by simp only [m_shift, h2, h4, if_false, A, q2, hz_ob, show (-1 : Int32) < 0 by decide, if_true], fun z hz => R.still hz⟩
  have lo : ∃ w y, hk_aR st (x + 21) d = some w ∧ hm_A s 26 d = nI y ∧ y < 60 := by
    rcases q with ⟨b, w, kd, q1, q2, q3, q4, q5, q6⟩ | ⟨r, q, m, q1, q2, q3, q4, q5, q6, q7, q8, q9, qA⟩
    · exact ⟨w, b, q2, q4, by omega⟩
    · exact ⟨r, 50 + q, q1, q8, by omega⟩
  obtain ⟨w, y, w1, w2, w3⟩ := lo
  have e2' := e2
  rw [w1] at e2'
  have ny : ¬ hm_A s 26 d < 0 := by rw [w2]; exact nI_pos (by omega)
  rcases hV.1 d2 hd2 with ⟨p1, p2'⟩ | q'
  · rw [p1] at e3
    exact ⟨_, _, s, w3_shift htr h1 h3 (sh1 K) e2' e3, by simp only [m_shift, h2, h4, if_false, A, A', ny, p2', hz_ob, show ¬ (0 : Int32) ≤ -1 by decide], fun z hz => R.still hz⟩
  have lo2 : ∃ w y, hk_aR st (x + 21) d2 = some w ∧ hm_A s 26 d2 = nI y ∧ y < 60 := by
    rcases q' with ⟨b, w, kd, q1, q2, q3, q4, q5, q6⟩ | ⟨r, q, m, q1, q2, q3, q4, q5, q6, q7, q8, q9, qA⟩
    · exact ⟨w, b, q2, q4, by omega⟩
    · exact ⟨r, 50 + q, q1, q8, by omega⟩
  obtain ⟨v, y2, v1, v2, v3⟩ := lo2
  have e3' := e3
  rw [v1] at e3'
  have ny2 : (0 : Int32) ≤ hm_A s 26 d2 := by rw [v2]; exact nI_pos' (by omega)
  rcases q with ⟨b, w', kd, q1, q2, q3, q4, q5, q6⟩ | ⟨r, q, m, q1, q2, q3, q4, q5, q6, q7, q8, q9, qA⟩
  · rw [q2] at e2
    obtain ⟨rr, no, -⟩ := no_way q6
    have h50 : nI b < (50 : Int32) := nI_lt (b := 50) (by omega) (by decide)
    have nb : ¬ nI b < 0 := nI_pos (by omega)
    exact ⟨_, _, s, w4_shift htr h1 h3 (sh1 K) e2 e3' q5 no, by simp only [m_shift, h2, h4, if_false, A, A', nb, ny2, if_true, hz_ob, q4, h50], fun z hz => R.gone (by decide) (by decide) hz⟩
  rw [q1] at e2
  obtain ⟨rr, ye⟩ := ye_row q3
  have h50 : ¬ nI (50 + q) < (50 : Int32) := nI_nlt (b := 50) (by omega) (by omega)
  have n0 : ¬ nI (50 + q) < 0 := nI_pos (by omega)
  rcases q' with ⟨b, v', kd, p1, p2', p3, p4, p5, p6⟩ | ⟨r2, q2', m2, p1, p2', p3, p4, p5, p6, p7, p8, p9, pA⟩
  · rw [p2'] at e3
    obtain ⟨rr2, no, -⟩ := no_way p6
    have ne : ¬ nI (50 + q) = nI b := fun e => by have := (nI_eq (by omega) (by omega)).mp e; omega
    exact ⟨_, _, s, w5_shift htr h1 h3 (sh1 K) e2 e3 q4 ye p5 no, by simp only [m_shift, h2, h4, if_false, A, A', q8, n0, p4, nI_pos' (show b < 2 ^ 31 by omega), if_true, hz_ob, h50, ne], fun z hz => R.gone (by decide) (by decide) hz⟩
  rw [p1] at e3
  obtain ⟨rr2, ye2⟩ := ye_row p3
  obtain ⟨yy, bc, mx, hmx, cs, hC, hD⟩ := copy_row (Gd := Gd) htr i j k q3 q4 q5 q6 q7 (fun h t ht => by
    have := qA t ht
    unfold rwV at this
    rw [if_neg h] at this
    exact this.1)
  have p0 : (0 : Int32) ≤ nI (50 + q2') := nI_pos' (by omega)
  by_cases hqq : q2' = q
  · subst hqq
    obtain ⟨hE, hF⟩ := hD r2 m2 p4 p5 p6 p7
    have A7 : hm_lI s 27 6 p = some (nI m) := by rw [hp, A27 hd, q9]
    have A8 : hm_lI s 27 6 p2 = some (nI m2) := by rw [hp2, A27 hd2, p9]
    have bad : ¬ (¬ i < 0 ∧ ¬ j < 0 ∧ ¬ k < 0 ∧ ¬ i.toInt + k.toInt > m ∧ ¬ j.toInt + k.toInt > m2) → m_shift p i p2 j k s = some (-13, s) → ∃ r fin s', hx_MG Gd l yX0_shift (wsW_ yX0_shift cX0_shift 7 (some .int) hx_t_shift) 12 10400 [.ref x, .int p, .int i, .int p2, .int j, .int k] st (some (.int r)) fin ∧ m_shift p i p2 j k s = some (r, s') ∧ ∀ z, hk_nx fin ≤ z → RA x (c + 140) (hk_bz fin z) s' ∧ Mk x st (hk_bz fin z) := fun ho hs =>
      ⟨_, _, s, w7_shift htr h1 h3 (sh1 K) e2 e3 q4 ye p4 ye2 hmx cs (hE ho), hs, fun z hz => R.gone (by decide) (by decide) hz⟩
    have base : m_shift p i p2 j k s = (if k < 0 then some ((-13 : Int32), s) else if i < 0 then some ((-13 : Int32), s) else if j < 0 then some ((-13 : Int32), s) else if nI m - k < i then some ((-13 : Int32), s) else if j ≤ nI m2 - k then m_shift_L113 p i p2 j k (fun s21 => m_shift_L150 p i p2 j k (fun s28 => some (k, s28)) hk_F 0 s21) hk_F 0 s else some ((-13 : Int32), s)) := by
      simp only [m_shift, h2, h4, if_false, A, A', q8, n0, p8, p0, if_true, hz_ob, h50, A7, A8]
    by_cases k0 : k < 0
    · exact bad (fun h => h.2.2.1 k0) (by rw [base, if_pos k0])
    by_cases i0 : i < 0
    · exact bad (fun h => h.1 i0) (by rw [base, if_neg k0, if_pos i0])
    by_cases j0 : j < 0
    · exact bad (fun h => h.2.1 j0) (by rw [base, if_neg k0, if_neg i0, if_pos j0])
    obtain ⟨e, he, rfl⟩ := nI_of k0
    obtain ⟨a, ha, rfl⟩ := nI_of i0
    obtain ⟨b, hb, rfl⟩ := nI_of j0
    have sub : ∀ m, m ≤ 60 → (nI m - nI e).toInt = (m : Int) - e := fun m hm => by
      rw [Int32.toInt_sub, nI_toInt (by omega), nI_toInt he]
      exact Int.bmod_eq_of_le (by omega) (by omega)
    have c1 : nI m - nI e < nI a ↔ m < a + e := by rw [Int32.lt_iff_toInt_lt, sub m q7, nI_toInt ha]; omega
    have c2 : nI b ≤ nI m2 - nI e ↔ b + e ≤ m2 := by rw [Int32.le_iff_toInt_le, sub m2 p7, nI_toInt hb]; omega
    by_cases u1 : m < a + e
    · exact bad (fun h => h.2.2.2.1 (by rw [nI_toInt ha, nI_toInt he]; omega)) (by rw [base, if_neg k0, if_neg i0, if_neg j0, if_pos (c1.mpr u1)])
    by_cases u2 : b + e ≤ m2
    · have hM := hF a b e rfl rfl rfl (by omega) u2
      obtain ⟨s1, l1, l2, l3, l4, l5, l6⟩ := sh_L1 (p3 := p2) (p4 := nI b) hd (show a + e ≤ 60 by omega) (e0 := fun s21 : hk_Ms => m_shift_L150 (nI d) (nI a) p2 (nI b) (nI e) (fun s28 => some (nI e, s28)) hk_F 0 s21) e hk_F s (Nat.le_refl _) (by have := hk_F_big; omega)
      obtain ⟨s2, t1, t2, t3, t4, t5, t6⟩ := sh_L2 (p1 := nI d) (p2 := nI a) hd2 (show b + e ≤ 60 by omega) (e0 := fun s28 : hk_Ms => some (nI e, s28)) e hk_F s1 (Nat.le_refl _) (by have := hk_F_big; omega)
      obtain ⟨R2, M2⟩ := R.cpy (s' := s2) (r := r) (a := a) (b := b) (e := e) hd hd2 q3 qA p1 p2' p4 p5 p6 p7 pA (by omega) u2 q7 (fun f => (t2 f).trans (l2 f)) (fun j i => (t3 j i).trans (l3 j i)) (fun t ht => by rw [t5 t (by omega) ht, l5 t (by omega) ht]) (fun i hi => by rw [t6 i (by omega), l4 28 i (by decide)])
      refine ⟨_, _, s2, w8_shift htr h1 h3 (sh1 K) e2 e3 q4 ye p4 ye2 hmx (Nat.le_refl _) (Nat.le_refl _) cs hM, ?_, fun z hz => RA.tail R2 M2 hz⟩
      rw [base, if_neg k0, if_neg i0, if_neg j0, if_neg (fun q => u1 (c1.mp q)), if_pos (c2.mpr u2)]
      rw [Nat.sub_self] at l1 t1
      subst hp hp2
      exact l1.trans t1
    · exact bad (fun h => h.2.2.2.2 (by rw [nI_toInt hb, nI_toInt he]; omega)) (by rw [base, if_neg k0, if_neg i0, if_neg j0, if_neg (fun q => u1 (c1.mp q)), if_neg (fun q => u2 (c2.mp q))])
  · obtain ⟨r3, no⟩ := no_rr q3 p3 hqq
    have ne : ¬ nI (50 + q) = nI (50 + q2') := fun e => by have := (nI_eq (by omega) (by omega)).mp e; omega
    exact ⟨_, _, s, w6_shift htr h1 h3 (sh1 K) e2 e3 q4 ye p4 ye2 hmx cs (hC r2 _ _ p4 no), by simp only [m_shift, h2, h4, if_false, A, A', q8, n0, p8, p0, if_true, hz_ob, h50, ne], fun z hz => R.gone (by decide) (by decide) hz⟩
end S2BA
