set_option maxRecDepth 100000
/-! ===== STAGE 2: the methods that throw: element, put, taken ===== -/
theorem n60 (d k : Nat) : (60 : Int32) * nI d + nI k = nI (60 * d + k) := by rw [show (60 : Int32) = nI 60 from rfl, pk_mul, nI_add]
theorem row_idx (i : Int32) {n : Nat} (hn : n ≤ 60) : (¬ hk_in i n = true ∧ (i < 0 ∨ (¬ i < 0 ∧ nI n ≤ i))) ∨ ∃ k, k < n ∧ i = nI k := by
  by_cases h0 : i < 0
  · exact Or.inl ⟨by simp [hk_in, h0], Or.inl h0⟩
  · obtain ⟨k, hk, rfl⟩ := nI_of h0
    by_cases h1 : k < n
    · exact Or.inr ⟨k, h1, rfl⟩
    · exact Or.inl ⟨by simp only [hk_in, nI_clamp hk, Bool.and_eq_true, decide_eq_true_eq]; omega, Or.inr ⟨h0, nI_le (by omega) hk⟩⟩
theorem shelf_cases (p : Int32) : (x_isShelf p = 0 ∧ m_isShelf p = 0) ∨ ∃ d, d < 6 ∧ p = nI d ∧ ¬ x_isShelf p = 0 ∧ ¬ m_isShelf p = 0 := by
  have wv : m_isShelf p = x_in p 0 5 := wi (b := 0) (c := 5) (by decide) (by decide)
  have wx : x_isShelf p = x_in p 0 5 := rfl
  rw [wv, wx]
  rcases in_cases p 0 5 (by decide) (by decide) with ⟨h1, -⟩ | ⟨h1, d, -, hd, rfl⟩
  · exact Or.inl ⟨h1, h1⟩
  · have h1 : x_in (nI d) 0 5 = 1 := h1
    exact Or.inr ⟨d, by omega, rfl, by rw [h1]; decide, by rw [h1]; decide⟩
section S2AY
variable {x c n H dn un N1 N2 M N3 : Nat} {B : Nat → Nat} {st st' : hk_St} {s s' : hk_Ms} {l : Launch} {Gd : hk_G}
theorem sh1 (K : RK x st) : hk_gR [0] 22 st x = some (some (x + 21)) := (gR_b (bf_k K.x0)).trans (congrArg some K.r22)
theorem sh2 (K : RK x st) {d : Nat} (hd : d < 6) : hk_lR 10 st (x + 21) (nI d) = some (hk_aR st (x + 21) d) := lR_k (ty := 10) K.k21 hd (by decide)
theorem A26 {d : Nat} (hd : d < 6) : hm_lI s 26 6 (nI d) = some (hm_A s 26 d) := hml hd (by decide)
theorem A27 {d : Nat} (hd : d < 6) : hm_lI s 27 6 (nI d) = some (hm_A s 27 d) := hml hd (by decide)
theorem refu {p i : Int32} {d : Nat} (hd : d < 6) (hp : p = nI d) (h0 : ¬ m_isShelf p = 0) : (hm_A s 26 d = -1 → m_refusal p i s = some (-11)) ∧ (∀ b, b < 50 → hm_A s 26 d = nI b → m_refusal p i s = some (-12)) ∧
    ∀ q n, q < 5 → n ≤ 60 → hm_A s 26 d = nI (50 + q) → hm_A s 27 d = nI n → (¬ hk_in i n = true ∧ (i < 0 ∨ (¬ i < 0 ∧ nI n ≤ i)) → m_refusal p i s = some (-13)) ∧ ∀ k, k < n → i = nI k → m_refusal p i s = some 0 := by
  subst hp
  refine ⟨fun h => ?_, fun b hb h => ?_, fun q n hq hn h h' => ⟨fun ⟨_, hi⟩ => ?_, fun k hk e => ?_⟩⟩
  · simp only [m_refusal, h0, if_false, A26 hd, h, hz_ob, show ¬ (0 : Int32) ≤ -1 by decide]
  · simp only [m_refusal, h0, if_false, A26 hd, h, hz_ob, nI_pos' (show b < 2 ^ 31 by omega), if_true, show ¬ (50 : Int32) ≤ nI b from nI_ge hb (by decide)]
  · have h50 : (50 : Int32) ≤ nI (50 + q) := nI_le (a := 50) (b := 50 + q) (by omega) (by omega)
    rcases hi with hi | ⟨hi, hj⟩
    · simp only [m_refusal, h0, if_false, A26 hd, h, hz_ob, nI_pos' (show 50 + q < 2 ^ 31 by omega), if_true, h50, hi]
    · simp only [m_refusal, h0, if_false, A26 hd, A27 hd, h, h', hz_ob, nI_pos' (show 50 + q < 2 ^ 31 by omega), if_true, h50, hi, hj]
  · subst e
    have h50 : (50 : Int32) ≤ nI (50 + q) := nI_le (a := 50) (b := 50 + q) (by omega) (by omega)
    simp only [m_refusal, h0, if_false, A26 hd, A27 hd, h, h', hz_ob, nI_pos' (show 50 + q < 2 ^ 31 by omega), if_true, h50, nI_pos (show k < 2 ^ 31 by omega), nI_ge hk (show n < 2 ^ 31 by omega)]
theorem apx_element (htr : l.stackTraces = false) (p i : Int32) (hA : RA x c st s) : ∃ r fin, hx_MG Gd l yX0_element (wsW_ yX0_element cX0_element 4 (some .long) hx_t_element) 12 10400 [.ref x, .int p, .int i] st (some (.long r)) fin ∧ m_element p i s = some r ∧
    ∀ z, hk_nx fin ≤ z → RA x (c + 140) (hk_bz fin z) s ∧ Mk x st (hk_bz fin z) := by
  obtain ⟨n, B, H, dn, un, N1, N2, M, N3, R⟩ := hA
  have K := R.1
  have hV := R.2.2.2.2.2.2.2.2.2.2.1
  have hN := R.2.2.2.2.2.2.2.2.1.2.2.1
  rcases shelf_cases p with ⟨h1, h2⟩ | ⟨d, hd, hp, h1, h2⟩
  · exact ⟨_, _, w0_element htr h1, by simp only [m_element, m_refusal, h2, if_true, hz_ob, show ¬ (-1 : Int32) = 0 by decide, if_false], fun z hz => R.still hz⟩
  obtain ⟨f1, f2, f3⟩ := refu (s := s) (i := i) hd hp h2
  have e2 := sh2 K hd
  rw [← hp] at e2
  rcases hV.1 d hd with ⟨q1, q2⟩ | ⟨b, v, kd, q1, q2, q3, q4, q5, q6⟩ | ⟨r, q, m, q1, q2, q3, q4, q5, q6, q7, q8, q9, qA⟩
  · rw [q1] at e2
    exact ⟨_, _, w1_element htr h1 (sh1 K) e2, by simp only [m_element, f1 q2, hz_ob, show ¬ (-11 : Int32) = 0 by decide, if_false], fun z hz => R.gone (by decide) (by decide) hz⟩
  · rw [q2] at e2
    obtain ⟨rr, no, -⟩ := no_way q6
    exact ⟨_, _, w2_element htr h1 (sh1 K) e2 q5 no, by simp only [m_element, f2 b (by omega) q4, hz_ob, show ¬ (-12 : Int32) = 0 by decide, if_false], fun z hz => R.gone (by decide) (by decide) hz⟩
  · rw [q1] at e2
    obtain ⟨rr, ye⟩ := ye_row q3
    obtain ⟨y, bc, mx, hmx, cs, hT, hN⟩ := at_row (Gd := Gd) htr q3 q4 q5 q6 q7
    obtain ⟨g1, g2⟩ := f3 q m q3 q7 q8 q9
    rcases row_idx i q7 with hi | ⟨k, hk, rfl⟩
    · exact ⟨_, _, w3_element htr h1 (sh1 K) e2 q4 ye hmx cs (hT i (hx_nin hi.1)), by simp only [m_element, g1 hi, hz_ob, show ¬ (-13 : Int32) = 0 by decide, if_false], fun z hz => R.gone (by decide) (by decide) hz⟩
    · refine ⟨_, _, w4_element htr h1 (sh1 K) e2 q4 ye hmx (Nat.zero_le _) (Nat.zero_le _) cs (hN k hk), ?_, fun z hz => R.still hz⟩
      simp only [m_element, g2 k hk rfl, hz_ob, if_true]
      subst hp
      rw [n60, hmlB (show 60 * d + k < 360 by omega) (by decide), hz_ob, rdV_eq q3 (qA k hk)]
theorem asort {q : Nat} (hq : q < 5) (v : Int64) : m_asSort (nI (50 + q) - 50) v = if q = 3 then v else (wrI q v).toInt64 := by
  have : q = 0 ∨ q = 1 ∨ q = 2 ∨ q = 3 ∨ q = 4 := by omega
  rcases this with rfl | rfl | rfl | rfl | rfl
  · rfl
  · rfl
  · rfl
  · rfl
  · show (if v = 0 then (0 : Int64) else 1) = (if v = 0 then (0 : Int32) else 1).toInt64
    split <;> rfl
theorem wr_nar {q : Nat} (hq : q < 5) (h3 : q ≠ 3) (v : Int64) : hk_nar (rwT q - 100) (wrI q v) = wrI q v := by
  have : q = 0 ∨ q = 1 ∨ q = 2 ∨ q = 3 ∨ q = 4 := by omega
  rcases this with rfl | rfl | rfl | rfl | rfl
  · show v.toInt32.toInt8.toInt32.toInt8.toInt32 = _
    rw [Int8.toInt8_toInt32]; rfl
  · show v.toInt32.toInt16.toInt32.toInt16.toInt32 = _
    rw [Int16.toInt16_toInt32]; rfl
  · rfl
  · exact absurd rfl h3
  · show (if v = 0 then (0 : Int32) else 1) &&& 1 = (if v = 0 then (0 : Int32) else 1)
    split <;> rfl
theorem wrS_3 {q r k : Nat} {v : Int64} (h : q ≠ 3) (hq : q < 5) : wrS st q r k v = hk_saI st (r + 1) k (wrI q v) := by
  have : q = 0 ∨ q = 1 ∨ q = 2 ∨ q = 3 ∨ q = 4 := by omega
  rcases this with rfl | rfl | rfl | rfl | rfl <;> first | rfl | exact absurd rfl h
/-- one item written -/
theorem RR.one (R : RR x c n B H dn un N1 N2 M N3 st s) {d r q m k : Nat} {v : Int64} (hd : d < 6) (g1 : hk_aR st (x + 21) d = some r) (g2 : x + 53 ≤ r) (g3 : q < 5) (g4 : hk_k st r = some (23 + q, 0)) (g5 : hk_fR st (rwF q) r = some (r + 1)) (g6 : hk_k st (r + 1) = some (rwT q, m)) (g7 : m ≤ 60) (hk : k < m)
    (hv : ∀ i, i < m → rwV st q r i (hm_B s 28 (60 * d + i))) : RR x c n B H dn un N1 N2 M N3 (wrS st q r k v) (hm_sB s 28 (60 * d + k) (m_asSort (nI (50 + q) - 50) v)) ∧ Mk x st (wrS st q r k v) := by
  have G : FrM (fun _ => False) (fun _ _ => False) (fun i => 60 * d ≤ i ∧ i < 60 * d + 60) s (hm_sB s 28 (60 * d + k) (m_asSort (nI (50 + q) - 50) v)) := ⟨fun f _ => hmI_sB, fun j i _ => hmA_sB, fun i hi => by rw [hmB_sB, if_neg (by omega)]⟩
  have K := R.1
  by_cases h3 : q = 3
  · subst h3
    have F : Fr no2 no2 no2 (fun a => a = r + 1) (fun a => a = r + 1) no1 st (hk_saL st (r + 1) k v) := Fr.saL Fr.rf (fun _ => rfl)
    refine R.rwc (st1 := hk_saL st (r + 1) k v) hd g1 g2 g3 g4 g5 g6 g7 F K.wk K.li G (fun i hi => ?_) rfl rfl
    have := hv i hi
    unfold rwV at this ⊢
    rw [if_pos rfl] at this ⊢
    rw [aL_saL, hmB_sB]
    by_cases e : i = k
    · subst e
      rw [if_pos ⟨rfl, rfl⟩, if_pos ⟨rfl, rfl⟩, asort g3, if_pos rfl]
    · rw [if_neg (fun q => e q.2), if_neg (by omega)]
      exact this
  · rw [wrS_3 h3 g3]
    have F : Fr no2 no2 no2 (fun a => a = r + 1) (fun a => a = r + 1) no1 st (hk_saI st (r + 1) k (wrI q v)) := Fr.saI Fr.rf (fun _ => rfl)
    refine R.rwc (st1 := hk_saI st (r + 1) k (wrI q v)) hd g1 g2 g3 g4 g5 g6 g7 F K.wk K.li G (fun i hi => ?_) rfl rfl
    have := hv i hi
    unfold rwV at this ⊢
    rw [if_neg h3] at this ⊢
    rw [aI_saI, hmB_sB]
    by_cases e : i = k
    · subst e
      rw [if_pos ⟨rfl, rfl⟩, if_pos ⟨rfl, rfl⟩, asort g3, if_neg h3]
      exact ⟨wr_nar g3 h3 v, rfl⟩
    · rw [if_neg (fun q => e q.2), if_neg (by omega)]
      exact this
theorem RA.tail {st1 : hk_St} (R : RR x c n B H dn un N1 N2 M N3 st1 s') (hM : Mk x st st1) {z : Nat} (hz : hk_nx st1 ≤ z) : RA x (c + 140) (hk_bz st1 z) s' ∧ Mk x st (hk_bz st1 z) := ⟨(R.still hz).1, hM.trans (R.still hz).2⟩
theorem apx_put (htr : l.stackTraces = false) (p i : Int32) (v : Int64) (hA : RA x c st s) : ∃ r fin s', hx_MG Gd l yX0_put (wsW_ yX0_put cX0_put 6 (some .int) hx_t_put) 12 10400 [.ref x, .int p, .int i, .long v] st (some (.int r)) fin ∧ m_put p i v s = some (r, s') ∧
    ∀ z, hk_nx fin ≤ z → RA x (c + 140) (hk_bz fin z) s' ∧ Mk x st (hk_bz fin z) := by
  obtain ⟨n, B, H, dn, un, N1, N2, M, N3, R⟩ := hA
  have K := R.1
  have hV := R.2.2.2.2.2.2.2.2.2.2.1
  have hN := R.2.2.2.2.2.2.2.2.1.2.2.1
  rcases shelf_cases p with ⟨h1, h2⟩ | ⟨d, hd, hp, h1, h2⟩
  · exact ⟨_, _, s, w0_put htr h1, by simp only [m_put, hz_nm, m_refusal, h2, if_true, hz_ob, show ¬ (-1 : Int32) = 0 by decide, if_false], fun z hz => R.still hz⟩
  obtain ⟨f1, f2, f3⟩ := refu (s := s) (i := i) hd hp h2
  have e2 := sh2 K hd
  rw [← hp] at e2
  rcases hV.1 d hd with ⟨q1, q2⟩ | ⟨b, w, kd, q1, q2, q3, q4, q5, q6⟩ | ⟨r, q, m, q1, q2, q3, q4, q5, q6, q7, q8, q9, qA⟩
  · rw [q1] at e2
    exact ⟨_, _, s, w1_put htr h1 (sh1 K) e2, by simp only [m_put, hz_nm, f1 q2, hz_ob, show ¬ (-11 : Int32) = 0 by decide, if_false], fun z hz => R.gone (by decide) (by decide) hz⟩
  · rw [q2] at e2
    obtain ⟨rr, no, -⟩ := no_way q6
    exact ⟨_, _, s, w2_put htr h1 (sh1 K) e2 q5 no, by simp only [m_put, hz_nm, f2 b (by omega) q4, hz_ob, show ¬ (-12 : Int32) = 0 by decide, if_false], fun z hz => R.gone (by decide) (by decide) hz⟩
  · rw [q1] at e2
    obtain ⟨rr, ye⟩ := ye_row q3
    obtain ⟨y, bc, mx, hmx, cs, hT, hN⟩ := put_row (Gd := Gd) htr v q3 q4 q5 q6 q7
    obtain ⟨g1, g2⟩ := f3 q m q3 q7 q8 q9
    rcases row_idx i q7 with hi | ⟨k, hk, rfl⟩
    · exact ⟨_, _, s, w3_put htr h1 (sh1 K) e2 q4 ye hmx cs (hT i (hx_nin hi.1)), by simp only [m_put, hz_nm, g1 hi, hz_ob, show ¬ (-13 : Int32) = 0 by decide, if_false], fun z hz => R.gone (by decide) (by decide) hz⟩
    · obtain ⟨R2, M2⟩ := R.one (v := v) hd q1 q2 q3 q4 q5 q6 q7 hk qA
      refine ⟨_, _, hm_sB s 28 (60 * d + k) (m_asSort (nI (50 + q) - 50) v), w4_put htr h1 (sh1 K) e2 q4 ye hmx (Nat.zero_le _) (Nat.zero_le _) cs (hN k hk), ?_, fun z hz => RA.tail R2 M2 hz⟩
      simp only [m_put, hz_nm, g2 k hk rfl, hz_ob, if_true]
      subst hp
      rw [A26 hd, hz_ob, q8, n60, hmtB (show 60 * d + k < 360 by omega) (by decide), hz_ob]
end S2AY
