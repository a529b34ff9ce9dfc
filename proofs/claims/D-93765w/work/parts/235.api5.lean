set_option maxRecDepth 100000
/-! ===== STAGE 2: the API: parts, table ===== -/
section S2A5
variable {x c n H dn un N1 N2 M N3 : Nat} {B : Nat → Nat} {st st' : hk_St} {s s' : hk_Ms}
theorem tl (R : RR x c n B H dn un N1 N2 M N3 st s) {k : Nat} (hk : k < N2) : ∃ ab, Pr ab ∧ ∀ st' s', Scr x st st' → ScM s s' → hk_lI 0 st' (x + 15) (nI k) = some (nI ab) ∧ hm_lI s' 21 8 (nI k) = some (nI ab) := by
  have hO := R.2.2.2.2.2.2.1
  have K := R.1
  have h8 := hO.2.2.1
  obtain ⟨ab, q1, q2, q3⟩ := hO.2.2.2 k hk
  refine ⟨ab, q1, fun st' s' S1 S2 => ⟨?_, ?_⟩⟩
  · rw [lI_k (ty := 0) ((S1.1.2.1 _ (K.wk.lt K.k15)).trans K.k15) (show k < 8 by omega) (by decide), S1.1.2.2.2.2.2.1 _ _ (K.wk.lt K.k15) (by first | (intros; exact id) | (intros; decide) | (intros; dsimp only; decide) | (intros; omega) | (intros; dsimp only at *; omega) | (intros; dsimp only; omega) | (intros; simp only [nodeI, nodeR, no1, no2] at *; omega) | (intros; simp only [nodeI, nodeR, no1, no2]; omega) | (intros; constructor <;> first | exact id | omega | (dsimp only at *; omega) | (dsimp only; omega)) | (intros; simp_all [no1, no2, nodeI, nodeR]; done)), q2]
  · rw [hml (by omega) (by decide), S2.2.1 21 k rfl, q3]
theorem tlN (R : RR x c n B H dn un N1 N2 M N3 st s) : hk_gI [0] 13 st x = some (nI N2) ∧ hm_I s 37 = nI N2 ∧ N2 ≤ 8 ∧ hk_gR [0] 12 st x = some (some (x + 15)) := by
  have hO := R.2.2.2.2.2.2.1
  have K := R.1
  exact ⟨by rw [gI_b (bf_k K.x0), hO.1], hO.2.1, hO.2.2.1, by rw [gR_b (bf_k K.x0), K.r12]⟩
theorem and1 (a : Int32) : a &&& (1 : Int32) = 0 ∨ a &&& (1 : Int32) = 1 := by
  obtain ⟨j, h1, h2⟩ := pk_andE a (m := 1) 1 (by decide)
  have : j = 0 ∨ j = 1 := by omega
  rcases this with rfl | rfl
  · exact Or.inl h2
  · exact Or.inr h2
theorem part_in {h k ab : Nat} {p3 v18 v19 w14 w15 wy : Int32} (hh : h < H) (hk : k < N2) (hab : Pr ab) {eC : Int32 → Int32 → hk_St → Option (Int32 × hk_St)} {eM : Int32 → Int32 → hk_Ms → Option (Int32 × hk_Ms)} :
    ∀ m f w l mo st s, m < f → w + m = 7 → RR x c n B H dn un N1 N2 M N3 st s → (∀ st' s', Scr x st st' → ScM s s' → hk_lI 0 st' (x + 15) (nI k) = some (nI ab) ∧ hm_lI s' 21 8 (nI k) = some (nI ab)) →
    ∃ l2 m2 st' s', x_parts_L68 x (nI h) wy p3 v18 v19 (nI k) eC f l mo (nI w) st = eC l2 m2 st' ∧ m_parts_L70 (nI h) wy p3 w14 w15 (nI k) eM f l mo (nI w) s = eM l2 m2 s' ∧ Scr x st st' ∧ ScM s s' ∧ RR x c n B H dn un N1 N2 M N3 st' s' := by
  intro m
  induction m with
  | zero =>
    intro f w l mo st s hf hw R _
    obtain ⟨f, rfl⟩ : ∃ g, f = g + 1 := ⟨f - 1, by omega⟩
    have : w = 7 := by omega
    subst this
    refine ⟨l, mo, st, s, ?_, ?_, Scr.rf R.1.wk R.1.li, ScM.rf, R⟩
    · show x_parts_L68b _ _ _ _ _ _ _ _ _ _ _ _ _ = _
      simp only [x_parts_L68b, hz_nm, show (7 : Int32) ≤ nI 7 by decide, if_true]
    · show m_parts_L70b _ _ _ _ _ _ _ _ _ _ _ _ = _
      simp only [m_parts_L70b, hz_nm, show (7 : Int32) ≤ nI 7 by decide, if_true]
  | succ m ih =>
    intro f w l mo st s hf hw R ht
    obtain ⟨f, rfl⟩ : ∃ g, f = g + 1 := ⟨f - 1, by omega⟩
    have n7 : ¬ (7 : Int32) ≤ nI w := nI_ge (b := 7) (by omega) (by decide)
    have e10 : (10 : Int32) * nI h + nI w = nI (10 * h + w) := by rw [show (10 : Int32) = nI 10 from rfl, pk_mul, nI_add]
    obtain ⟨t1, t2⟩ := ht st s (Scr.rf R.1.wk R.1.li) ScM.rf
    obtain ⟨z1, z2, z3, z4, z5, z6, z7, z8⟩ := snN R
    show ∃ l2 m2 st' s', x_parts_L68b _ _ _ _ _ _ _ _ (x_parts_L68 x (nI h) wy p3 v18 v19 (nI k) eC f) _ _ _ _ = _ ∧ m_parts_L70b _ _ _ _ _ _ _ (m_parts_L70 (nI h) wy p3 w14 w15 (nI k) eM f) _ _ _ _ = _ ∧ _
    simp only [x_parts_L68b, m_parts_L70b, hz_nm, n7, if_false, nI_1]
    rcases and1 (wy >>> (nI w &&& 31)) with b0 | b1
    · simp only [b0, if_true, show ¬ (0 : Int32) = 1 by decide, if_false]
      exact ih f (w + 1) l mo st s (by omega) (by omega) R ht
    · obtain ⟨A, b, st1, s1, E1, E2, S1, S2, R1, L1, L2, X1, X2, X3⟩ := x_lays2 R hh (show w ≤ 6 by omega) hab
      obtain ⟨y1, y2, y3, y4, y5, y6, y7, y8⟩ := snN R1
      have go : ∀ l' m', ∃ l2 m2 st' s', x_parts_L68 x (nI h) wy p3 v18 v19 (nI k) eC f l' m' (nI (w + 1)) st1 = eC l2 m2 st' ∧ m_parts_L70 (nI h) wy p3 w14 w15 (nI k) eM f l' m' (nI (w + 1)) s1 = eM l2 m2 s' ∧ Scr x st st' ∧ ScM s s' ∧ RR x c n B H dn un N1 N2 M N3 st' s' := by
        intro l' m'
        obtain ⟨l2, m2, st', s', i1, i2, i3, i4, i5⟩ := ih f (w + 1) l' m' st1 s1 (by omega) (by omega) R1 (fun st' s' q1 q2 => ht st' s' (S1.trans q1) (S2.trans q2))
        exact ⟨l2, m2, st', s', i1, i2, S1.trans i3, S2.trans i4, i5⟩
      simp only [b1, show ¬ (1 : Int32) = 0 by decide, if_false, if_true, (tlN R).2.2.2, hz_ob, hz_nn, t1, t2, e10, E1, E2, hz_gd, z7]
      cases b with
      | false =>
        simp only [show bI false = 0 from rfl, if_true]
        exact go l mo
      | true =>
        simp only [show bI true = 1 from rfl, show ¬ (1 : Int32) = 0 by decide, if_false, y5, hz_ob, hz_nn, L1.i.2.1, m_secs L2 X3]
        have emx : ∀ l', (if nI (qSecs (sA A)) ≤ mo then m_parts_L70 (nI h) wy p3 w14 w15 (nI k) eM f l' mo (nI (w + 1)) s1 else m_parts_L70 (nI h) wy p3 w14 w15 (nI k) eM f l' (nI (qSecs (sA A))) (nI (w + 1)) s1) = m_parts_L70 (nI h) wy p3 w14 w15 (nI k) eM f l' (j_max_i mo (nI (qSecs (sA A)))) (nI (w + 1)) s1 := by
          intro l'
          unfold j_max_i
          by_cases q : nI (qSecs (sA A)) ≤ mo
          · rw [if_pos q, if_neg (Int32.not_lt.mpr q)]
          · rw [if_neg q, if_pos (Int32.not_le.mp q)]
        simp only [emx]
        by_cases c1 : l < 0
        · have c2 : ¬ (0 : Int32) ≤ l := Int32.not_le.mpr c1
          simp only [c1, c2, if_true, if_false]; exact go _ _
        · have c2 : (0 : Int32) ≤ l := Int32.not_lt.mp c1
          simp only [c1, c2, if_true, if_false]
          by_cases c3 : l ≤ nI (qSecs (sA A))
          · have e : j_min_i l (nI (qSecs (sA A))) = l := by unfold j_min_i; rw [if_neg (Int32.not_lt.mpr c3)]
            simp only [c3, if_true, e]; exact go _ _
          · have e : j_min_i l (nI (qSecs (sA A))) = nI (qSecs (sA A)) := by unfold j_min_i; rw [if_pos (Int32.not_le.mp c3)]
            simp only [c3, if_false, e]; exact go _ _
theorem part_L {h : Nat} {p3 wy : Int32} (hh : h < H) {eC : Int32 → Int32 → hk_St → Option (Int32 × hk_St)} {eM : Int32 → Int32 → hk_Ms → Option (Int32 × hk_Ms)} :
    ∀ m f k b l st s, m < f → k + m = N2 → RR x c n B H dn un N1 N2 M N3 st s → ∃ b2 l2 st' s', x_parts_L50 x (nI h) wy p3 eC f b l (nI k) st = eC b2 l2 st' ∧ m_parts_L52 (nI h) wy p3 eM f b l (nI k) s = eM b2 l2 s' ∧ Scr x st st' ∧ RR x c n B H dn un N1 N2 M N3 st' s' := by
  intro m
  induction m with
  | zero =>
    intro f k b l st s hf hk R
    obtain ⟨f, rfl⟩ : ∃ g, f = g + 1 := ⟨f - 1, by omega⟩
    have : k = N2 := by omega
    subst this
    refine ⟨b, l, st, s, ?_, ?_, Scr.rf R.1.wk R.1.li, R⟩
    · show x_parts_L50b _ _ _ _ _ _ _ _ _ _ = _
      simp only [x_parts_L50b, (tlN R).1, hz_ob, Int32.le_refl, if_true]
    · show m_parts_L52b _ _ _ _ _ _ _ _ _ = _
      simp only [m_parts_L52b, (tlN R).2.1, Int32.le_refl, if_true]
  | succ m ih =>
    intro f k b l st s hf hk R
    obtain ⟨f, rfl⟩ : ∃ g, f = g + 1 := ⟨f - 1, by omega⟩
    have hk1 : k < N2 := by omega
    have h8 := (tlN R).2.2.1
    obtain ⟨ab, hab, ht⟩ := tl R hk1
    have n0 : ¬ nI N2 ≤ nI k := nI_ge hk1 (by omega)
    obtain ⟨l2, m2, st1, s1, E1, E2, S1, S2, R1⟩ := part_in (x := x) (p3 := p3) (v18 := b) (v19 := l) (w14 := b) (w15 := l) (wy := wy) (eC := fun (v25 : Int32) (v26 : Int32) (s27 : hk_St) =>
      if v25 < 0 then
        hk_nm (nI k + (1 : Int32)) fun x55 =>
        x_parts_L50 x (nI h) wy p3 eC f b l x55 s27
      else
      if l < (v26 - v25) then
        hk_nm (v26 - v25) fun x57 =>
        hk_nm (nI k + (1 : Int32)) fun x58 =>
        x_parts_L50 x (nI h) wy p3 eC f (nI k) x57 x58 s27
      else
      hk_nm (nI k + (1 : Int32)) fun x59 =>
      x_parts_L50 x (nI h) wy p3 eC f b l x59 s27) (eM := fun (v21 : Int32) (v22 : Int32) (s23 : hk_Ms) =>
      if v21 < 0 then
        hk_nm (nI k + (1 : Int32)) fun x48 =>
        m_parts_L52 (nI h) wy p3 eM f b l x48 s23
      else
      if (v22 - v21) ≤ l then
        hk_nm (nI k + (1 : Int32)) fun x50 =>
        m_parts_L52 (nI h) wy p3 eM f b l x50 s23
      else
      hk_nm (v22 - v21) fun x51 =>
      hk_nm (nI k + (1 : Int32)) fun x52 =>
      m_parts_L52 (nI h) wy p3 eM f (nI k) x51 x52 s23) hh hk1 hab 7 hk_F 0 (-1) (-1) st s (pw_F (by decide)) rfl R ht
    rw [nI_0] at E1 E2
    have go : ∀ b' l', ∃ b2 l2 st' s', x_parts_L50 x (nI h) wy p3 eC f b' l' (nI (k + 1)) st1 = eC b2 l2 st' ∧ m_parts_L52 (nI h) wy p3 eM f b' l' (nI (k + 1)) s1 = eM b2 l2 s' ∧ Scr x st st' ∧ RR x c n B H dn un N1 N2 M N3 st' s' := by
      intro b' l'
      obtain ⟨b2, l2, st', s', i1, i2, i3, i4⟩ := ih f (k + 1) b' l' st1 s1 (by omega) (by omega) R1
      exact ⟨b2, l2, st', s', i1, i2, S1.trans i3, i4⟩
    show ∃ b2 l2 st' s', x_parts_L50b _ _ _ _ _ (x_parts_L50 x (nI h) wy p3 eC f) _ _ _ _ = _ ∧ m_parts_L52b _ _ _ _ (m_parts_L52 (nI h) wy p3 eM f) _ _ _ _ = _ ∧ _
    unfold x_parts_L50b m_parts_L52b
    rw [(tlN R).1, hz_ob, if_neg n0, (tlN R).2.1, if_neg n0, E1, E2]
    simp only [hz_nm, nI_1]
    by_cases c1 : l2 < 0
    · simp only [c1, if_true]; exact go b l
    · simp only [c1, if_false]
      by_cases c3 : l < m2 - l2
      · have c4 : ¬ m2 - l2 ≤ l := Int32.not_le.mpr c3
        simp only [c3, c4, if_true, if_false]; exact go _ _
      · have c4 : m2 - l2 ≤ l := Int32.not_lt.mp c3
        simp only [c3, c4, if_true, if_false]; exact go _ _
theorem ways_c (p : Int32) : ((p < 0 ∨ ¬ p >>> ((7 : Int32) &&& 31) = 0) ∧ m_within p.toInt64 (0 : Int64) (127 : Int64) = 0) ∨ (¬ p < 0 ∧ p >>> ((7 : Int32) &&& 31) = 0 ∧ m_within p.toInt64 (0 : Int64) (127 : Int64) = 1) := by
  rw [wi (b := 0) (c := 127) (by decide) (by decide)]
  by_cases h0 : p < 0
  · refine Or.inl ⟨Or.inl h0, ?_⟩
    unfold x_in
    rw [if_pos h0]
  · obtain ⟨v, hv, rfl⟩ := nI_of h0
    have e : nI v >>> ((7 : Int32) &&& 31) = nI (v / 2 ^ 7) := pk_shrN hv ((7 : Int32) &&& 31) 7 (by decide)
    rw [e]
    rcases in_cases (nI v) 0 127 (by decide) (by decide) with ⟨h1, h2⟩ | ⟨h1, k, h2, h3, h4⟩
    · have h1 : x_in (nI v) 0 127 = 0 := h1
      refine Or.inl ⟨Or.inr (fun q => ?_), h1⟩
      have := (li_eq0 (by omega)).mp q
      exact h2 v (by omega) (by omega) rfl
    · have h1 : x_in (nI v) 0 127 = 1 := h1
      have hk : v = k := (nI_eq hv (by omega)).mp h4
      exact Or.inr ⟨h0, by rw [show v / 2 ^ 7 = 0 by omega]; rfl, h1⟩
theorem ap_parts (p q v : Int32) : AP x (x_parts x p q v) (m_parts p q v) := by
  intro c st s hA
  obtain ⟨n, B, H, dn, un, N1, N2, M, N3, R⟩ := hA
  have K := R.1
  rcases isHead_c K R.2.2.1 p with ⟨h1, h2⟩ | ⟨h1, h2, h, hh, rfl⟩
  · exact ⟨-1, st, s, by simp only [x_parts, h1, hz_ob, hz_gd, bf_k K.x0, if_true], by simp only [m_parts, h2, hz_ob, if_true], R.ra, Mk.rf⟩
  · obtain ⟨z1, z2, z3, z4⟩ := tlN R
    have wv : m_within v.toInt64 (0 : Int64) (1 : Int64) = x_in v 0 1 := wi (b := 0) (c := 1) (by decide) (by decide)
    rcases ways_c q with ⟨q1, q2⟩ | ⟨q1, q2, q3⟩
    · refine ⟨-1, st, s, ?_, by simp only [m_parts, h2, hz_ob, show ¬ (1 : Int32) = 0 by decide, if_false, q2, if_true], R.ra, Mk.rf⟩
      simp only [x_parts, h1, hz_ob, hz_gd, bf_k K.x0, if_true, show ¬ (1 : Int32) = 0 by decide, if_false]
      by_cases q0 : q < 0
      · rw [if_pos q0]
      · rw [if_neg q0, if_neg (by rcases q1 with q1 | q1; exact absurd q1 q0; exact q1)]
    · rcases in_z v 0 1 with v1 | ⟨v1, -, -⟩
      · exact ⟨-1, st, s, by simp only [x_parts, h1, hz_ob, hz_gd, bf_k K.x0, if_true, show ¬ (1 : Int32) = 0 by decide, if_false, q1, q2, v1], by simp only [m_parts, h2, hz_ob, show ¬ (1 : Int32) = 0 by decide, if_false, q3, wv, v1, if_true], R.ra, Mk.rf⟩
      · by_cases hN : N2 = 0
        · subst hN
          exact ⟨-5, st, s, by simp only [x_parts, h1, hz_ob, hz_gd, bf_k K.x0, if_true, show ¬ (1 : Int32) = 0 by decide, if_false, q1, q2, v1, z1, show nI 0 = (0 : Int32) from rfl], by simp only [m_parts, h2, hz_ob, show ¬ (1 : Int32) = 0 by decide, if_false, q3, wv, v1, z2, show nI 0 = (0 : Int32) from rfl, if_true], R.ra, Mk.rf⟩
        · have n0 : ¬ nI N2 = (0 : Int32) := fun q => hN ((li_eq0 (by omega)).mp q)
          obtain ⟨b2, l2, st', s', E1, E2, S1, R1⟩ := part_L (x := x) (p3 := v) (wy := q) (eC := fun (v13 : Int32) (v14 : Int32) (s15 : hk_St) =>
            if 0 ≤ v13 then
              if v = 0 then
                some (v13, s15)
              else
              some (v14, s15)
            else
            some ((-2 : Int32), s15)) (eM := fun (v10 : Int32) (v11 : Int32) (s12 : hk_Ms) =>
            if 0 ≤ v10 then
              if v = 0 then
                some (v10, s12)
              else
              some (v11, s12)
            else
            some ((-2 : Int32), s12)) hh N2 hk_F 0 (-2) (-1) st s (pw_F (by omega)) (by omega) R
          rw [nI_0] at E1 E2
          refine ⟨if 0 ≤ b2 then (if v = 0 then b2 else l2) else -2, st', s', ?_, ?_, R1.ra, S1.mk K⟩
          · simp only [x_parts, h1, hz_ob, hz_gd, bf_k K.x0, if_true, show ¬ (1 : Int32) = 0 by decide, if_false, q1, q2, v1, z1, n0, E1]
            repeat' split
            all_goals rfl
          · simp only [m_parts, h2, hz_ob, show ¬ (1 : Int32) = 0 by decide, if_false, q3, wv, v1, z2, n0, E2]
            repeat' split
            all_goals rfl
end S2A5
