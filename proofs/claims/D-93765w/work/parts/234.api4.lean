set_option maxRecDepth 100000
/-! ===== STAGE 2: the API: fits, slip, answer ===== -/
section S2A4
variable {x c n H dn un N1 N2 M N3 : Nat} {B : Nat → Nat} {st st' : hk_St} {s s' : hk_Ms}
theorem seenOff {e ab : Nat} {an : Int32} (hb : hk_bf [13] st e = true) (h0 : hk_fI st 1300 e = nI (ab / 10000)) (h1 : hk_fI st 1301 e = nI (ab % 10000)) (h3 : hk_fI st 1303 e = an) (hab : Pr ab) (l1 : -999999999 ≤ an.toInt) (l2 : an.toInt ≤ 999999999) :
    xSeen_off e st = some (an - nI (ab / 10000) * nI (ab % 10000)).toInt64 := by
  simp only [xSeen_off, gI_b hb, h0, h1, h3, hz_ob, off_l hab l1 l2]
theorem offBy_K {k ab : Nat} {an : Int32} (hk : hm_lI s 18 40 (nI k) = some (nI ab)) (h2 : hm_lI s 20 40 (nI k) = some an) (hab : Pr ab) : m_offBy (nI k) s = some (an - nI (ab / 10000) * nI (ab % 10000)) := by
  have e3 := ld_4 hab.1
  have e4 := lm_4 hab.1
  rw [e3] at e4
  simp only [m_offBy, hk, h2, hz_ob, e3, e4]
theorem fit_L {h hd w : Nat} {v : Int32} (hh : h < H) (hw : w ≤ 6) :
    ∀ m f k st s, m < f → k + m = N1 → RR x c n B H dn un N1 N2 M N3 st s → HdA x h hd st → ∃ b st' s', x_doesFit_L3 x hd (nI w) v (fun (s3 : hk_St) => some ((1 : Int32), s3)) f (nI k) st = some (bI b, st') ∧ m_doesFit_L3 (nI h) (nI w) v (fun (s3 : hk_Ms) => some ((1 : Int32), s3)) f (nI k) s = some (bI b, s') ∧ Scr x st st' ∧ RR x c n B H dn un N1 N2 M N3 st' s' ∧ HdA x h hd st' := by
  intro m
  induction m with
  | zero =>
    intro f k st s hf hk R hr
    obtain ⟨f, rfl⟩ : ∃ g, f = g + 1 := ⟨f - 1, by omega⟩
    have : k = N1 := by omega
    subst this
    refine ⟨true, st, s, ?_, ?_, Scr.rf R.1.wk R.1.li, R, hr⟩
    · show x_doesFit_L3b _ _ _ _ _ _ _ _ = _
      simp only [x_doesFit_L3b, (snN R).1, hz_ob, Int32.le_refl, if_true]
      rfl
    · show m_doesFit_L3b _ _ _ _ _ _ _ = _
      simp only [m_doesFit_L3b, (snN R).2.1, Int32.le_refl, if_true]
      rfl
  | succ m ih =>
    intro f k st s hf hk R hr
    obtain ⟨f, rfl⟩ : ∃ g, f = g + 1 := ⟨f - 1, by omega⟩
    have hk1 : k < N1 := by omega
    obtain ⟨e, ab, te, an, hab, hte, ha1, ha2, hsn⟩ := sn R hk1
    have h40 := (snN R).2.2.1
    obtain ⟨a1, a2, a3, a4, a5, a6, a7, a8, a9⟩ := hsn st s (Scr.rf R.1.wk R.1.li) ScM.rf
    obtain ⟨z1, z2, z3, z4, z5, z6, z7, z8⟩ := snN R
    have n0 : ¬ nI N1 ≤ nI k := nI_ge hk1 (by omega)
    obtain ⟨A, b, st1, s1, E1, E2, S1, S2, R1, H1, L1, L2, X1, X2, X3⟩ := lay3 R hh hr hw hab
    obtain ⟨c1, c2, c3, c4, c5, c6, c7, c8, c9⟩ := hsn st1 s1 S1 S2
    obtain ⟨y1, y2, y3, y4, y5, y6, y7, y8⟩ := snN R1
    have so := seenOff c2 c3 c4 c6 hab ha1 ha2
    have mo := offBy_K c7 c9 hab
    generalize an - nI (ab / 10000) * nI (ab % 10000) = off at so mo
    have by1 := bySlip_K (off := off) y5 L1 L2 X1 X3
    have sl1 := slips_K (off := off) L1 L2 X1 X3
    have hcl := cnt_le (cbf s1 off) (sA A).length 0
    obtain ⟨b', st', s', i1, i2, i3, i4, i5⟩ := ih f (k + 1) st1 s1 (by omega) (by omega) R1 H1
    show ∃ b st' s', x_doesFit_L3b _ _ _ _ _ (x_doesFit_L3 x hd (nI w) v _ f) _ _ = _ ∧ m_doesFit_L3b _ _ _ _ (m_doesFit_L3 (nI h) (nI w) v _ f) _ _ = _ ∧ _
    simp only [x_doesFit_L3b, m_doesFit_L3b, z1, z2, hz_ob, n0, if_false, z5, z4, hz_nn, a1, gI_b a2, a3, a4, a7, E1, E2, hz_gd, z8, if_true]
    cases b with
    | false =>
      simp only [show bI false = 0 from rfl, if_true]
      exact ⟨false, st1, s1, rfl, rfl, S1, R1, H1⟩
    | true =>
      simp only [show bI true = 1 from rfl, show ¬ (1 : Int32) = 0 by decide, if_false, y5, hz_ob, hz_nn, L1.i.2.1, y4, c1, gI_b c2, c5, jabs_m, m_secs L2 X3, c8, so, mo, c2, if_true, by1, sl1, y7, hz_nm, nI_1]
      by_cases hc : v < m_size (nI (qSecs (sA A)) - nI te)
      · have hc2 : ¬ m_size (nI (qSecs (sA A)) - nI te) ≤ v := Int32.not_le.mpr hc
        simp only [hc, hc2, if_true, if_false]
        exact ⟨false, st1, s1, rfl, rfl, S1, R1, H1⟩
      · have hc2 : m_size (nI (qSecs (sA A)) - nI te) ≤ v := Int32.not_lt.mp hc
        simp only [hc, hc2, if_true, if_false]
        by_cases hz : off = 0
        · simp only [hz, if_true, show ¬ (1 : Int32) = 0 by decide, if_false]
          exact ⟨b', st', s', i1, i2, S1.trans i3, i4, i5⟩
        · simp only [hz, if_false]
          by_cases hn : cnt (cbf s1 off) (sA A).length 0 = 0
          · have e1 : bI (decide (cnt (cbf s1 off) (sA A).length 0 ≠ 0)) = 0 := by rw [hn]; rfl
            have e2 : nI (cnt (cbf s1 off) (sA A).length 0) = 0 := by rw [hn]; rfl
            simp only [e1, e2, if_true]
            exact ⟨false, st1, s1, rfl, rfl, S1, R1, H1⟩
          · have e1 : bI (decide (cnt (cbf s1 off) (sA A).length 0 ≠ 0)) = 1 := by rw [decide_eq_true hn]; rfl
            have e2 : ¬ nI (cnt (cbf s1 off) (sA A).length 0) = 0 := fun q => hn ((li_eq0 (by omega)).mp q)
            simp only [e1, e2, show ¬ (1 : Int32) = 0 by decide, if_false]
            exact ⟨b', st', s', i1, i2, S1.trans i3, i4, i5⟩
theorem fits_L {h hd : Nat} {v : Int32} (hh : h < H) {eC : Int32 → hk_St → Option (Int32 × hk_St)} {eM : Int32 → hk_Ms → Option (Int32 × hk_Ms)} :
    ∀ m f w b st s, m < f → w + m = 7 → RR x c n B H dn un N1 N2 M N3 st s → HdA x h hd st → ∃ b2 st' s', x_fits_L36 x (nI h) v eC f b (nI w) st = eC b2 st' ∧ m_fits_L37 (nI h) v eM f b (nI w) s = eM b2 s' ∧ Scr x st st' ∧ RR x c n B H dn un N1 N2 M N3 st' s' := by
  intro m
  induction m with
  | zero =>
    intro f w b st s hf hw R hr
    obtain ⟨f, rfl⟩ : ∃ g, f = g + 1 := ⟨f - 1, by omega⟩
    have : w = 7 := by omega
    subst this
    refine ⟨b, st, s, ?_, ?_, Scr.rf R.1.wk R.1.li, R⟩
    · show x_fits_L36b _ _ _ _ _ _ _ _ = _
      simp only [x_fits_L36b, show (7 : Int32) ≤ nI 7 by decide, if_true]
    · show m_fits_L37b _ _ _ _ _ _ _ = _
      simp only [m_fits_L37b, show (7 : Int32) ≤ nI 7 by decide, if_true]
  | succ m ih =>
    intro f w b st s hf hw R hr
    obtain ⟨f, rfl⟩ : ∃ g, f = g + 1 := ⟨f - 1, by omega⟩
    have n7 : ¬ (7 : Int32) ≤ nI w := nI_ge (b := 7) (by omega) (by decide)
    obtain ⟨z1, z2, z3, z4, z5, z6, z7, z8⟩ := snN R
    obtain ⟨b0, st1, s1, E1, E2, S1, R1, H1⟩ := fit_L (v := v) (w := w) hh (by omega) N1 hk_F 0 st s (pw_F (by omega)) (by omega) R hr
    have E1 : x_doesFit x hd (nI w) v st = some (bI b0, st1) := E1
    have E2 : m_doesFit (nI h) (nI w) v s = some (bI b0, s1) := E2
    have go : ∀ b', ∃ b2 st' s', x_fits_L36 x (nI h) v eC f b' (nI (w + 1)) st1 = eC b2 st' ∧ m_fits_L37 (nI h) v eM f b' (nI (w + 1)) s1 = eM b2 s' ∧ Scr x st st' ∧ RR x c n B H dn un N1 N2 M N3 st' s' := by
      intro b'
      obtain ⟨b2, st', s', i1, i2, i3, i4⟩ := ih f (w + 1) b' st1 s1 (by omega) (by omega) R1 H1
      exact ⟨b2, st', s', i1, i2, S1.trans i3, i4⟩
    have hor : b ||| (0 : Int32) = b := Int32.or_zero
    show ∃ b2 st' s', x_fits_L36b _ _ _ _ (x_fits_L36 x (nI h) v eC f) _ _ _ = _ ∧ m_fits_L37b _ _ _ (m_fits_L37 (nI h) v eM f) _ _ _ = _ ∧ _
    simp only [x_fits_L36b, m_fits_L37b, n7, if_false, z6, hz_ob, hz_nn, hdL R hh hr, E1, E2, hz_gd, z7, if_true, hz_nm, nI_1, hor]
    cases b0 with
    | false =>
      simp only [show bI false = 0 from rfl, if_true]; exact go b
    | true =>
      simp only [show bI true = 1 from rfl, show ¬ (1 : Int32) = 0 by decide, if_false]; exact go _
theorem ap_fits (p v : Int32) : AP x (x_fits x p v) (m_fits p v) := by
  intro c st s hA
  obtain ⟨n, B, H, dn, un, N1, N2, M, N3, R⟩ := hA
  have K := R.1
  rcases isHead_c K R.2.2.1 p with ⟨h1, h2⟩ | ⟨h1, h2, h, hh, rfl⟩
  · exact ⟨-1, st, s, by simp only [x_fits, h1, hz_ob, hz_gd, bf_k K.x0, if_true], by simp only [m_fits, h2, hz_ob, if_true], R.ra, Mk.rf⟩
  · have wv : m_within v.toInt64 (0 : Int64) (9999 : Int64) = x_in v 0 9999 := wi (b := 0) (c := 9999) (by decide) (by decide)
    obtain ⟨z1, z2, z3, z4, z5, z6, z7, z8⟩ := snN R
    rcases in_z v 0 9999 with v1 | ⟨v1, -, -⟩
    · exact ⟨-1, st, s, by simp only [x_fits, h1, hz_ob, hz_gd, bf_k K.x0, if_true, show ¬ (1 : Int32) = 0 by decide, if_false, v1], by simp only [m_fits, h2, hz_ob, show ¬ (1 : Int32) = 0 by decide, if_false, wv, v1, if_true], R.ra, Mk.rf⟩
    · by_cases hN : N1 = 0
      · subst hN
        exact ⟨-5, st, s, by simp only [x_fits, h1, hz_ob, hz_gd, bf_k K.x0, if_true, show ¬ (1 : Int32) = 0 by decide, if_false, v1, z1, show nI 0 = (0 : Int32) from rfl], by simp only [m_fits, h2, hz_ob, show ¬ (1 : Int32) = 0 by decide, if_false, wv, v1, if_true, z2, show nI 0 = (0 : Int32) from rfl], R.ra, Mk.rf⟩
      · have n0 : ¬ nI N1 = (0 : Int32) := fun q => hN ((li_eq0 (by omega)).mp q)
        obtain ⟨hd, hr, hb⟩ := hdR R hh
        obtain ⟨b2, st', s', E1, E2, S1, R1⟩ := fits_L (x := x) (v := v) (eC := fun (v10 : Int32) (s11 : hk_St) => some (v10, s11)) (eM := fun (v8 : Int32) (s9 : hk_Ms) => some (v8, s9)) hh 7 hk_F 0 0 st s (pw_F (by decide)) rfl R hr
        rw [nI_0] at E1 E2
        refine ⟨b2, st', s', ?_, ?_, R1.ra, S1.mk K⟩
        · simp only [x_fits, h1, hz_ob, hz_gd, bf_k K.x0, if_true, show ¬ (1 : Int32) = 0 by decide, if_false, v1, z1, n0, E1]
        · simp only [m_fits, h2, hz_ob, show ¬ (1 : Int32) = 0 by decide, if_false, wv, v1, z2, n0, E2]
/-- the first act behind k that can have slipped -/
def fst1 (cb : Nat → Bool) : Nat → Nat → Option Nat
  | 0, _ => none
  | m + 1, k => if cb k = true then some k else fst1 cb m (k + 1)
theorem fst_cnt (cb : Nat → Bool) : ∀ m k, fst1 cb m k = none ↔ cnt cb m k = 0 := by
  intro m
  induction m with
  | zero => intro k; simp [fst1, cnt]
  | succ m ih =>
    intro k
    rw [fst1, cnt]
    by_cases h : cb k = true
    · rw [if_pos h, if_pos h]; constructor <;> intro q
      · cases q
      · omega
    · rw [if_neg h, if_neg h, ih, Nat.zero_add]
def fI2 (o : Option Nat) : Int32 := match o with
  | none => -2
  | some k => nI k
theorem slip_C {e : Nat} {A : qS} {off p q v : Int32} (r9 : hk_gR [0] 9 st x = some (some (x + 6))) (so : xSeen_off e st = some off.toInt64) (hb : hk_bf [13] st e = true) (L : LC x st A) (L2 : LM s A) (W : qW A) (hl : (sA A).length ≤ 120) {eC : Int32 → Int32 → hk_St → Option (Int32 × hk_St)} :
    ∀ m f k v32 v31, m < f → k + m = (sA A).length → v32 + m ≤ 200 → x_slip_L95 x p q v e eC f v31 (nI v32) (nI k) st = eC (if v32 = 0 then (match fst1 (cbf s off) m k with
      | none => v31
      | some j => nI j) else v31) (nI (v32 + cnt (cbf s off) m k)) st := by
  intro m
  induction m with
  | zero =>
    intro f k v32 v31 hf hk _
    obtain ⟨f, rfl⟩ : ∃ g, f = g + 1 := ⟨f - 1, by omega⟩
    show x_slip_L95b _ _ _ _ _ _ _ _ _ _ _ = _
    simp only [x_slip_L95b, r9, hz_ob, hz_nn, L.i.1, nI_le (show (sA A).length ≤ k by omega) (show k < 2 ^ 31 by omega), if_true, fst1, cnt, Nat.add_zero, ite_self]
  | succ m ih =>
    intro f k v32 v31 hf hk h32
    obtain ⟨f, rfl⟩ : ∃ g, f = g + 1 := ⟨f - 1, by omega⟩
    have hc := (canB (off := off) L L2 W hl (show k < (sA A).length by omega)).1
    show x_slip_L95b _ _ _ _ _ _ (x_slip_L95 x p q v e eC f) _ _ _ _ = _
    simp only [x_slip_L95b, r9, hz_ob, hz_nn, L.i.1, nI_ge (show k < (sA A).length by omega) (show (sA A).length < 2 ^ 31 by omega), if_false, so, hz_gd, hb, if_true, hc, L.bf, hz_nm, nI_1]
    rw [fst1, cnt]
    cases hcb : cbf s off k with
    | false =>
      simp only [show bI false = 0 from rfl, if_true, Bool.false_eq_true, if_false, Nat.zero_add]
      exact ih f (k + 1) v32 v31 (by omega) (by omega) (by omega)
    | true =>
      have key : ∀ v', x_slip_L95 x p q v e eC f v' (nI (v32 + 1)) (nI (k + 1)) st = eC v' (nI (v32 + (1 + cnt (cbf s off) m (k + 1)))) st := by
        intro v'
        rw [ih f (k + 1) (v32 + 1) v' (by omega) (by omega) (by omega), if_neg (by omega), Nat.add_assoc]
      simp only [show bI true = 1 from rfl, show ¬ (1 : Int32) = 0 by decide, if_false, if_true]
      by_cases hz : v32 = 0
      · subst hz
        rw [if_pos (show nI 0 = (0 : Int32) from rfl), if_pos rfl]
        exact key (nI k)
      · rw [if_neg (fun q => hz ((li_eq0 (by omega)).mp q)), if_neg hz]
        exact key v31
theorem slip_M {A : qS} {off p q v : Int32} (mo : m_offBy q s = some off) (L : LC x st A) (L2 : LM s A) (W : qW A) (hl : (sA A).length ≤ 120) {eM : hk_Ms → Option (Int32 × hk_Ms)} :
    ∀ m f k, m < f → k + m = (sA A).length → m_slip_L87 p q v eM f (nI k) s = match fst1 (cbf s off) m k with
      | none => eM s
      | some j => some (nI j, s) := by
  intro m
  induction m with
  | zero =>
    intro f k hf hk
    obtain ⟨f, rfl⟩ : ∃ g, f = g + 1 := ⟨f - 1, by omega⟩
    show m_slip_L87b _ _ _ _ _ _ _ = _
    simp only [m_slip_L87b, L2.n, nI_le (show (sA A).length ≤ k by omega) (show k < 2 ^ 31 by omega), if_true, fst1]
  | succ m ih =>
    intro f k hf hk
    obtain ⟨f, rfl⟩ : ∃ g, f = g + 1 := ⟨f - 1, by omega⟩
    have hc := (canB (off := off) L L2 W hl (show k < (sA A).length by omega)).2
    show m_slip_L87b _ _ _ _ (m_slip_L87 p q v eM f) _ _ = _
    simp only [m_slip_L87b, L2.n, nI_ge (show k < (sA A).length by omega) (show (sA A).length < 2 ^ 31 by omega), if_false, mo, hz_ob, hc, hz_nm, nI_1]
    rw [fst1]
    cases hcb : cbf s off k with
    | false =>
      simp only [show bI false = 0 from rfl, if_true, Bool.false_eq_true, if_false]
      exact ih f (k + 1) (by omega) (by omega)
    | true => simp only [show bI true = 1 from rfl, show ¬ (1 : Int32) = 0 by decide, if_false, if_true]
theorem ap_slip (p q v : Int32) : AP x (x_slip x p q v) (m_slip p q v) := by
  intro c st s hA
  obtain ⟨n, B, H, dn, un, N1, N2, M, N3, R⟩ := hA
  have K := R.1
  have h6 := R.2.2.1.2.2.1
  obtain ⟨z1, z2, z3, z4, z5, z6, z7, z8⟩ := snN R
  rcases isBy_c K R.2.2.1 p with ⟨h1, h2⟩ | ⟨h1, h2, h, w, hh, hw, rfl⟩
  · exact ⟨-1, st, s, by simp only [x_slip, h1, hz_ob, hz_gd, bf_k K.x0, if_true], by simp only [m_slip, h2, hz_ob, if_true], R.ra, Mk.rf⟩
  · have ea : x_isAsk x q st = some (x_in q 0 (nI N1 - 1)) := by simp only [x_isAsk, z1, hz_ob]
    have wv : m_within v.toInt64 (0 : Int64) (1 : Int64) = x_in v 0 1 := wi (b := 0) (c := 1) (by decide) (by decide)
    rcases idx_c q N1 (by omega) with q1 | ⟨q1, k, hk, rfl⟩
    · exact ⟨-1, st, s, by simp only [x_slip, h1, hz_ob, hz_gd, z7, if_true, show ¬ (1 : Int32) = 0 by decide, if_false, ea, q1], by simp only [m_slip, h2, hz_ob, show ¬ (1 : Int32) = 0 by decide, if_false, z2, wi0, q1, if_true], R.ra, Mk.rf⟩
    · rcases in_cases v 0 1 (by decide) (by decide) with ⟨v1, -⟩ | ⟨v1, vk, -, v2, rfl⟩
      · have v1 : x_in v 0 1 = 0 := v1
        exact ⟨-1, st, s, by simp only [x_slip, h1, hz_ob, hz_gd, z7, if_true, show ¬ (1 : Int32) = 0 by decide, if_false, ea, q1, v1], by simp only [m_slip, h2, hz_ob, show ¬ (1 : Int32) = 0 by decide, if_false, z2, wi0, q1, wv, v1, if_true], R.ra, Mk.rf⟩
      · have v1 : x_in (nI vk) 0 1 = 1 := v1
        obtain ⟨e, ab, te, an, hab, hte, ha1, ha2, hsn⟩ := sn R hk
        obtain ⟨a1, a2, a3, a4, a5, a6, a7, a8, a9⟩ := hsn st s (Scr.rf K.wk K.li) ScM.rf
        have so0 := seenOff a2 a3 a4 a6 hab ha1 ha2
        have mo0 := offBy_K a7 a9 hab
        generalize hoff : an - nI (ab / 10000) * nI (ab % 10000) = off at so0 mo0
        have h0 : off.toInt64 = 0 ↔ off = 0 := by
          have := (eqV (off := off) (V := 0) (by decide)).1
          constructor
          · intro q; exact this.mp q.symm
          · intro q; exact (this.mpr q).symm
        by_cases hz : off = 0
        · exact ⟨-1, st, s, by simp only [x_slip, h1, hz_ob, hz_gd, z7, if_true, show ¬ (1 : Int32) = 0 by decide, if_false, ea, q1, v1, z4, hz_nn, a1, so0, a2, h0.mpr hz], by simp only [m_slip, h2, hz_ob, show ¬ (1 : Int32) = 0 by decide, if_false, z2, wi0, q1, wv, v1, mo0, hz, if_true], R.ra, Mk.rf⟩
        · have hz64 : ¬ off.toInt64 = 0 := fun q => hz (h0.mp q)
          obtain ⟨hd, hr, hb⟩ := hdR R hh
          obtain ⟨A, b, st1, s1, E1, E2, S1, S2, R1, H1, L1, L2, X1, X2, X3⟩ := lay3 R hh hr (show w ≤ 6 by omega) hab
          obtain ⟨d1, d2⟩ := d10 (show 10 * h + w < 2 ^ 31 by omega) rfl (show w < 10 by omega)
          cases b with
          | false =>
            exact ⟨-2, st1, s1, by simp only [x_slip, h1, hz_ob, hz_gd, z7, if_true, show ¬ (1 : Int32) = 0 by decide, if_false, ea, q1, v1, z4, z5, z6, hz_nn, a1, so0, a2, hz64, d1, d2, hdL R hh hr, gI_b a2, a3, a4, E1, z8, show bI false = 0 from rfl], by simp only [m_slip, h2, hz_ob, show ¬ (1 : Int32) = 0 by decide, if_false, z2, wi0, q1, wv, v1, mo0, hz, d1, d2, a7, E2, show bI false = 0 from rfl, if_true], R1.ra, S1.mk K⟩
          | true =>
            obtain ⟨c1, c2, c3, c4, c5, c6, c7, c8, c9⟩ := hsn st1 s1 S1 S2
            obtain ⟨y1, y2, y3, y4, y5, y6, y7, y8⟩ := snN R1
            have so1 := seenOff c2 c3 c4 c6 hab ha1 ha2
            have mo1 := offBy_K c7 c9 hab
            rw [hoff] at so1 mo1
            have hC := slip_C (p := nI (10 * h + w)) (q := nI k) (v := nI vk) y5 so1 c2 L1 L2 X1 X3 (eC := fun (v35 : Int32) (v36 : Int32) (s37 : hk_St) =>
              if nI vk = 0 then
                some (v35, s37)
              else
              some (v36, s37)) (sA A).length hk_F 0 0 (-2) (pw_F (by omega)) (by omega) (by omega)
            rw [nI_0, Nat.zero_add, if_pos rfl] at hC
            have hM := slip_M (p := nI (10 * h + w)) (v := nI vk) mo1 L1 L2 X1 X3 (eM := fun (s13 : hk_Ms) => some ((-2 : Int32), s13)) (sA A).length hk_F 0 (pw_F (by omega)) (by omega)
            rw [nI_0] at hM
            have hS := slips_K (off := off) L1 L2 X1 X3
            have eC : x_slip x (nI (10 * h + w)) (nI k) (nI vk) st = x_slip_L95 x (nI (10 * h + w)) (nI k) (nI vk) e (fun (v35 : Int32) (v36 : Int32) (s37 : hk_St) =>
              if nI vk = 0 then
                some (v35, s37)
              else
              some (v36, s37)) hk_F (-2 : Int32) (0 : Int32) (0 : Int32) st1 := by
              simp only [x_slip, h1, hz_ob, hz_gd, z7, if_true, show ¬ (1 : Int32) = 0 by decide, if_false, ea, q1, v1, z4, z5, z6, hz_nn, a1, so0, a2, hz64, d1, d2, hdL R hh hr, gI_b a2, a3, a4, E1, z8, show bI true = 1 from rfl]
            by_cases hv1 : vk = 1
            · subst hv1
              refine ⟨nI (cnt (cbf s1 off) (sA A).length 0), st1, s1, ?_, ?_, R1.ra, S1.mk K⟩
              · rw [eC, hC]
                simp only [show ¬ nI 1 = (0 : Int32) by decide, if_false]
              · simp only [m_slip, h2, hz_ob, show ¬ (1 : Int32) = 0 by decide, if_false, z2, wi0, q1, wv, v1, mo0, hz, d1, d2, a7, E2, show bI true = 1 from rfl, show nI 1 = (1 : Int32) from rfl, show m_within (Int32.toInt64 1) (0 : Int64) (1 : Int64) = 1 by decide, if_true, mo1, hS]
            · have hv0 : vk = 0 := by omega
              subst hv0
              refine ⟨match fst1 (cbf s1 off) (sA A).length 0 with
                | none => -2
                | some j => nI j, st1, s1, ?_, ?_, R1.ra, S1.mk K⟩
              · rw [eC, hC]
                simp only [show nI 0 = (0 : Int32) from rfl, if_true]
              · have eM : m_slip (nI (10 * h + w)) (nI k) (nI 0) s = m_slip_L87 (nI (10 * h + w)) (nI k) (nI 0) (fun (s13 : hk_Ms) => some ((-2 : Int32), s13)) hk_F (0 : Int32) s1 := by
                  simp only [m_slip, h2, hz_ob, show ¬ (1 : Int32) = 0 by decide, if_false, z2, wi0, q1, wv, v1, mo0, hz, d1, d2, a7, E2, show bI true = 1 from rfl, show ¬ nI 0 = (1 : Int32) by decide]
                rw [eM, hM]
                cases fst1 (cbf s1 off) (sA A).length 0 <;> rfl
-- answers
theorem u20 (z : Int32) : ∃ k, k < 4096 ∧ (z.toUInt32 >>> ((20 : Int32).toUInt32 &&& Int32.toUInt32 31)).toInt32 = nI k := by
  have h := pk_ushr z 20 20 (by decide)
  refine ⟨z.toBitVec.toNat / 2 ^ 20, ?_, ?_⟩
  · have := z.toBitVec.isLt
    omega
  · apply Int32.toBitVec_inj.mp
    apply BitVec.eq_of_toNat_eq
    rw [h, pk_tn (by have := z.toBitVec.isLt; omega)]
theorem ans_L {h hd w k4 : Nat} {A : qS} {q v : Int32} {t : Nat → Nat} (R : RR x c n B H dn un N1 N2 M N3 st s) (hh : h < H) (hr : HdA x h hd st) (C1 : hk_bf [3] st hd = true) (Ct : hk_fR st 300 hd = some (hd + 1)) (C4 : hk_lI 0 st (hd + 1) (4 : Int32) = some (nI k4)) (hw : w < 10) (L : LC x st A) (L2 : LM s A) (W : qW A) (hl : (sA A).length ≤ 120) {eC : Int64 → hk_St → Option (Int32 × hk_St)} {eM : Int32 → hk_Ms → Option (Int32 × hk_Ms)} :
    ∀ m f k z (sm : Int64), m < f → k + m = (sA A).length → ∃ sm2, x_answer_L48 x (nI (10 * h + w)) q v eC f sm z (nI k) st = eC sm2 st ∧ m_answer_L70 (nI (10 * h + w)) q v (nI k4) eM f z sm.toInt32 (nI k) s = eM sm2.toInt32 s := by
  have h6 := R.2.2.1.2.2.1
  obtain ⟨z1, z2, z3, z4, z5, z6, z7, z8⟩ := snN R
  obtain ⟨d1, d2⟩ := d10 (show 10 * h + w < 2 ^ 31 by omega) rfl hw
  have r0 := L.r.1 0 (by decide)
  have r2 := L.r.1 2 (by decide)
  simp only [Nat.add_zero, Nat.reduceAdd, Nat.add_assoc] at r0 r2
  have d200 : 200 < 2 ^ 31 := by decide
  intro m
  induction m with
  | zero =>
    intro f k z sm hf hk
    obtain ⟨f, rfl⟩ : ∃ g, f = g + 1 := ⟨f - 1, by omega⟩
    refine ⟨sm, ?_, ?_⟩
    · show x_answer_L48b _ _ _ _ _ _ _ _ _ _ = _
      simp only [x_answer_L48b, z5, hz_ob, hz_nn, L.i.1, nI_le (show (sA A).length ≤ k by omega) (show k < 2 ^ 31 by omega), if_true]
    · show m_answer_L70b _ _ _ _ _ _ _ _ _ _ = _
      simp only [m_answer_L70b, hz_nm, L2.n, nI_le (show (sA A).length ≤ k by omega) (show k < 2 ^ 31 by omega), if_true]
  | succ m ih =>
    intro f k z sm hf hk
    obtain ⟨f, rfl⟩ : ∃ g, f = g + 1 := ⟨f - 1, by omega⟩
    have hk1 : k < (sA A).length := by omega
    have hrr : (sA A)[k]? = some (sA A)[k] := by simp [hk1]
    have ok := W _ (List.getElem_mem hk1)
    generalize (sA A)[k] = r at hrr ok
    obtain ⟨c1, c2, c3, c4, c5, c6⟩ := L.r.2 k r hrr (by omega)
    obtain ⟨m1, m2, m3, m4, m5, m6⟩ := L2.r hrr
    have n0 : ¬ nI (sA A).length ≤ nI k := nI_ge hk1 (by omega)
    have go : ∀ z' sm', ∃ sm2, x_answer_L48 x (nI (10 * h + w)) q v eC f sm' z' (nI (k + 1)) st = eC sm2 st ∧ m_answer_L70 (nI (10 * h + w)) q v (nI k4) eM f z' sm'.toInt32 (nI (k + 1)) s = eM sm2.toInt32 s := fun z' sm' => ih f (k + 1) z' sm' (by omega) (by omega)
    have hso := ok.1
    show ∃ sm2, x_answer_L48b _ _ _ _ _ (x_answer_L48 x (nI (10 * h + w)) q v eC f) _ _ _ _ = _ ∧ m_answer_L70b _ _ _ _ _ (m_answer_L70 (nI (10 * h + w)) q v (nI k4) eM f) _ _ _ _ = _
    simp only [x_answer_L48b, m_answer_L70b, hz_nm, z5, z6, hz_ob, hz_nn, L.i.1, L2.n, n0, if_false, r2, c3, d1, hdL R hh hr, gR_b C1, Ct, C4, hml (show k < 200 by omega) d200, m4, r0, c1, m1, m2, m5, m6, nI_1]
    by_cases ho : (0 : Int32) < nI (aHe r) - nI k4
    · simp only [ho, if_true]
      obtain ⟨y, hy, ey⟩ := u20 (z * (1103515245 : Int32) + (12345 : Int32))
      simp only [ey]
      by_cases c95 : (5 : Int32) * (nI (aHe r) - nI k4) ≤ 95
      · have hmn : j_min_i (95 : Int32) ((5 : Int32) * (nI (aHe r) - nI k4)) = (5 : Int32) * (nI (aHe r) - nI k4) := by
          unfold j_min_i
          generalize (5 : Int32) * (nI (aHe r) - nI k4) = u at c95
          by_cases q1 : u < 95
          · rw [if_pos q1]
          · rw [if_neg q1]; exact Int32.le_antisymm (Int32.not_lt.mp q1) c95
        simp only [c95, if_true, hmn]
        have hU : ∀ U : Int32, U = ((z * (1103515245 : Int32) + (12345 : Int32)).toUInt32 >>> ((8 : Int32).toUInt32 &&& Int32.toUInt32 31)).toInt32 - ((z * (1103515245 : Int32) + (12345 : Int32)).toUInt32 >>> ((8 : Int32).toUInt32 &&& Int32.toUInt32 31)).toInt32 / (100 : Int32) * (100 : Int32) → True := fun _ _ => trivial
        generalize ((z * (1103515245 : Int32) + (12345 : Int32)).toUInt32 >>> ((8 : Int32).toUInt32 &&& Int32.toUInt32 31)).toInt32 - ((z * (1103515245 : Int32) + (12345 : Int32)).toUInt32 >>> ((8 : Int32).toUInt32 &&& Int32.toUInt32 31)).toInt32 / (100 : Int32) * (100 : Int32) = U
        generalize z * (1103515245 : Int32) + (12345 : Int32) = z2 at *
        by_cases hcmp : (5 : Int32) * (nI (aHe r) - nI k4) ≤ U
        · have hc2 : ¬ U < (5 : Int32) * (nI (aHe r) - nI k4) := Int32.not_lt.mpr hcmp
          simp only [hcmp, hc2, if_true, if_false]
          exact go _ sm
        · have hc2 : U < (5 : Int32) * (nI (aHe r) - nI k4) := Int32.not_le.mp hcmp
          simp only [hcmp, hc2, if_true, if_false]
          have hc3 : aSo r = 0 ∨ aSo r = 1 ∨ aSo r = 2 := by omega
          have sw := slipWays_K L hrr (by omega) ok
          rcases hc3 with q0 | q0 | q0
          · have sl := slip_K L hrr (by omega) ok (w := y % 2) (by omega)
            rw [q0, if_pos rfl] at sw sl
            have e2 : nI y - nI y / (2 : Int32) * (2 : Int32) = nI (y % 2) := pk_rem (d := 2) (by omega) (by decide) (by decide)
            simp only [q0, show ¬ nI 0 = (2 : Int32) by decide, if_false, sw, hz_ob, hz_gd, L.bf, if_true, show ¬ (2 : Int32) = 0 by decide, not_false_eq_true, decide_true, e2, sl, show nI 0 = (0 : Int32) from rfl]
            by_cases hy1 : y % 2 = 1
            · rw [hy1, if_pos rfl, if_pos (show nI 1 = (1 : Int32) from rfl)]
              have := go z2 (sm + lN (aSl r * 10 ^ aPl r))
              rw [Int64.toInt32_add, lN_i] at this
              exact this
            · have hy0 : y % 2 = 0 := by omega
              rw [hy0, if_neg (by decide), if_neg (show ¬ nI 0 = (1 : Int32) by decide)]
              have := go z2 (sm + -(lN (aSl r * 10 ^ aPl r)))
              rw [Int64.toInt32_add, Int64.toInt32_neg, lN_i] at this
              exact this
          · have hv := ok.2.2.2.1 q0
            have hnd := nd_gt0 hv.1
            have hn31 := nd_31 ok.2.1
            have hyl : y % nd (aV r) < nd (aV r) := Nat.mod_lt _ hnd
            have hpl : aPl r < 1000 := by
              by_cases q : aPl r < 10
              · omega
              · have : 10 ^ 10 ≤ 10 ^ (aPl r + (nd (aV r) - 1)) := Nat.pow_le_pow_right (by decide) (by omega)
                omega
            have sl := slip_K L hrr (by omega) ok (w := y % nd (aV r)) (by omega)
            rw [q0, if_neg (by decide), if_pos rfl] at sw
            rw [q0, if_neg (by decide)] at sl
            have e2 : nI y - nI y / nI (nd (aV r)) * nI (nd (aV r)) = nI (y % nd (aV r)) := pk_rem (by omega) hnd (by omega)
            have nn : ¬ nI (nd (aV r)) = (0 : Int32) := fun q => by have := (li_eq0 (by omega)).mp q; omega
            have em : nI (10 ^ (y % nd (aV r))) * nI (10 ^ aPl r) = nI (10 ^ (aPl r + y % nd (aV r))) := by rw [pk_mul, ← Nat.pow_add, Nat.add_comm]
            simp only [q0, show ¬ nI 1 = (2 : Int32) by decide, if_false, sw, hz_ob, hz_gd, L.bf, if_true, nn, not_false_eq_true, decide_true, e2, sl, show ¬ nI 1 = (0 : Int32) by decide, show nI 1 = (1 : Int32) from rfl, ll_digits ok.2.1, ll_tens (show y % nd (aV r) < 1000000 by omega), ll_tens (show aPl r < 1000000 by omega), em]
            have := go z2 (sm + -(lN (10 ^ (aPl r + y % nd (aV r)))))
            rw [Int64.toInt32_add, Int64.toInt32_neg, lN_i, ← Int32.sub_eq_add_neg] at this
            exact this
          · simp only [q0, show nI 2 = (2 : Int32) from rfl, if_true, show ¬ (2 : Int32) = 0 by decide, show ¬ (2 : Int32) = 1 by decide, if_false]
            exact go _ sm
      · have hmn : j_min_i (95 : Int32) ((5 : Int32) * (nI (aHe r) - nI k4)) = 95 := by
          unfold j_min_i
          generalize (5 : Int32) * (nI (aHe r) - nI k4) = u at c95
          rw [if_neg (fun q => c95 (Int32.le_of_lt q))]
        simp only [c95, if_false, hmn]
        have hU : ∀ U : Int32, U = ((z * (1103515245 : Int32) + (12345 : Int32)).toUInt32 >>> ((8 : Int32).toUInt32 &&& Int32.toUInt32 31)).toInt32 - ((z * (1103515245 : Int32) + (12345 : Int32)).toUInt32 >>> ((8 : Int32).toUInt32 &&& Int32.toUInt32 31)).toInt32 / (100 : Int32) * (100 : Int32) → True := fun _ _ => trivial
        generalize ((z * (1103515245 : Int32) + (12345 : Int32)).toUInt32 >>> ((8 : Int32).toUInt32 &&& Int32.toUInt32 31)).toInt32 - ((z * (1103515245 : Int32) + (12345 : Int32)).toUInt32 >>> ((8 : Int32).toUInt32 &&& Int32.toUInt32 31)).toInt32 / (100 : Int32) * (100 : Int32) = U
        generalize z * (1103515245 : Int32) + (12345 : Int32) = z2 at *
        by_cases hcmp : (95 : Int32) ≤ U
        · have hc2 : ¬ U < (95 : Int32) := Int32.not_lt.mpr hcmp
          simp only [hcmp, hc2, if_true, if_false]
          exact go _ sm
        · have hc2 : U < (95 : Int32) := Int32.not_le.mp hcmp
          simp only [hcmp, hc2, if_true, if_false]
          have hc3 : aSo r = 0 ∨ aSo r = 1 ∨ aSo r = 2 := by omega
          have sw := slipWays_K L hrr (by omega) ok
          rcases hc3 with q0 | q0 | q0
          · have sl := slip_K L hrr (by omega) ok (w := y % 2) (by omega)
            rw [q0, if_pos rfl] at sw sl
            have e2 : nI y - nI y / (2 : Int32) * (2 : Int32) = nI (y % 2) := pk_rem (d := 2) (by omega) (by decide) (by decide)
            simp only [q0, show ¬ nI 0 = (2 : Int32) by decide, if_false, sw, hz_ob, hz_gd, L.bf, if_true, show ¬ (2 : Int32) = 0 by decide, not_false_eq_true, decide_true, e2, sl, show nI 0 = (0 : Int32) from rfl]
            by_cases hy1 : y % 2 = 1
            · rw [hy1, if_pos rfl, if_pos (show nI 1 = (1 : Int32) from rfl)]
              have := go z2 (sm + lN (aSl r * 10 ^ aPl r))
              rw [Int64.toInt32_add, lN_i] at this
              exact this
            · have hy0 : y % 2 = 0 := by omega
              rw [hy0, if_neg (by decide), if_neg (show ¬ nI 0 = (1 : Int32) by decide)]
              have := go z2 (sm + -(lN (aSl r * 10 ^ aPl r)))
              rw [Int64.toInt32_add, Int64.toInt32_neg, lN_i] at this
              exact this
          · have hv := ok.2.2.2.1 q0
            have hnd := nd_gt0 hv.1
            have hn31 := nd_31 ok.2.1
            have hyl : y % nd (aV r) < nd (aV r) := Nat.mod_lt _ hnd
            have hpl : aPl r < 1000 := by
              by_cases q : aPl r < 10
              · omega
              · have : 10 ^ 10 ≤ 10 ^ (aPl r + (nd (aV r) - 1)) := Nat.pow_le_pow_right (by decide) (by omega)
                omega
            have sl := slip_K L hrr (by omega) ok (w := y % nd (aV r)) (by omega)
            rw [q0, if_neg (by decide), if_pos rfl] at sw
            rw [q0, if_neg (by decide)] at sl
            have e2 : nI y - nI y / nI (nd (aV r)) * nI (nd (aV r)) = nI (y % nd (aV r)) := pk_rem (by omega) hnd (by omega)
            have nn : ¬ nI (nd (aV r)) = (0 : Int32) := fun q => by have := (li_eq0 (by omega)).mp q; omega
            have em : nI (10 ^ (y % nd (aV r))) * nI (10 ^ aPl r) = nI (10 ^ (aPl r + y % nd (aV r))) := by rw [pk_mul, ← Nat.pow_add, Nat.add_comm]
            simp only [q0, show ¬ nI 1 = (2 : Int32) by decide, if_false, sw, hz_ob, hz_gd, L.bf, if_true, nn, not_false_eq_true, decide_true, e2, sl, show ¬ nI 1 = (0 : Int32) by decide, show nI 1 = (1 : Int32) from rfl, ll_digits ok.2.1, ll_tens (show y % nd (aV r) < 1000000 by omega), ll_tens (show aPl r < 1000000 by omega), em]
            have := go z2 (sm + -(lN (10 ^ (aPl r + y % nd (aV r)))))
            rw [Int64.toInt32_add, Int64.toInt32_neg, lN_i, ← Int32.sub_eq_add_neg] at this
            exact this
          · simp only [q0, show nI 2 = (2 : Int32) from rfl, if_true, show ¬ (2 : Int32) = 0 by decide, show ¬ (2 : Int32) = 1 by decide, if_false]
            exact go _ sm
    · simp only [ho, if_false]
      exact go z sm
theorem ap_answer (p q v : Int32) : AP x (x_answer x p q v) (m_answer p q v) := by
  intro c st s hA
  obtain ⟨n, B, H, dn, un, N1, N2, M, N3, R⟩ := hA
  have K := R.1
  have hH := R.2.2.1
  have h6 := hH.2.2.1
  rcases isBy_c K hH p with ⟨h1, h2⟩ | ⟨h1, h2, h, w, hh, hw, rfl⟩
  · exact ⟨-2000000000, st, s, by simp only [x_answer, h1, hz_ob, hz_gd, bf_k K.x0, if_true], by simp only [m_answer, h2, hz_ob, if_true], R.ra, Mk.rf⟩
  · rcases isAsk_c q with ⟨q1, q2⟩ | ⟨q1, q2, ab, rfl, hab⟩
    · exact ⟨-2000000000, st, s, by simp only [x_answer, h1, hz_ob, hz_gd, bf_k K.x0, if_true, show ¬ (1 : Int32) = 0 by decide, if_false, q1], by simp only [m_answer, h2, hz_ob, show ¬ (1 : Int32) = 0 by decide, if_false, q2, if_true], R.ra, Mk.rf⟩
    · obtain ⟨A, b, st', s', E1, E2, S1, S2, R2, L1, L2, X1, X2, X3⟩ := x_lays2 R hh (show w ≤ 6 by omega) hab
      have K2 := R2.1
      obtain ⟨d1, d2⟩ := d10 (show 10 * h + w < 2 ^ 31 by omega) rfl (show w < 10 by omega)
      cases b with
      | false => exact ⟨-2000000000, st', s', by simp only [x_answer, h1, hz_ob, hz_gd, bf_k K.x0, if_true, show ¬ (1 : Int32) = 0 by decide, if_false, q1, E1, show bI false = 0 from rfl], by simp only [m_answer, h2, hz_ob, show ¬ (1 : Int32) = 0 by decide, if_false, q2, d1, d2, E2, show bI false = 0 from rfl, if_true], R2.ra, S1.mk K⟩
      | true =>
        obtain ⟨hd, t, pl, r1, r2, r3, r4, r5, r6⟩ := R2.2.2.1.2.2.2.1 h hh
        have C4 : hk_lI 0 st' (hd + 1) (4 : Int32) = some (nI (t 4)) := by rw [show (4 : Int32) = nI 4 from rfl, lI_k (ty := 0) r3.1.2.2.1 (by decide) (by decide), r3.1.2.2.2 4 (by decide)]
        have M4 : hm_lI s' 0 30 ((5 : Int32) * nI h + (4 : Int32)) = some (nI (t 4)) := by rw [show (5 : Int32) * nI h + (4 : Int32) = nI (5 * h + 4) from i5 (a := 4), hml (by omega) (by decide), r4.1 4 (by decide)]
        have e3 := ld_4 hab.1
        have e4 := lm_4 hab.1
        rw [e3] at e4
        have hm : ab % 10000 < 10000 := Nat.mod_lt _ (by decide)
        have hq := hab.2.2.1
        obtain ⟨sm2, F1, F2⟩ := ans_L (q := nI ab) (v := v) (t := t) (k4 := t 4) R2 hh r1 (bf_k r3.1.1) r3.1.2.1 C4 (show w < 10 by omega) L1 L2 X1 X3 (eC := fun (v13 : Int64) (s14 : hk_St) => some (v13.toInt32, s14)) (eM := fun (v13 : Int32) (s14 : hk_Ms) => some (v13, s14)) (sA A).length hk_F 0 v (lN (ab / 10000 * (ab % 10000))) (pw_F (by omega)) (by omega)
        rw [nI_0] at F1 F2
        rw [lN_i] at F2
        refine ⟨sm2.toInt32, st', s', ?_, ?_, R2.ra, S1.mk K⟩
        · simp only [x_answer, h1, hz_ob, hz_gd, bf_k K.x0, if_true, show ¬ (1 : Int32) = 0 by decide, if_false, q1, E1, show bI true = 1 from rfl, hz_nm, e3, e4, nI_l (show ab / 10000 < 2 ^ 31 by omega), nI_l (show ab % 10000 < 2 ^ 31 by omega), lN_mul, F1]
        · simp only [m_answer, h2, hz_ob, show ¬ (1 : Int32) = 0 by decide, if_false, q2, d1, d2, E2, show bI true = 1 from rfl, M4, hz_nm, e3, e4, pk_mul, F2]
end S2A4
