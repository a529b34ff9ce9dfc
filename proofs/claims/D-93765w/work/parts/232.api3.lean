set_option maxRecDepth 100000
/-! ===== STAGE 2: the API: chosen, best, suits ===== -/
theorem gdT {α : Type} {b : Bool} (h : b = true) {x : Option α} : hk_gd b x = x := by rw [hz_gd, if_pos h]
section S2A3
variable {x c n H dn un N1 N2 M N3 : Nat} {B : Nat → Nat} {st st' : hk_St} {s s' : hk_Ms}
theorem CH.scr {hd M : Nat} {t : Nat → Nat} {pl : List qP} (C : CH st hd t pl M) (K : RK x st) (S : Scr x st st') : CH st' hd t pl M := by
  have C3 := C.1.2.2.1
  refine C.fr2 S.1 K.wk (by first | (intros; exact id) | (intros; decide) | (intros; dsimp only; decide) | (intros; omega) | (intros; dsimp only at *; omega) | (intros; dsimp only; omega) | (intros; simp only [nodeI, nodeR, no1, no2] at *; omega) | (intros; simp only [nodeI, nodeR, no1, no2]; omega) | (intros; constructor <;> first | exact id | omega | (dsimp only at *; omega) | (dsimp only; omega)) | (intros; simp_all [no1, no2, nodeI, nodeR]; done)) (by first | (intros; exact id) | (intros; decide) | (intros; dsimp only; decide) | (intros; omega) | (intros; dsimp only at *; omega) | (intros; dsimp only; omega) | (intros; simp only [nodeI, nodeR, no1, no2] at *; omega) | (intros; simp only [nodeI, nodeR, no1, no2]; omega) | (intros; constructor <;> first | exact id | omega | (dsimp only at *; omega) | (dsimp only; omega)) | (intros; simp_all [no1, no2, nodeI, nodeR]; done)) (by first | (intros; exact id) | (intros; decide) | (intros; dsimp only; decide) | (intros; omega) | (intros; dsimp only at *; omega) | (intros; dsimp only; omega) | (intros; simp only [nodeI, nodeR, no1, no2] at *; omega) | (intros; simp only [nodeI, nodeR, no1, no2]; omega) | (intros; constructor <;> first | exact id | omega | (dsimp only at *; omega) | (dsimp only; omega)) | (intros; simp_all [no1, no2, nodeI, nodeR]; done)) (by first | (intros; exact id) | (intros; decide) | (intros; dsimp only; decide) | (intros; omega) | (intros; dsimp only at *; omega) | (intros; dsimp only; omega) | (intros; simp only [nodeI, nodeR, no1, no2] at *; omega) | (intros; simp only [nodeI, nodeR, no1, no2]; omega) | (intros; constructor <;> first | exact id | omega | (dsimp only at *; omega) | (dsimp only; omega)) | (intros; simp_all [no1, no2, nodeI, nodeR]; done)) ?_ (by first | (intros; exact id) | (intros; decide) | (intros; dsimp only; decide) | (intros; omega) | (intros; dsimp only at *; omega) | (intros; dsimp only; omega) | (intros; simp only [nodeI, nodeR, no1, no2] at *; omega) | (intros; simp only [nodeI, nodeR, no1, no2]; omega) | (intros; constructor <;> first | exact id | omega | (dsimp only at *; omega) | (dsimp only; omega)) | (intros; simp_all [no1, no2, nodeI, nodeR]; done))
  rintro (q | q)
  · rw [q, K.fc.2.2] at C3; cases C3
  · have h2 := K.ka.2.1 (hd + 1 - (x + 7)) (by omega)
    rw [show x + 6 + (hd + 1 - (x + 7) + 1) = hd + 1 by omega, C3] at h2
    cases h2
theorem Scr.k (K : RK x st) (S : Scr x st st') : RK x st' := K.fr S.1 (by first | (intros; exact id) | (intros; decide) | (intros; dsimp only; decide) | (intros; omega) | (intros; dsimp only at *; omega) | (intros; dsimp only; omega) | (intros; simp only [nodeI, nodeR, no1, no2] at *; omega) | (intros; simp only [nodeI, nodeR, no1, no2]; omega) | (intros; constructor <;> first | exact id | omega | (dsimp only at *; omega) | (dsimp only; omega)) | (intros; simp_all [no1, no2, nodeI, nodeR]; done)) S.2.2.2.1 S.2.2.2.2
theorem MHd.scm {h : Nat} {t : Nat → Nat} {pl : List qP} (D : MHd s h t pl) (hl : pl.length ≤ 60) (S : ScM s s') : MHd s' h t pl := D.fr S.fr hl (fun i _ => (by first | (intros; exact id) | (intros; decide) | (intros; dsimp only; decide) | (intros; omega) | (intros; dsimp only at *; omega) | (intros; dsimp only; omega) | (intros; simp only [nodeI, nodeR, no1, no2] at *; omega) | (intros; simp only [nodeI, nodeR, no1, no2]; omega) | (intros; constructor <;> first | exact id | omega | (dsimp only at *; omega) | (dsimp only; omega)) | (intros; simp_all [no1, no2, nodeI, nodeR]; done))) (by first | (intros; exact id) | (intros; decide) | (intros; dsimp only; decide) | (intros; omega) | (intros; dsimp only at *; omega) | (intros; dsimp only; omega) | (intros; simp only [nodeI, nodeR, no1, no2] at *; omega) | (intros; simp only [nodeI, nodeR, no1, no2]; omega) | (intros; constructor <;> first | exact id | omega | (dsimp only at *; omega) | (dsimp only; omega)) | (intros; simp_all [no1, no2, nodeI, nodeR]; done)) (fun k _ => by constructor <;> decide)
/-- the head h, its place known -/
def HdA (x h hd : Nat) (st : hk_St) : Prop := hk_aR st (x + 2) h = some hd
theorem HdA.scr {h hd : Nat} (hA : HdA x h hd st) (K : RK x st) (S : Scr x st st') : HdA x h hd st' := (S.1.2.2.2.2.2.2.2 _ _ (K.wk.lt K.k2) (fun q => q)).trans hA
theorem lay3 (R : RR x c n B H dn un N1 N2 M N3 st s) {h hd w ab : Nat} (hh : h < H) (hr : HdA x h hd st) (hw : w ≤ 6) (hab : Pr ab) : ∃ A b st' s', xActs_lay (x + 6) hd (nI w) (nI (ab / 10000)) (nI (ab % 10000)) st = some (bI b, st') ∧
    m_layOut (nI h) (nI w) (nI ab) 0 s = some (bI b, s') ∧ Scr x st st' ∧ ScM s s' ∧ RR x c n B H dn un N1 N2 M N3 st' s' ∧ HdA x h hd st' ∧ LC x st' A ∧ LM s' A ∧ qW A ∧ qB A ∧ (sA A).length ≤ 120 := by
  obtain ⟨hd2, t, pl, st', s', D, E1, E2, S1, S2, R2, L1, L2, X1, X2, X3⟩ := lay2 R hh hw hab
  have e : hd2 = hd := Option.some.inj (D.1.symm.trans hr)
  subst e
  exact ⟨_, _, st', s', E1, E2, S1, S2, R2, hr.scr R.1 S1, L1, L2, X1, X2, X3⟩
theorem ch3 (R : RR x c n B H dn un N1 N2 M N3 st s) {h hd ab : Nat} (hh : h < H) (hr : HdA x h hd st) (hab : Pr ab) : ∃ A w st' s' st2, w ≤ 6 ∧ x_chosenOf x hd (nI (ab / 10000)) (nI (ab % 10000)) st = some (nI w, st') ∧
    m_chosenBy (nI h) (nI ab) 0 s = some (nI w, s') ∧ Scr x st st' ∧ ScM s s' ∧ RR x c n B H dn un N1 N2 M N3 st' s' ∧ HdA x h hd st' ∧ xActs_lay (x + 6) hd (nI w) (nI (ab / 10000)) (nI (ab % 10000)) st' = some (1, st2) ∧ Scr x st st2 ∧ RR x c n B H dn un N1 N2 M N3 st2 s' ∧ HdA x h hd st2 ∧ LC x st2 A ∧ LM s' A ∧ qB A ∧ (sA A).length ≤ 120 := by
  obtain ⟨hd2, t, pl, r1, r2, r3, r4, r5, r6⟩ := R.2.2.1.2.2.2.1 h hh
  have e : hd2 = hd := Option.some.inj (r1.symm.trans hr)
  subst e
  have h6 := R.2.2.1.2.2.1
  have h9 := r6.2.1
  obtain ⟨w, st', s', hw, E1, S1, E2, S2, L2, hb⟩ := ch2 (tb := 0) R.1 R.2.2.2.2.1 r3 r5 r6.1 (by omega) r4 (by omega) (fun _ _ => rfl) (Or.inl ⟨by decide, rfl⟩) hab
  have K1 := S1.k R.1
  obtain ⟨st2, E3, S3, L3⟩ := c_lay (w := w) K1 (r3.scr R.1 S1) r5 r6.1 (by omega) hab hw
  rw [hb] at E3
  obtain ⟨X1, X2, X3⟩ := qL_X (t := t) (pl := pl) (w := w) r6.1 hab
  exact ⟨_, w, st', s', st2, hw, E1, E2, S1, S2, R.scr S1 S2, hr.scr R.1 S1, E3, S1.trans S3, R.scr (S1.trans S3) S2, hr.scr R.1 (S1.trans S3), L3, L2, X2, X3⟩
/-- seconds by the chosen way -/
theorem cs3 (R : RR x c n B H dn un N1 N2 M N3 st s) {h hd ab : Nat} (hh : h < H) (hr : HdA x h hd st) (hab : Pr ab) : ∃ A w st' s', x_chosenSeconds x hd (nI (ab / 10000)) (nI (ab % 10000)) st = some (nI (qSecs (sA A)), st') ∧
    m_chosenBy (nI h) (nI ab) 0 s = some (nI w, s') ∧ m_seconds s' = some (nI (qSecs (sA A))) ∧ Scr x st st' ∧ ScM s s' ∧ RR x c n B H dn un N1 N2 M N3 st' s' ∧ HdA x h hd st' := by
  obtain ⟨A, w, st1, s1, st2, hw, E1, E2, S1, S2, R1, H1, E3, S3, R3, H3, L3, L2, X2, X3⟩ := ch3 R hh hr hab
  refine ⟨A, w, st2, s1, ?_, E2, m_secs L2 X3, S3, S2, R3, H3⟩
  simp only [x_chosenSeconds, gR_b (bf_k R.1.x0), R.1.r9, hz_ob, E1, hz_gd, bf_k R.1.x0, if_true, hz_nn, E3, bf_k R1.1.ka.1, gR_b (bf_k R3.1.x0), R3.1.r9, L3.i.2.1]
theorem hdR (R : RR x c n B H dn un N1 N2 M N3 st s) {h : Nat} (hh : h < H) : ∃ hd, HdA x h hd st ∧ hk_bf [3] st hd = true := by
  obtain ⟨hd, t, pl, r1, r2, r3, r4, r5, r6⟩ := R.2.2.1.2.2.2.1 h hh
  exact ⟨hd, r1, bf_k r3.1.1⟩
theorem hdL (R : RR x c n B H dn un N1 N2 M N3 st s) {h hd : Nat} (hh : h < H) (hr : HdA x h hd st) : hk_lR 6 st (x + 2) (nI h) = some (some hd) := by
  have h6 := R.2.2.1.2.2.1
  rw [lR_k (ty := 6) R.1.k2 (show h < 6 by omega) (by decide), hr]
/-- what was seen, through scratch -/
theorem sn (R : RR x c n B H dn un N1 N2 M N3 st s) {k : Nat} (hk : k < N1) : ∃ e ab te an, Pr ab ∧ te ≤ 9999 ∧ -999999999 ≤ an.toInt ∧ an.toInt ≤ 999999999 ∧ ∀ st' s', Scr x st st' → ScM s s' →
    hk_lR 8 st' (x + 14) (nI k) = some (some e) ∧ hk_bf [13] st' e = true ∧ hk_fI st' 1300 e = nI (ab / 10000) ∧ hk_fI st' 1301 e = nI (ab % 10000) ∧ hk_fI st' 1302 e = nI te ∧ hk_fI st' 1303 e = an ∧
    hm_lI s' 18 40 (nI k) = some (nI ab) ∧ hm_lI s' 19 40 (nI k) = some (nI te) ∧ hm_lI s' 20 40 (nI k) = some an := by
  have hS := R.2.2.2.2.2.1
  have K := R.1
  have h40 := hS.2.2.1
  obtain ⟨e, ab, te, an, q1, q2, q3, q4, q5, q6, q7, q8, q9, qA, qB, qC, qD⟩ := hS.2.2.2 k hk
  refine ⟨e, ab, te, an, q7, q8, q9, qA, fun st' s' S1 S2 => ?_⟩
  have F := S1.1
  have l := K.wk.lt q2
  have nf : ∀ f, 1300 ≤ f → hk_fI st' f e = hk_fI st f e := fun f hf => F.2.2.1 _ _ l (by first | (intros; exact id) | (intros; decide) | (intros; dsimp only; decide) | (intros; omega) | (intros; dsimp only at *; omega) | (intros; dsimp only; omega) | (intros; simp only [nodeI, nodeR, no1, no2] at *; omega) | (intros; simp only [nodeI, nodeR, no1, no2]; omega) | (intros; constructor <;> first | exact id | omega | (dsimp only at *; omega) | (dsimp only; omega)) | (intros; simp_all [no1, no2, nodeI, nodeR]; done))
  refine ⟨?_, ?_, (nf _ (by decide)).trans q3, (nf _ (by decide)).trans q4, (nf _ (by decide)).trans q5, (nf _ (by decide)).trans q6, ?_, ?_, ?_⟩
  · rw [lR_k (ty := 8) ((F.2.1 _ (K.wk.lt K.k14)).trans K.k14) (show k < 40 by omega) (by decide), F.2.2.2.2.2.2.2 _ _ (K.wk.lt K.k14) (fun q => q), q1]
  · exact bf_k ((F.2.1 _ l).trans q2)
  · rw [hml (by omega) (by decide), S2.2.1 18 k rfl, qB]
  · rw [hml (by omega) (by decide), S2.2.1 19 k rfl, qC]
  · rw [hml (by omega) (by decide), S2.2.1 20 k rfl, qD]
theorem snN (R : RR x c n B H dn un N1 N2 M N3 st s) : hk_gI [0] 11 st x = some (nI N1) ∧ hm_I s 33 = nI N1 ∧ N1 ≤ 40 ∧ hk_gR [0] 10 st x = some (some (x + 14)) ∧ hk_gR [0] 9 st x = some (some (x + 6)) ∧ hk_gR [0] 2 st x = some (some (x + 2)) ∧ hk_bf [0] st x = true ∧ hk_bf [2] st (x + 6) = true := by
  have hS := R.2.2.2.2.2.1
  have K := R.1
  exact ⟨by rw [gI_b (bf_k K.x0), hS.1], hS.2.1, hS.2.2.1, by rw [gR_b (bf_k K.x0), K.r10], by rw [gR_b (bf_k K.x0), K.r9], by rw [gR_b (bf_k K.x0), K.r2], bf_k K.x0, bf_k K.ka.1⟩
theorem ap_chosen (p q : Int32) : AP x (x_chosen x p q) (m_chosen p q) := by
  intro c st s hA
  obtain ⟨n, B, H, dn, un, N1, N2, M, N3, R⟩ := hA
  have K := R.1
  have hH := R.2.2.1
  rcases isHead_c K hH p with ⟨h1, h2⟩ | ⟨h1, h2, h, hh, rfl⟩
  · exact ⟨-1, st, s, by simp only [x_chosen, h1, hz_ob, hz_gd, bf_k K.x0, if_true], by simp only [m_chosen, h2, hz_ob, if_true], R.ra, Mk.rf⟩
  · rcases isAsk_c q with ⟨q1, q2⟩ | ⟨q1, q2, ab, rfl, hab⟩
    · exact ⟨-1, st, s, by simp only [x_chosen, h1, hz_ob, hz_gd, bf_k K.x0, if_true, show ¬ (1 : Int32) = 0 by decide, if_false, q1], by simp only [m_chosen, h2, hz_ob, show ¬ (1 : Int32) = 0 by decide, if_false, q2, if_true], R.ra, Mk.rf⟩
    · obtain ⟨hd, hr, hb⟩ := hdR R hh
      obtain ⟨A, w, st1, s1, st2, hw, E1, E2, S1, S2, R1, H1, -⟩ := ch3 R hh hr hab
      have e3 := ld_4 hab.1
      have e4 := lm_4 hab.1
      rw [e3] at e4
      refine ⟨nI w, st1, s1, ?_, ?_, R1.ra, S1.mk K⟩
      · simp only [x_chosen, h1, hz_ob, hz_gd, bf_k K.x0, if_true, show ¬ (1 : Int32) = 0 by decide, if_false, q1, (snN R).2.2.2.2.2.1, hz_nn, hdL R hh hr, e3, e4, E1]
      · simp only [m_chosen, h2, hz_ob, show ¬ (1 : Int32) = 0 by decide, if_false, q2, E2]
theorem jabs_m (a : Int32) : j_abs_i a = m_size a := rfl
theorem diff_L {h hd : Nat} {w : Nat} (hh : h < H) (hw : w ≤ 7) :
    ∀ m f k v st s, m < f → k + m = N1 → RR x c n B H dn un N1 N2 M N3 st s → HdA x h hd st → ∃ r st' s', x_differs_L5 x hd (nI w) (fun (v4 : Int32) (s5 : hk_St) => some (v4, s5)) f v (nI k) st = some (r, st') ∧ m_offSum_L5 (nI h) (nI w) (fun (v4 : Int32) (s5 : hk_Ms) => some (v4, s5)) f v (nI k) s = some (r, s') ∧ Scr x st st' ∧ RR x c n B H dn un N1 N2 M N3 st' s' ∧ HdA x h hd st' := by
  intro m
  induction m with
  | zero =>
    intro f k v st s hf hk R hr
    obtain ⟨f, rfl⟩ : ∃ g, f = g + 1 := ⟨f - 1, by omega⟩
    have : k = N1 := by omega
    subst this
    refine ⟨v, st, s, ?_, ?_, Scr.rf R.1.wk R.1.li, R, hr⟩
    · show x_differs_L5b _ _ _ _ _ _ _ _ = _
      simp only [x_differs_L5b, hz_nm, (snN R).1, hz_ob, Int32.le_refl, if_true]
    · show m_offSum_L5b _ _ _ _ _ _ _ = _
      simp only [m_offSum_L5b, hz_nm, (snN R).2.1, Int32.le_refl, if_true]
  | succ m ih =>
    intro f k v st s hf hk R hr
    obtain ⟨f, rfl⟩ : ∃ g, f = g + 1 := ⟨f - 1, by omega⟩
    have hk1 : k < N1 := by omega
    obtain ⟨e, ab, te, an, hab, hte, ha1, ha2, hsn⟩ := sn R hk1
    have h40 := (snN R).2.2.1
    obtain ⟨a1, a2, a3, a4, a5, a6, a7, a8, a9⟩ := hsn st s (Scr.rf R.1.wk R.1.li) ScM.rf
    obtain ⟨z1, z2, z3, z4, z5, z6, z7, z8⟩ := snN R
    have n0 : ¬ nI N1 ≤ nI k := nI_ge hk1 (by omega)
    show ∃ r st' s', x_differs_L5b _ _ _ _ (x_differs_L5 x hd (nI w) _ f) _ _ _ = _ ∧ m_offSum_L5b _ _ _ (m_offSum_L5 (nI h) (nI w) _ f) _ _ _ = _ ∧ _
    by_cases h7 : w = 7
    · subst h7
      obtain ⟨A, w2, st1, s1, st2, hw2, E1, E2, S1, S2, R1, H1, E3, S3, R3, H3, L3, L2, X2, X3⟩ := ch3 R hh hr hab
      obtain ⟨b1, b2, b3, b4, b5, b6, b7, b8, b9⟩ := hsn st1 s1 S1 S2
      obtain ⟨c1, c2, c3, c4, c5, c6, c7, c8, c9⟩ := hsn st2 s1 S3 S2
      obtain ⟨y1, y2, y3, y4, y5, y6, y7, y8⟩ := snN R1
      obtain ⟨x1, x2, x3, x4, x5, x6, x7, x8⟩ := snN R3
      obtain ⟨r, st', s', i1, i2, i3, i4, i5⟩ := ih f (k + 1) (v + m_size (nI (qSecs (sA A)) - nI te)) st2 s1 (by omega) (by omega) R3 H3
      refine ⟨r, st', s', ?_, ?_, S3.trans i3, i4, i5⟩
      · simp only [x_differs_L5b, hz_nm, z1, hz_ob, n0, if_false, show nI 7 = (7 : Int32) from rfl, if_true, z4, hz_nn, a1, gI_b a2, a3, a4, E1, hz_gd, z7, y5, y4, b1, gI_b b2, b3, b4, E3, y8, show ¬ (1 : Int32) = 0 by decide, x5, L3.i.2.1, x4, c1, gI_b c2, c5, jabs_m, nI_1]
        exact i1
      · simp only [m_offSum_L5b, hz_nm, z2, n0, if_false, show nI 7 = (7 : Int32) from rfl, if_true, a7, hz_ob, E2, show ¬ (1 : Int32) = 0 by decide, m_secs L2 X3, c8, nI_1]
        exact i2
    · have n7 : ¬ nI w = (7 : Int32) := fun q => h7 ((nI_eq (b := 7) (by omega) (by decide)).mp q)
      obtain ⟨A, b, st1, s1, E1, E2, S1, S2, R1, H1, L1, L2, X1, X2, X3⟩ := lay3 R hh hr (show w ≤ 6 by omega) hab
      obtain ⟨c1, c2, c3, c4, c5, c6, c7, c8, c9⟩ := hsn st1 s1 S1 S2
      obtain ⟨y1, y2, y3, y4, y5, y6, y7, y8⟩ := snN R1
      cases b with
      | false =>
        refine ⟨-1, st1, s1, ?_, ?_, S1, R1, H1⟩
        · simp only [x_differs_L5b, hz_nm, z1, hz_ob, n0, if_false, n7, z4, z5, hz_nn, a1, gI_b a2, a3, a4, E1, hz_gd, z8, if_true, show bI false = 0 from rfl]
        · simp only [m_offSum_L5b, hz_nm, z2, n0, if_false, n7, a7, hz_ob, E2, show bI false = 0 from rfl, if_true]
      | true =>
        obtain ⟨r, st', s', i1, i2, i3, i4, i5⟩ := ih f (k + 1) (v + m_size (nI (qSecs (sA A)) - nI te)) st1 s1 (by omega) (by omega) R1 H1
        refine ⟨r, st', s', ?_, ?_, S1.trans i3, i4, i5⟩
        · simp only [x_differs_L5b, hz_nm, z1, hz_ob, n0, if_false, n7, z4, z5, hz_nn, a1, gI_b a2, a3, a4, E1, hz_gd, z8, if_true, show bI true = 1 from rfl, show ¬ (1 : Int32) = 0 by decide, y5, L1.i.2.1, y4, c1, gI_b c2, c5, jabs_m, nI_1]
          exact i1
        · simp only [m_offSum_L5b, hz_nm, z2, n0, if_false, n7, a7, hz_ob, E2, show bI true = 1 from rfl, show ¬ (1 : Int32) = 0 by decide, m_secs L2 X3, c8, nI_1]
          exact i2
theorem best_L {h hd : Nat} {v : Int32} (hh : h < H) {eC : Int32 → Int32 → hk_St → Option (Int32 × hk_St)} {eM : Int32 → Int32 → hk_Ms → Option (Int32 × hk_Ms)} :
    ∀ m f w b l st s, m < f → w + m = 8 → RR x c n B H dn un N1 N2 M N3 st s → HdA x h hd st → ∃ b2 l2 st' s', x_best_L37 x (nI h) v eC f b l (nI w) st = eC b2 l2 st' ∧ m_best_L38 (nI h) v eM f b l (nI w) s = eM b2 l2 s' ∧ Scr x st st' ∧ RR x c n B H dn un N1 N2 M N3 st' s' := by
  intro m
  induction m with
  | zero =>
    intro f w b l st s hf hw R hr
    obtain ⟨f, rfl⟩ : ∃ g, f = g + 1 := ⟨f - 1, by omega⟩
    have : w = 8 := by omega
    subst this
    refine ⟨b, l, st, s, ?_, ?_, Scr.rf R.1.wk R.1.li, R⟩
    · show x_best_L37b _ _ _ _ _ _ _ _ _ = _
      simp only [x_best_L37b, show (7 : Int32) < nI 8 by decide, if_true]
    · show m_best_L38b _ _ _ _ _ _ _ _ = _
      simp only [m_best_L38b, show (7 : Int32) < nI 8 by decide, if_true]
  | succ m ih =>
    intro f w b l st s hf hw R hr
    obtain ⟨f, rfl⟩ : ∃ g, f = g + 1 := ⟨f - 1, by omega⟩
    have n7 : ¬ (7 : Int32) < nI w := nI_nlt (a := 7) (by omega) (by decide)
    have h40 := (snN R).2.2.1
    obtain ⟨z1, z2, z3, z4, z5, z6, z7, z8⟩ := snN R
    obtain ⟨r, st1, s1, E1, E2, S1, R1, H1⟩ := diff_L (x := x) (c := c) (n := n) (B := B) (dn := dn) (un := un) (N2 := N2) (M := M) (N3 := N3) (w := w) hh (by omega) N1 hk_F 0 0 st s (pw_F (by omega)) (by omega) R hr
    have E1 : x_differs x hd (nI w) st = some (r, st1) := E1
    have E2 : m_offSum (nI h) (nI w) s = some (r, s1) := E2
    have go : ∀ b' l', ∃ b2 l2 st' s', x_best_L37 x (nI h) v eC f b' l' (nI (w + 1)) st1 = eC b2 l2 st' ∧ m_best_L38 (nI h) v eM f b' l' (nI (w + 1)) s1 = eM b2 l2 s' ∧ Scr x st st' ∧ RR x c n B H dn un N1 N2 M N3 st' s' := by
      intro b' l'
      obtain ⟨b2, l2, st', s', i1, i2, i3, i4⟩ := ih f (w + 1) b' l' st1 s1 (by omega) (by omega) R1 H1
      exact ⟨b2, l2, st', s', i1, i2, S1.trans i3, i4⟩
    show ∃ b2 l2 st' s', x_best_L37b _ _ _ _ (x_best_L37 x (nI h) v eC f) _ _ _ _ = _ ∧ m_best_L38b _ _ _ (m_best_L38 (nI h) v eM f) _ _ _ _ = _ ∧ _
    simp only [x_best_L37b, m_best_L38b, n7, if_false, z6, hz_ob, hz_nn, hdL R hh hr, E1, E2, hz_gd, z7, if_true, hz_nm, nI_1]
    by_cases c1 : r < 0
    · simp only [c1, if_true]; exact go b l
    · simp only [c1, if_false]
      by_cases c2 : b < 0
      · simp only [c2, if_true]; exact go _ _
      · simp only [c2, if_false]
        by_cases c3 : r < l
        · have c4 : ¬ l ≤ r := Int32.not_le.mpr c3
          simp only [c3, c4, if_true, if_false]; exact go _ _
        · have c4 : l ≤ r := Int32.not_lt.mp c3
          simp only [c3, c4, if_true, if_false]; exact go _ _
theorem ap_best (p v : Int32) : AP x (x_best x p v) (m_best p v) := by
  intro c st s hA
  obtain ⟨n, B, H, dn, un, N1, N2, M, N3, R⟩ := hA
  have K := R.1
  rcases isHead_c K R.2.2.1 p with ⟨h1, h2⟩ | ⟨h1, h2, h, hh, rfl⟩
  · exact ⟨-1, st, s, by simp only [x_best, h1, hz_ob, hz_gd, bf_k K.x0, if_true], by simp only [m_best, h2, hz_ob, if_true], R.ra, Mk.rf⟩
  · have wv : m_within v.toInt64 (0 : Int64) (1 : Int64) = x_in v 0 1 := wi (b := 0) (c := 1) (by decide) (by decide)
    obtain ⟨z1, z2, z3, z4, z5, z6, z7, z8⟩ := snN R
    rcases in_z v 0 1 with v1 | ⟨v1, -, -⟩
    · exact ⟨-1, st, s, by simp only [x_best, h1, hz_ob, hz_gd, bf_k K.x0, if_true, show ¬ (1 : Int32) = 0 by decide, if_false, v1], by simp only [m_best, h2, hz_ob, show ¬ (1 : Int32) = 0 by decide, if_false, wv, v1, if_true], R.ra, Mk.rf⟩
    · by_cases hN : N1 = 0
      · subst hN
        exact ⟨-5, st, s, by simp only [x_best, h1, hz_ob, hz_gd, bf_k K.x0, if_true, show ¬ (1 : Int32) = 0 by decide, if_false, v1, z1, show nI 0 = (0 : Int32) from rfl], by simp only [m_best, h2, hz_ob, show ¬ (1 : Int32) = 0 by decide, if_false, wv, v1, if_true, z2, show nI 0 = (0 : Int32) from rfl], R.ra, Mk.rf⟩
      · have n0 : ¬ nI N1 = (0 : Int32) := fun q => hN ((li_eq0 (by omega)).mp q)
        obtain ⟨hd, hr, hb⟩ := hdR R hh
        obtain ⟨b2, l2, st', s', E1, E2, S1, R1⟩ := best_L (x := x) (v := v) (eC := fun (v11 : Int32) (v12 : Int32) (s13 : hk_St) =>
          if v = 0 then
            some (v11, s13)
          else
          some (v12, s13)) (eM := fun (v9 : Int32) (v10 : Int32) (s11 : hk_Ms) =>
          if v = 0 then
            some (v9, s11)
          else
          some (v10, s11)) hh 8 hk_F 0 (-1) 0 st s (pw_F (by decide)) rfl R hr
        rw [nI_0] at E1 E2
        refine ⟨if v = 0 then b2 else l2, st', s', ?_, ?_, R1.ra, S1.mk K⟩
        · simp only [x_best, h1, hz_ob, hz_gd, bf_k K.x0, if_true, show ¬ (1 : Int32) = 0 by decide, if_false, v1, z1, n0, E1]
          split <;> rfl
        · simp only [m_best, h2, hz_ob, show ¬ (1 : Int32) = 0 by decide, if_false, wv, v1, z2, n0, E2]
          split <;> rfl
theorem suit_L {h hd : Nat} (hh : h < H) {eC : Int32 → hk_St → Option (Int32 × hk_St)} {eM : Int32 → hk_Ms → Option (Int32 × hk_Ms)} :
    ∀ m f k v st s, m < f → k + m = N1 → RR x c n B H dn un N1 N2 M N3 st s → HdA x h hd st → ∃ r st' s', x_suits_L24 x (nI h) eC f v (nI k) st = eC r st' ∧ m_suits_L24 (nI h) eM f v (nI k) s = eM r s' ∧ Scr x st st' ∧ RR x c n B H dn un N1 N2 M N3 st' s' := by
  intro m
  induction m with
  | zero =>
    intro f k v st s hf hk R hr
    obtain ⟨f, rfl⟩ : ∃ g, f = g + 1 := ⟨f - 1, by omega⟩
    have : k = N1 := by omega
    subst this
    refine ⟨v, st, s, ?_, ?_, Scr.rf R.1.wk R.1.li, R⟩
    · show x_suits_L24b _ _ _ _ _ _ _ = _
      simp only [x_suits_L24b, (snN R).1, hz_ob, Int32.le_refl, if_true]
    · show m_suits_L24b _ _ _ _ _ _ = _
      simp only [m_suits_L24b, (snN R).2.1, Int32.le_refl, if_true]
  | succ m ih =>
    intro f k v st s hf hk R hr
    obtain ⟨f, rfl⟩ : ∃ g, f = g + 1 := ⟨f - 1, by omega⟩
    have hk1 : k < N1 := by omega
    obtain ⟨e, ab, te, an, hab, hte, ha1, ha2, hsn⟩ := sn R hk1
    have h40 := (snN R).2.2.1
    obtain ⟨a1, a2, a3, a4, a5, a6, a7, a8, a9⟩ := hsn st s (Scr.rf R.1.wk R.1.li) ScM.rf
    obtain ⟨z1, z2, z3, z4, z5, z6, z7, z8⟩ := snN R
    have n0 : ¬ nI N1 ≤ nI k := nI_ge hk1 (by omega)
    obtain ⟨A, w, st1, s1, E1, E2, E3, S1, S2, R1, H1⟩ := cs3 R hh hr hab
    obtain ⟨b1, b2, b3, b4, b5, b6, b7, b8, b9⟩ := hsn st1 s1 S1 S2
    obtain ⟨y1, y2, y3, y4, y5, y6, y7, y8⟩ := snN R1
    obtain ⟨A2, b, st2, s2, F1, F2, T1, T2, R2, H2, L1, L2, X1, X2, X3⟩ := lay3 R1 hh H1 (show 1 ≤ 6 by decide) hab
    obtain ⟨x1, x2, x3, x4, x5, x6, x7, x8⟩ := snN R2
    rw [nI1] at F1 F2
    have go : ∀ v', ∃ r st' s', x_suits_L24 x (nI h) eC f v' (nI (k + 1)) st2 = eC r st' ∧ m_suits_L24 (nI h) eM f v' (nI (k + 1)) s2 = eM r s' ∧ Scr x st st' ∧ RR x c n B H dn un N1 N2 M N3 st' s' := by
      intro v'
      obtain ⟨r, st', s', i1, i2, i3, i4⟩ := ih f (k + 1) v' st2 s2 (by omega) (by omega) R2 H2
      exact ⟨r, st', s', i1, i2, (S1.trans T1).trans i3, i4⟩
    show ∃ r st' s', x_suits_L24b _ _ _ (x_suits_L24 x (nI h) eC f) _ _ _ = _ ∧ m_suits_L24b _ _ (m_suits_L24 (nI h) eM f) _ _ _ = _ ∧ _
    simp only [x_suits_L24b, m_suits_L24b, z1, z2, n0, if_false, z6, z4, hz_ob, hz_nn, hdL R hh hr, a1, gI_b a2, a3, a4, a7, E1, E2, E3, hz_gd, z7, if_true, y5, y6, y4, hdL R1 hh H1, b1, gI_b b2, b3, b4, b7, F1, F2, y8, x5, L1.i.2.1, m_secs L2 X3, hz_nm, nI_1]
    by_cases c1 : nI (qSecs (sA A2)) / (2 : Int32) < nI (qSecs (sA A))
    · simp only [c1, if_true]; exact go _
    · simp only [c1, if_false]; exact go _
theorem ap_suits (p : Int32) : AP x (x_suits x p) (m_suits p) := by
  intro c st s hA
  obtain ⟨n, B, H, dn, un, N1, N2, M, N3, R⟩ := hA
  have K := R.1
  rcases isHead_c K R.2.2.1 p with ⟨h1, h2⟩ | ⟨h1, h2, h, hh, rfl⟩
  · exact ⟨-1, st, s, by simp only [x_suits, h1, hz_ob, hz_gd, bf_k K.x0, if_true], by simp only [m_suits, h2, hz_ob, if_true], R.ra, Mk.rf⟩
  · obtain ⟨z1, z2, z3, z4, z5, z6, z7, z8⟩ := snN R
    by_cases hN : N1 = 0
    · subst hN
      exact ⟨-5, st, s, by simp only [x_suits, h1, hz_ob, hz_gd, bf_k K.x0, if_true, show ¬ (1 : Int32) = 0 by decide, if_false, z1, show nI 0 = (0 : Int32) from rfl], by simp only [m_suits, h2, hz_ob, show ¬ (1 : Int32) = 0 by decide, if_false, z2, show nI 0 = (0 : Int32) from rfl, if_true], R.ra, Mk.rf⟩
    · have n0 : ¬ nI N1 = (0 : Int32) := fun q => hN ((li_eq0 (by omega)).mp q)
      obtain ⟨hd, hr, hb⟩ := hdR R hh
      obtain ⟨r, st', s', E1, E2, S1, R1⟩ := suit_L (x := x) (eC := fun (v9 : Int32) (s10 : hk_St) =>
        (hk_gI [0] 11 s10 x).bind fun x55 =>
        hk_gd (decide (¬ x55 = 0)) <|
        some (((1000 : Int32) * v9) / x55, s10)) (eM := fun (v7 : Int32) (s8 : hk_Ms) =>
        hk_gd (decide (¬ (hm_I s8 33) = 0)) <|
        some (((1000 : Int32) * v7) / (hm_I s8 33), s8)) hh N1 hk_F 0 0 st s (pw_F (by omega)) (by omega) R hr
      rw [nI_0] at E1 E2
      obtain ⟨y1, y2, y3, y4, y5, y6, y7, y8⟩ := snN R1
      refine ⟨((1000 : Int32) * r) / nI N1, st', s', ?_, ?_, R1.ra, S1.mk K⟩
      · simp only [x_suits, h1, hz_ob, gdT z7, show ¬ (1 : Int32) = 0 by decide, if_false, z1, n0]
        rw [E1]
        simp only [y1, hz_ob, n0, not_false_eq_true, decide_true, hz_gd, if_true]
      · simp only [m_suits, h2, hz_ob, show ¬ (1 : Int32) = 0 by decide, if_false, z2, n0]
        rw [E2]
        simp only [y2, n0, not_false_eq_true, decide_true, hz_gd, if_true]
end S2A3
