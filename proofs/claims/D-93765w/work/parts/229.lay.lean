set_option maxRecDepth 100000
/-! ===== STAGE 2: the API: a way laid on both sides ===== -/
def bI (b : Bool) : Int32 := if b = true then 1 else 0
def qL (t : Nat → Nat) (pl : List qP) (w ab : Nat) : Bool × qS := qLay t (qKn (t 3) pl (ab / 10000) (ab % 10000)) w (ab / 10000) (ab % 10000)
theorem Pr.nd {ab : Nat} (h : Pr ab) : nd (ab / 10000) ≤ 4 ∧ nd (ab % 10000) ≤ 4 ∧ ab / 10000 ≠ 0 ∧ ab % 10000 ≠ 0 := by
  have hm : ab % 10000 < 10000 := Nat.mod_lt _ (by decide)
  obtain ⟨h1, h2, h3, h4⟩ := h
  exact ⟨nd_bnd 4 _ (by omega), nd_bnd 4 _ (by omega), by omega, by omega⟩
theorem qL_X {t : Nat → Nat} {pl : List qP} {w ab : Nat} (ht : ∀ i, t i ≤ 99) (h : Pr ab) : qW (qL t pl w ab).2 ∧ qB (qL t pl w ab).2 ∧ (sA (qL t pl w ab).2).length ≤ 120 := qLay_X ht h.nd.1 h.nd.2.1 h.nd.2.2.1 h.nd.2.2.2
/-- the class's acts that lie there -/
def LC (x : Nat) (st : hk_St) (A : qS) : Prop := ∃ st0 u hd g, st = hk_aU (x + 6) st0 u ∧ hk_KA (x + 6) st0 ∧ RU u A hd g
/-- the reference's -/
def LM (s : hk_Ms) (A : qS) : Prop := ∃ s0 h t g, RM s0 s A h t g
section S2LA
variable {x w ab h hd M : Nat} {t : Nat → Nat} {pl : List qP} {st : hk_St} {s : hk_Ms} {A : qS}
theorem c_lay (K : RK x st) (C : CH st hd t pl M) (hv : Pv pl) (ht : ∀ i, t i ≤ 99) (ht3 : 0 < t 3) (hab : Pr ab) (hw : w ≤ 6) :
    ∃ st', xActs_lay (x + 6) hd (nI w) (nI (ab / 10000)) (nI (ab % 10000)) st = some (bI (qL t pl w ab).1, st') ∧ Scr x st st' ∧ LC x st' (qL t pl w ab).2 := by
  have hm : ab % 10000 < 10000 := Nat.mod_lt _ (by decide)
  have hq := hab.2.2.1
  obtain ⟨u', g', E, R⟩ := qx_lay (ac := x + 6) (st := st) (u := uOf x st) (hd := hd) (td := hd + 1) (t := t) (a := ab / 10000) (b := ab % 10000) (w := w) (kn := qKn (t 3) pl (ab / 10000) (ab % 10000)) K.ka C.1 ht ht3 hab.nd.1 hab.nd.2.1 hab.nd.2.2.1 hab.nd.2.2.2 hw (fun u =>
    qx_knows (C.fr2 (Scr.aU (u := u) K.wk K.li).1 K.wk (by first | (intros; exact id) | (intros; decide) | (intros; dsimp only; decide) | (intros; omega) | (intros; dsimp only at *; omega) | (intros; dsimp only; omega) | (intros; simp only [nodeI, nodeR, no1, no2] at *; omega) | (intros; simp only [nodeI, nodeR, no1, no2]; omega) | (intros; constructor <;> first | exact id | omega | (dsimp only at *; omega) | (dsimp only; omega)) | (intros; simp_all [no1, no2, nodeI, nodeR]; done)) (by first | (intros; exact id) | (intros; decide) | (intros; dsimp only; decide) | (intros; omega) | (intros; dsimp only at *; omega) | (intros; dsimp only; omega) | (intros; simp only [nodeI, nodeR, no1, no2] at *; omega) | (intros; simp only [nodeI, nodeR, no1, no2]; omega) | (intros; constructor <;> first | exact id | omega | (dsimp only at *; omega) | (dsimp only; omega)) | (intros; simp_all [no1, no2, nodeI, nodeR]; done)) (by first | (intros; exact id) | (intros; decide) | (intros; dsimp only; decide) | (intros; omega) | (intros; dsimp only at *; omega) | (intros; dsimp only; omega) | (intros; simp only [nodeI, nodeR, no1, no2] at *; omega) | (intros; simp only [nodeI, nodeR, no1, no2]; omega) | (intros; constructor <;> first | exact id | omega | (dsimp only at *; omega) | (dsimp only; omega)) | (intros; simp_all [no1, no2, nodeI, nodeR]; done)) (by first | (intros; exact id) | (intros; decide) | (intros; dsimp only; decide) | (intros; omega) | (intros; dsimp only at *; omega) | (intros; dsimp only; omega) | (intros; simp only [nodeI, nodeR, no1, no2] at *; omega) | (intros; simp only [nodeI, nodeR, no1, no2]; omega) | (intros; constructor <;> first | exact id | omega | (dsimp only at *; omega) | (dsimp only; omega)) | (intros; simp_all [no1, no2, nodeI, nodeR]; done)) (by
      rintro (q | q)
      · have h1 := C.1.2.2.1; rw [q, K.fc.2.2] at h1; cases h1
      · have h1 := C.1.2.2.1
        have h2 := K.ka.2.1 (hd + 1 - (x + 7)) (by omega)
        rw [show x + 6 + (hd + 1 - (x + 7) + 1) = hd + 1 by omega, h1] at h2
        cases h2) (by first | (intros; exact id) | (intros; decide) | (intros; dsimp only; decide) | (intros; omega) | (intros; dsimp only at *; omega) | (intros; dsimp only; omega) | (intros; simp only [nodeI, nodeR, no1, no2] at *; omega) | (intros; simp only [nodeI, nodeR, no1, no2]; omega) | (intros; constructor <;> first | exact id | omega | (dsimp only at *; omega) | (dsimp only; omega)) | (intros; simp_all [no1, no2, nodeI, nodeR]; done))) hv (ht 3) (by omega) (by omega))
  rw [aU_of] at E
  exact ⟨_, E, Scr.aU K.wk K.li, st, u', hd, g', rfl, K.ka, R⟩
theorem m_lay {t0 : Nat → Nat} {tb : Int32} (D : MHd s h t0 pl) (hv : Pv pl) (hh : h < 6) (ht : ∀ i, t i ≤ 99) (ht0 : ∀ i, i ≠ 3 → t0 i = t i) (htb : (tb ≤ 0 ∧ t0 3 = t 3) ∨ (¬ tb ≤ 0 ∧ tb = nI (t 3))) (hab : Pr ab) (hw : w ≤ 6) :
    ∃ s', m_layOut (nI h) (nI w) (nI ab) tb s = some (bI (qL t pl w ab).1, s') ∧ ScM s s' ∧ LM s' (qL t pl w ab).2 := by
  have hm : ab % 10000 < 10000 := Nat.mod_lt _ (by decide)
  have hq := hab.2.2.1
  obtain ⟨s', g', E, R⟩ := qm_layOut (s0 := s) (h := h) (t := t) (a := ab / 10000) (b := ab % 10000) (w := w) (ab := ab) (kn := qKn (t 3) pl (ab / 10000) (ab % 10000)) (tb := tb) hh ht (fun i hi => by rw [D.1 i (by omega), ht0 i (by omega)])
    (by
      rcases htb with ⟨h1, h2⟩ | ⟨h1, h2⟩
      · exact Or.inl ⟨h1, by rw [D.1 3 (by decide), h2]⟩
      · exact Or.inr ⟨h1, h2⟩) hab.1 rfl rfl hab.nd.1 hab.nd.2.1 hab.nd.2.2.1 hab.nd.2.2.2 hw (fun s1 hs h30 h31 =>
      qm_known (D.fr hs.fr hv.1 (fun i _ => (by first | (intros; exact id) | (intros; decide) | (intros; dsimp only; decide) | (intros; omega) | (intros; dsimp only at *; omega) | (intros; dsimp only; omega) | (intros; simp only [nodeI, nodeR, no1, no2] at *; omega) | (intros; simp only [nodeI, nodeR, no1, no2]; omega) | (intros; constructor <;> first | exact id | omega | (dsimp only at *; omega) | (dsimp only; omega)) | (intros; simp_all [no1, no2, nodeI, nodeR]; done))) (by first | (intros; exact id) | (intros; decide) | (intros; dsimp only; decide) | (intros; omega) | (intros; dsimp only at *; omega) | (intros; dsimp only; omega) | (intros; simp only [nodeI, nodeR, no1, no2] at *; omega) | (intros; simp only [nodeI, nodeR, no1, no2]; omega) | (intros; constructor <;> first | exact id | omega | (dsimp only at *; omega) | (dsimp only; omega)) | (intros; simp_all [no1, no2, nodeI, nodeR]; done)) (fun k _ => by constructor <;> decide)) hv hh h30 h31 (ht 3) (by omega) (by omega))
  exact ⟨s', E, R.1, s, h, t, g', R⟩
-- what is read of the class's
theorem LC.i (L : LC x st A) : hk_gI [2] 206 st (x + 6) = some (nI (sA A).length) ∧ hk_gI [2] 208 st (x + 6) = some (nI (qSecs (sA A))) ∧ hk_gI [2] 209 st (x + 6) = some (nI (qMost (sA A))) := by
  obtain ⟨st0, u, hd, g, rfl, K, R⟩ := L
  have g6 := aU_gI (u := u) K 6
  have g8 := aU_gI (u := u) K 8
  have g9 := aU_gI (u := u) K 9
  exact ⟨g6.trans (by rw [R.1]), g8.trans (by rw [R.2.2.1]), g9.trans (by rw [R.2.2.2.1])⟩
theorem LC.r (L : LC x st A) : (∀ j, j < 6 → hk_gR [2] (200 + j) st (x + 6) = some (some (x + 6 + (j + 1)))) ∧ ∀ i r, (sA A)[i]? = some r → i < 120 →
    hk_lI 0 st (x + 7) (nI i) = some (nI (aSo r)) ∧ hk_lI 0 st (x + 8) (nI i) = some (nI (aLe r)) ∧ hk_lI 0 st (x + 9) (nI i) = some (nI (aHe r)) ∧ hk_lL st (x + 10) (nI i) = some (lN (aV r)) ∧ hk_lL st (x + 11) (nI i) = some (lN (aSl r)) ∧ hk_lL st (x + 12) (nI i) = some (lN (10 ^ aPl r)) := by
  obtain ⟨st0, u, hd, g, rfl, K, R⟩ := L
  refine ⟨fun j hj => aU_gR K hj, fun i r hi hl => ?_⟩
  obtain ⟨q1, q2, q3, q4, q5, q6⟩ := R.2.2.2.2.2.2.2.2.2 i r hi
  exact ⟨(aU_lI K (j := 0) (by decide) hl).trans (by rw [q1]), (aU_lI K (j := 1) (by decide) hl).trans (by rw [q2]), (aU_lI K (j := 2) (by decide) hl).trans (by rw [q3]), (aU_lL K (j := 0) (by decide) hl).trans (by rw [q4]), (aU_lL K (j := 1) (by decide) hl).trans (by rw [q5]), (aU_lL K (j := 2) (by decide) hl).trans (by rw [q6])⟩
-- what is read of the reference's
theorem LM.n (L : LM s A) : hm_I s 21 = nI (sA A).length := by obtain ⟨s0, h, t, g, R⟩ := L; exact R.2.1
theorem LM.r (L : LM s A) {i : Nat} {r : qA} (h : (sA A)[i]? = some r) : hm_A s 11 i = nI (aSo r) ∧ hm_A s 12 i = nI (aV r) ∧ hm_A s 13 i = nI (aLe r) ∧ hm_A s 14 i = nI (aHe r) ∧ hm_A s 15 i = nI (aSl r * 10 ^ aPl r) ∧ hm_A s 16 i = nI (if aSo r = 1 then aPl r else 0) := by
  obtain ⟨s0, h', t, g, R⟩ := L; exact R.2.2.2.2.2.2.2 i r h
theorem m_secs (L : LM s A) (hl : (sA A).length ≤ 120) : m_seconds s = some (nI (qSecs (sA A))) := by
  have key : ∀ l pre f, sA A = pre ++ l → l.length < f → m_seconds_L4 s (fun v3 => some v3) f (nI (qSecs pre)) (nI pre.length) = some (nI (qSecs (sA A))) := by
    intro l
    induction l with
    | nil =>
      intro pre f he hf
      obtain ⟨f, rfl⟩ : ∃ g, f = g + 1 := ⟨f - 1, by omega⟩
      rw [List.append_nil] at he
      show m_seconds_L4b _ _ _ _ _ = _
      simp only [m_seconds_L4b, L.n, he, Int32.le_refl, if_true]
    | cons r l ih =>
      intro pre f he hf
      obtain ⟨f, rfl⟩ : ∃ g, f = g + 1 := ⟨f - 1, by omega⟩
      have hlen : pre.length < (sA A).length := by rw [he]; simp
      have hr : (sA A)[pre.length]? = some r := by rw [he]; simp
      simp only [List.length_cons] at hf
      show m_seconds_L4b _ _ (m_seconds_L4 s _ f) _ _ = _
      simp only [m_seconds_L4b, L.n, nI_ge hlen (show (sA A).length < 2 ^ 31 by omega), if_false, hml (show pre.length < 200 by omega) (show 200 < 2 ^ 31 by decide), (L.r hr).2.2.1, hz_ob, hz_nm, nI_add, nI_1]
      have := ih (pre ++ [r]) f (by rw [he]; simp) (by omega)
      rw [qSecs_ap, List.length_append, List.length_singleton] at this
      exact this
  exact key (sA A) [] hk_F rfl (pw_F (by omega))
theorem m_most (L : LM s A) (hl : (sA A).length ≤ 120) (B : qB A) : m_mostHeld s = some (nI (qMost (sA A))) := by
  have hmx : ∀ l : List qA, ∀ r, r ∈ l → aHe r ≤ qMost l := by
    intro l
    induction l with
    | nil => intro r hr; simp at hr
    | cons a l ih =>
      intro r hr
      rw [qMost]
      rcases List.mem_cons.mp hr with q | q
      · subst q; exact Nat.le_max_left _ _
      · exact Nat.le_trans (ih r q) (Nat.le_max_right _ _)
  have hB : qMost (sA A) ≤ 3000 := by have := B.2.1; omega
  have key : ∀ l pre f, sA A = pre ++ l → l.length < f → qMost pre ≤ 3000 → m_mostHeld_L4 s (fun v3 => some v3) f (nI (qMost pre)) (nI pre.length) = some (nI (qMost (sA A))) := by
    intro l
    induction l with
    | nil =>
      intro pre f he hf _
      obtain ⟨f, rfl⟩ : ∃ g, f = g + 1 := ⟨f - 1, by omega⟩
      rw [List.append_nil] at he
      show m_mostHeld_L4b _ _ _ _ _ = _
      simp only [m_mostHeld_L4b, L.n, he, Int32.le_refl, if_true]
    | cons r l ih =>
      intro pre f he hf hp
      obtain ⟨f, rfl⟩ : ∃ g, f = g + 1 := ⟨f - 1, by omega⟩
      have hlen : pre.length < (sA A).length := by rw [he]; simp
      have hr : (sA A)[pre.length]? = some r := by rw [he]; simp
      have hrm : aHe r ≤ qMost (sA A) := hmx _ r (by rw [he]; simp)
      simp only [List.length_cons] at hf
      have := ih (pre ++ [r]) f (by rw [he]; simp) (by omega) (by rw [qMost_ap]; omega)
      rw [qMost_ap, List.length_append, List.length_singleton] at this
      show m_mostHeld_L4b _ _ (m_mostHeld_L4 s _ f) _ _ = _
      simp only [m_mostHeld_L4b, L.n, nI_ge hlen (show (sA A).length < 2 ^ 31 by omega), if_false, hml (show pre.length < 200 by omega) (show 200 < 2 ^ 31 by decide), (L.r hr).2.2.2.1, hz_ob, hz_nm, nI_1]
      by_cases hc : aHe r ≤ qMost pre
      · rw [if_pos (nI_le hc (by omega))]
        rw [Nat.max_eq_left hc] at this
        exact this
      · rw [if_neg (nI_ge (by omega) (by omega))]
        rw [Nat.max_eq_right (by omega)] at this
        exact this
  exact key (sA A) [] hk_F rfl (pw_F (by omega)) (by decide)
end S2LA
section S2LB
variable {x c n H dn un N1 N2 M N3 : Nat} {B : Nat → Nat} {st : hk_St} {s : hk_Ms}
/-- a head's way laid for a pair of numbers, on both sides -/
theorem lay2 (R : RR x c n B H dn un N1 N2 M N3 st s) {h w ab : Nat} (hh : h < H) (hw : w ≤ 6) (hab : Pr ab) : ∃ hd t pl st' s', RHd x h hd t pl st s ∧ xActs_lay (x + 6) hd (nI w) (nI (ab / 10000)) (nI (ab % 10000)) st = some (bI (qL t pl w ab).1, st') ∧
    m_layOut (nI h) (nI w) (nI ab) 0 s = some (bI (qL t pl w ab).1, s') ∧ Scr x st st' ∧ ScM s s' ∧ RR x c n B H dn un N1 N2 M N3 st' s' ∧ LC x st' (qL t pl w ab).2 ∧ LM s' (qL t pl w ab).2 ∧ qW (qL t pl w ab).2 ∧ qB (qL t pl w ab).2 ∧ (sA (qL t pl w ab).2).length ≤ 120 := by
  have R' := R
  obtain ⟨K, hT, hH, hG, hL, hS, hO, hP, hB, hTr, hV, hc1, hc2⟩ := R
  have h6 := hH.2.2.1
  obtain ⟨hd, t, pl, r1, r2, r3, r4, r5, r6⟩ := hH.2.2.2.1 h hh
  have h9 := r6.2.1
  obtain ⟨st', E1, S1, L1⟩ := c_lay (w := w) K r3 r5 r6.1 (by omega) hab hw
  obtain ⟨s', E2, S2, L2⟩ := m_lay (w := w) (t := t) (tb := 0) r4 r5 (by omega) r6.1 (fun _ _ => rfl) (Or.inl ⟨by decide, rfl⟩) hab hw
  obtain ⟨X1, X2, X3⟩ := qL_X (t := t) (pl := pl) (w := w) r6.1 hab
  exact ⟨hd, t, pl, st', s', ⟨r1, r2, r3, r4, r5, r6⟩, E1, E2, S1, S2, R'.scr S1 S2, L1, L2, X1, X2, X3⟩
theorem bI_and (b : Bool) : bI b &&& 1 = bI b := by cases b <;> decide
theorem x_lays2 (R : RR x c n B H dn un N1 N2 M N3 st s) {h w ab : Nat} (hh : h < H) (hw : w ≤ 6) (hab : Pr ab) : ∃ A b st' s', x_lays x (nI (10 * h + w)) (nI ab) st = some (bI b, st') ∧
    m_layOut (nI h) (nI w) (nI ab) 0 s = some (bI b, s') ∧ Scr x st st' ∧ ScM s s' ∧ RR x c n B H dn un N1 N2 M N3 st' s' ∧ LC x st' A ∧ LM s' A ∧ qW A ∧ qB A ∧ (sA A).length ≤ 120 := by
  obtain ⟨hd, t, pl, st', s', D, E1, E2, S1, S2, R2, L1, L2, X1, X2, X3⟩ := lay2 R hh hw hab
  have K := R.1
  have h6 := R.2.2.1.2.2.1
  refine ⟨_, _, st', s', ?_, E2, S1, S2, R2, L1, L2, X1, X2, X3⟩
  have e1 : nI (10 * h + w) / (10 : Int32) = nI h := by rw [ld_10 (by omega)]; congr 1; omega
  have e2 := lm_10 (show 10 * h + w < 2 ^ 31 by omega)
  rw [e1, show (10 * h + w) % 10 = w by omega] at e2
  have e3 := ld_4 hab.1
  have e4 := lm_4 hab.1
  rw [e3] at e4
  simp only [x_lays, gR_b (bf_k K.x0), K.r9, K.r2, hz_ob, hz_nn, e1, e2, e3, e4, lR_k (ty := 6) K.k2 (show h < 6 by omega) (by decide), D.1, E1, hz_gd, bf_k K.ka.1, if_true, bI_and, decide_true]
end S2LB
