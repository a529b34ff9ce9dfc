set_option maxRecDepth 100000
/-! ===== STAGE 2: the API: the chosen way ===== -/
theorem nought_K {pC pM : Int32} {eC eM : Int32 → Option Int32} : ∀ f v n, nd v < f → v < 2 ^ 31 → ∃ r, x_noughts_L4 pC eC f n (nI v) = eC r ∧ m_noughtsOf_L4 pM eM f n (nI v) = eM r := by
  intro f
  induction f with
  | zero => intro v n h; omega
  | succ f ih =>
    intro v n h hv
    show ∃ r, x_noughts_L4b pC eC (x_noughts_L4 pC eC f) n (nI v) = _ ∧ m_noughtsOf_L4b pM eM (m_noughtsOf_L4 pM eM f) n (nI v) = _
    by_cases h0 : v = 0
    · refine ⟨n, ?_, ?_⟩
      · simp only [x_noughts_L4b, (li_le0 hv).mpr h0, if_true]
      · simp only [m_noughtsOf_L4b, (li_le0 hv).mpr h0, if_true]
    · have n0 : ¬ nI v ≤ 0 := fun q => h0 ((li_le0 hv).mp q)
      have hd : nd (v / 10) < f := by rw [nd_pos h0] at h; omega
      simp only [x_noughts_L4b, m_noughtsOf_L4b, n0, if_false, ld_10 hv, hz_nm]
      split
      · exact ih _ _ hd (by omega)
      · exact ih _ _ hd (by omega)
theorem nought2 {v : Nat} (hv : v < 2 ^ 31) : ∃ r, x_noughts (nI v) = some r ∧ m_noughtsOf (nI v) = some r := by
  have := nd_31 hv
  obtain ⟨r, h1, h2⟩ := nought_K (pC := nI v) (pM := nI v) (eC := fun v3 => some v3) (eM := fun v3 => some v3) hk_F v 0 (pw_F (by omega)) hv
  exact ⟨r, h1, h2⟩
theorem jabs_nI {a b : Nat} (ha : a < 2 ^ 30) (hb : b < 2 ^ 30) : j_abs_i (nI a - nI b) = m_size (nI a - nI b) := rfl
section S2CH
variable {x h hd M ab : Nat} {t t0 : Nat → Nat} {pl : List qP} {st st1 : hk_St} {s : hk_Ms}
theorem clear_K (k4 : hk_k st (x + 4) = some (1, 0)) (r : hk_fR st 100 (x + 4) = some (x + 5)) (k5 : hk_k st (x + 5) = some (100, 128)) {e0 : hk_St → Option hk_St} :
    ∀ m f k g, m < f → k + m = 128 → ∃ g', xFacts_clear_L2 (x + 4) e0 f (nI k) (hk_rA st (x + 5) g) = e0 (hk_rA st (x + 5) g') := by
  intro m
  induction m with
  | zero =>
    intro f k g hf hk
    obtain ⟨f, rfl⟩ : ∃ g, f = g + 1 := ⟨f - 1, by omega⟩
    have : k = 128 := by omega
    subst this
    refine ⟨g, ?_⟩
    show xFacts_clear_L2b _ _ _ _ _ = _
    have hl : hk_len (hk_rA st (x + 5) g) (x + 5) = some (nI 128) := by
      unfold hk_len
      rw [rA_k, k5]
      rfl
    simp only [xFacts_clear_L2b, gR_b (st := hk_rA st (x + 5) g) (bf_k k4), rA_fR, r, hz_ob, hz_nn, hl, Int32.le_refl, if_true]
  | succ m ih =>
    intro f k g hf hk
    obtain ⟨f, rfl⟩ : ∃ g, f = g + 1 := ⟨f - 1, by omega⟩
    obtain ⟨g', h'⟩ := ih f (k + 1) (fun j => if j = k then 0 else g j) (by omega) (by omega)
    refine ⟨g', ?_⟩
    show xFacts_clear_L2b _ _ (xFacts_clear_L2 (x + 4) e0 f) _ _ = _
    have hl : hk_len (hk_rA st (x + 5) g) (x + 5) = some (nI 128) := by
      unfold hk_len
      rw [rA_k, k5]
      rfl
    simp only [xFacts_clear_L2b, gR_b (st := hk_rA st (x + 5) g) (bf_k k4), rA_fR, r, hz_ob, hz_nn, hl, nI_ge (show k < 128 by omega) (show 128 < 2 ^ 31 by decide), if_false, tI_k (st := hk_rA st (x + 5) g) (ty := 0) k5 (show k < 128 by omega) (by decide), hk_nar, rA_saI, hz_nm, nI_1]
    exact h'
/-- gives: the lines' value of the names -/
theorem gives_K {as : List Nat} {L : List qLn1} {a0 : Nat} (C : LCh x st as L) (X : Nx st st1) (h7 : ∀ f a, f = 700 ∨ f = 701 ∨ f = 702 → a < hk_nx st → hk_fR st1 f a = hk_fR st f a) (kx : hk_k st1 x = some (0, 0)) (r7 : hk_fR st1 7 x = some a0) (h0 : as[0]? = some a0) (r8 : hk_fR st1 8 x = some (x + 4)) (hL : L.length ≤ 1000) :
    x_gives x st1 = some (qGv L (nrm (hk_aI st1 (x + 5)))) := by
  have key : ∀ m i f, m < f → i + m = L.length → x_gives_L5 x st1 (fun (_ : Unit) => some (0 : Int32)) f (as[i]?) = some (qGv (L.drop i) (nrm (hk_aI st1 (x + 5)))) := by
    intro m
    induction m with
    | zero =>
      intro i f hf hi
      obtain ⟨f, rfl⟩ : ∃ g, f = g + 1 := ⟨f - 1, by omega⟩
      have e1 : as[i]? = none := List.getElem?_eq_none (by rw [C.1]; omega)
      have e2 : L.drop i = [] := List.drop_eq_nil_of_le (by omega)
      rw [e1, e2]
      show x_gives_L5b _ _ _ _ _ = _
      simp only [x_gives_L5b, hz_nm, hz_on, qGv]
    | succ m ih =>
      intro i f hf hi
      obtain ⟨f, rfl⟩ : ∃ g, f = g + 1 := ⟨f - 1, by omega⟩
      have hi1 : i < as.length := by rw [C.1]; omega
      have hi2 : i < L.length := by omega
      have e1 : as[i]? = some as[i] := by simp [hi1]
      have e2 : L[i]? = some L[i] := by simp [hi2]
      have e3 : L.drop i = L[i] :: L.drop (i + 1) := List.drop_eq_getElem_cons hi2
      rw [e3]
      have hln := C.2.2 i _ _ e1 e2
      obtain ⟨q1, q2, q3⟩ := C.2.1 i _ e1
      rw [e1]
      generalize as[i] = a at *
      generalize L[i] = ln at *
      obtain ⟨tt, gg⟩ := ln
      obtain ⟨hT, nd, hg1, hg2⟩ := hln
      have k7 : hk_k st1 a = some (7, 0) := (X.2.1 _ q1).trans q2
      have v701 : hk_fR st1 701 a = some nd := (h7 701 a (by omega) q1).trans hg1
      have vg : g_V 200 nd (x + 4) st1 = some (gg (nrm (hk_aI st1 (x + 5)))) := hg2.2 200 (by decide) st1 X
      have v702 : hk_fR st1 702 a = as[i + 1]? := (h7 702 a (by omega) q1).trans q3
      show x_gives_L5b _ _ _ (x_gives_L5 x st1 _ f) _ = _
      cases tt with
      | none =>
        have v700 : hk_fR st1 700 a = none := (h7 700 a (by omega) q1).trans hT
        simp only [x_gives_L5b, hz_nm, hz_os, hz_on, gR_b (bf_k k7), v700, v701, hz_ob, hz_nn, gR_b (bf_k kx), r8, vg, qGv, lnH, if_true]
      | some f2 =>
        obtain ⟨nd2, hT1, hT2⟩ := hT
        have v700 : hk_fR st1 700 a = some nd2 := (h7 700 a (by omega) q1).trans hT1
        have vt : g_V 200 nd2 (x + 4) st1 = some (f2 (nrm (hk_aI st1 (x + 5)))) := hT2.2 200 (by decide) st1 X
        simp only [x_gives_L5b, hz_nm, hz_os, gR_b (bf_k k7), v700, v701, v702, hz_ob, hz_nn, gR_b (bf_k kx), r8, vg, vt, qGv, lnH]
        by_cases hz : f2 (nrm (hk_aI st1 (x + 5))) = 0
        · simp only [hz, if_true, ne_eq, not_true_eq_false, decide_false, Bool.false_eq_true, if_false]
          exact ih (i + 1) f (by omega) (by omega)
        · simp only [hz, if_false, ne_eq, not_false_eq_true, decide_true, if_true]
  unfold x_gives
  rw [gR_b (bf_k kx), r7, hz_ob, ← h0, key L.length 0 hk_F (pw_F hL) (by omega)]
  rfl
theorem qL_1 {pl : List qP} : (qL t pl 1 ab).1 = true := rfl
theorem ch2 {tb : Int32} (K : RK x st) (hL : RL x st s) (C : CH st hd t pl M) (hv : Pv pl) (ht : ∀ i, t i ≤ 99) (ht3 : 0 < t 3) (D : MHd s h t0 pl) (hh : h < 6) (ht0 : ∀ i, i ≠ 3 → t0 i = t i) (htb : (tb ≤ 0 ∧ t0 3 = t 3) ∨ (¬ tb ≤ 0 ∧ tb = nI (t 3))) (hab : Pr ab) :
    ∃ w st' s', w ≤ 6 ∧ x_chosenOf x hd (nI (ab / 10000)) (nI (ab % 10000)) st = some (nI w, st') ∧ Scr x st st' ∧ m_chosenBy (nI h) (nI ab) tb s = some (nI w, s') ∧ ScM s s' ∧ LM s' (qL t pl w ab).2 ∧ (qL t pl w ab).1 = true := by
  have hm : ab % 10000 < 10000 := Nat.mod_lt _ (by decide)
  have hq := hab.2.2.1
  have hb0 := hab.2.2.2
  have ha0 := hab.2.1
  -- the reference's fallback
  have hback : ∀ s1, ScM s s1 → ∃ s', ((m_layOut (nI h) (1 : Int32) (nI ab) tb s1).bind fun q2 => some ((1 : Int32), q2.2)) = some (nI 1, s') ∧ ScM s s' ∧ LM s' (qL t pl 1 ab).2 := by
    intro s1 hs
    obtain ⟨s', E, S1, L1⟩ := m_lay (w := 1) (t := t) (tb := tb) (D.fr hs.fr hv.1 (fun i _ => (by first | (intros; exact id) | (intros; decide) | (intros; dsimp only; decide) | (intros; omega) | (intros; dsimp only at *; omega) | (intros; dsimp only; omega) | (intros; simp only [nodeI, nodeR, no1, no2] at *; omega) | (intros; simp only [nodeI, nodeR, no1, no2]; omega) | (intros; constructor <;> first | exact id | omega | (dsimp only at *; omega) | (dsimp only; omega)) | (intros; simp_all [no1, no2, nodeI, nodeR]; done))) (by first | (intros; exact id) | (intros; decide) | (intros; dsimp only; decide) | (intros; omega) | (intros; dsimp only at *; omega) | (intros; dsimp only; omega) | (intros; simp only [nodeI, nodeR, no1, no2] at *; omega) | (intros; simp only [nodeI, nodeR, no1, no2]; omega) | (intros; constructor <;> first | exact id | omega | (dsimp only at *; omega) | (dsimp only; omega)) | (intros; simp_all [no1, no2, nodeI, nodeR]; done)) (fun k _ => by constructor <;> decide)) hv hh ht ht0 htb hab (by decide)
    rw [nI1] at E
    exact ⟨s', by rw [E]; rfl, hs.trans S1, L1⟩
  have w0 : ∀ w : Nat, w ≤ 6 → m_within (nI w).toInt64 (0 : Int64) (6 : Int64) = 1 := by
    intro w hw
    rw [wi (b := 0) (c := 6) (by decide) (by decide)]
    rcases in_cases (nI w) 0 6 (by decide) (by decide) with ⟨h1, h2⟩ | ⟨h1, _⟩
    · exact absurd rfl (h2 w (by omega) hw)
    · exact h1
  rcases hL with ⟨l1, l2⟩ | ⟨as, L, a0, m, l1, l2, l3, l4, l5, l6, l7⟩
  · obtain ⟨s', E, S1, L1⟩ := m_lay (w := 1) (t := t) (tb := tb) D hv hh ht ht0 htb hab (by decide)
    rw [nI1] at E
    refine ⟨1, st, s', by decide, ?_, Scr.rf K.wk K.li, ?_, S1, L1, rfl⟩
    · simp only [x_chosenOf, gR_b (bf_k K.x0), l1, hz_ob, hz_on]
      rfl
    · simp only [m_chosenBy, hz_nm, l2, show (-1 : Int32) < 0 by decide, if_true]
      rw [show m_within (Int32.toInt64 1) (0 : Int64) (6 : Int64) = 1 from w0 1 (by decide), if_neg (by decide), E, hz_ob, qL_1]
      rfl
  · obtain ⟨no, no1, no2⟩ := nought2 (v := ab / 10000) (by omega)
    obtain ⟨np, np1, np2⟩ := nought2 (v := ab % 10000) (by omega)
    obtain ⟨g0, hclr⟩ := clear_K (st := st) K.fc.1 K.fc.2.1 K.fc.2.2 (e0 := fun s => some s) 128 hk_F 0 (hk_aI st (x + 5)) (pw_F (by decide)) rfl
    rw [rA_self, nI_0] at hclr
    have hcl : xFacts_clear (x + 4) st = some (hk_rA st (x + 5) g0) := hclr
    have C1 := C.1.1
    have C3 := C.1.2.2.1
    have hd5 : ¬ hd + 1 = x + 5 := fun q => by rw [q, K.fc.2.2] at C3; cases C3
    have r8 : ∀ g, hk_gR [0] 8 (hk_rA st (x + 5) g) x = some (some (x + 4)) := fun g => by rw [gR_b (st := hk_rA st (x + 5) g) (bf_k K.x0), rA_fR, K.r8]
    have r100 : ∀ g, hk_gR [1] 100 (hk_rA st (x + 5) g) (x + 4) = some (some (x + 5)) := fun g => by rw [gR_b (st := hk_rA st (x + 5) g) (bf_k K.fc.1), rA_fR, K.fc.2.1]
    have r300 : ∀ g, hk_gR [3] 300 (hk_rA st (x + 5) g) hd = some (some (hd + 1)) := fun g => by rw [gR_b (st := hk_rA st (x + 5) g) (bf_k C1), rA_fR, C.1.2.1]
    have lt : ∀ g i, i < 5 → hk_lI 0 (hk_rA st (x + 5) g) (hd + 1) (nI i) = some (nI (t i)) := fun g i hi => by rw [lI_k (st := hk_rA st (x + 5) g) (ty := 0) C3 hi (by decide), rA_aI, if_neg hd5, C.1.2.2.2 i hi]
    have lt3 : ∀ g, hk_lI 0 (hk_rA st (x + 5) g) (hd + 1) (3 : Int32) = some (nI (t 3)) := fun g => lt g 3 (by decide)
    have lt4 : ∀ g, hk_lI 0 (hk_rA st (x + 5) g) (hd + 1) (4 : Int32) = some (nI (t 4)) := fun g => lt g 4 (by decide)
    have ti : ∀ k, k < 128 → ∀ g v, hk_tI 0 (hk_rA st (x + 5) g) (x + 5) (nI k) v = some (hk_rA st (x + 5) (fun j => if j = k then v else g j)) := fun k hk g v => by
      rw [tI_k (st := hk_rA st (x + 5) g) (ty := 0) K.fc.2.2 hk (by decide), rA_saI]; rfl
    have t109 : ∀ g v, hk_tI 0 (hk_rA st (x + 5) g) (x + 5) (109 : Int32) v = _ := ti 109 (by decide)
    have t110 : ∀ g v, hk_tI 0 (hk_rA st (x + 5) g) (x + 5) (110 : Int32) v = _ := ti 110 (by decide)
    have t120 : ∀ g v, hk_tI 0 (hk_rA st (x + 5) g) (x + 5) (120 : Int32) v = _ := ti 120 (by decide)
    have t121 : ∀ g v, hk_tI 0 (hk_rA st (x + 5) g) (x + 5) (121 : Int32) v = _ := ti 121 (by decide)
    have t100 : ∀ g v, hk_tI 0 (hk_rA st (x + 5) g) (x + 5) (100 : Int32) v = _ := ti 100 (by decide)
    have t122 : ∀ g v, hk_tI 0 (hk_rA st (x + 5) g) (x + 5) (122 : Int32) v = _ := ti 122 (by decide)
    have t116 : ∀ g v, hk_tI 0 (hk_rA st (x + 5) g) (x + 5) (116 : Int32) v = _ := ti 116 (by decide)
    have t99 : ∀ g v, hk_tI 0 (hk_rA st (x + 5) g) (x + 5) (99 : Int32) v = _ := ti 99 (by decide)
    have sz1 : x_sizeOf (nI (ab / 10000)).toInt64 = some (nI (nd (ab / 10000))) := by rw [nI_l (by omega), ll_sizeOf (by omega), ns1_pos (by omega)]
    have sz2 : x_sizeOf (nI (ab % 10000)).toInt64 = some (nI (nd (ab % 10000))) := by rw [nI_l (by omega), ll_sizeOf (by omega), ns1_pos (by omega)]
    have bfF : hk_bf [1] st (x + 4) = true := bf_k K.fc.1
    have bfx : ∀ g, hk_bf [0] (hk_rA st (x + 5) g) x = true := fun g => bf_k (st := hk_rA st (x + 5) g) K.x0
    have r9 : ∀ g, hk_gR [0] 9 (hk_rA st (x + 5) g) x = some (some (x + 6)) := fun g => by rw [gR_b (bfx g), rA_fR, K.r9]
    -- the names of the class, of the reference
    obtain ⟨gC, hgC⟩ : ∃ gC : Nat → Int32, gC = (fun j => if j = 99 then nI (t 4) else if j = 116 then nI (t 3) else if j = 122 then no + np else if j = 100 then j_abs_i (nI (ab / 10000) - nI (ab % 10000)) else if j = 121 then nI (ab % 10000) - nI (ab % 10000) / (10 : Int32) * (10 : Int32)
      else if j = 120 then nI (ab / 10000) - nI (ab / 10000) / (10 : Int32) * (10 : Int32) else if j = 110 then nI (nd (ab % 10000)) else if j = 109 then nI (nd (ab / 10000)) else g0 j) := ⟨_, rfl⟩
    have hst1 : x_chosenOf x hd (nI (ab / 10000)) (nI (ab % 10000)) st = (x_gives x (hk_rA st (x + 5) gC)).bind fun x57 => if (x_in x57 (0 : Int32) (6 : Int32)) = 0 then some ((1 : Int32), hk_rA st (x + 5) gC) else
        (xActs_lay (x + 6) hd x57 (nI (ab / 10000)) (nI (ab % 10000)) (hk_rA st (x + 5) gC)).bind fun q62 => hk_gd (hk_bf [2] (hk_rA st (x + 5) gC) (x + 6)) (if q62.1 = 0 then some ((1 : Int32), q62.2) else some (x57, q62.2)) := by
      subst hgC
      simp only [x_chosenOf, gR_b (bf_k K.x0), l1, hz_ob, hz_os, K.r8, hz_nn, hcl, hz_gd, bfF, if_true, r8, r100, sz1, sz2, t109, t110, t120, t121, t100, t122, t116, t99, no1, np1, r300, lt3, lt4, bfx, r9]
    have hS5 : Scr x st (hk_rA st (x + 5) gC) := (Scr.rf K.wk K.li).rA5
    have hX5 : Nx st (hk_rA st (x + 5) gC) := Fr.nx hS5.1 (by first | (intros; exact id) | (intros; decide) | (intros; dsimp only; decide) | (intros; omega) | (intros; dsimp only at *; omega) | (intros; dsimp only; omega) | (intros; simp only [nodeI, nodeR, no1, no2] at *; omega) | (intros; simp only [nodeI, nodeR, no1, no2]; omega) | (intros; constructor <;> first | exact id | omega | (dsimp only at *; omega) | (dsimp only; omega)) | (intros; simp_all [no1, no2, nodeI, nodeR]; done)) (by first | (intros; exact id) | (intros; decide) | (intros; dsimp only; decide) | (intros; omega) | (intros; dsimp only at *; omega) | (intros; dsimp only; omega) | (intros; simp only [nodeI, nodeR, no1, no2] at *; omega) | (intros; simp only [nodeI, nodeR, no1, no2]; omega) | (intros; constructor <;> first | exact id | omega | (dsimp only at *; omega) | (dsimp only; omega)) | (intros; simp_all [no1, no2, nodeI, nodeR]; done))
    have hgv := gives_K (st1 := hk_rA st (x + 5) gC) l3 hX5 (fun f a hf ha => rfl) K.x0 l1 l2 K.r8 l6
    have hgC5 : hk_aI (hk_rA st (x + 5) gC) (x + 5) = gC := by funext j; rw [rA_aI, if_pos rfl]
    rw [hgC5] at hgv
    have K5 : RK x (hk_rA st (x + 5) gC) := K.fr hS5.1 (by first | (intros; exact id) | (intros; decide) | (intros; dsimp only; decide) | (intros; omega) | (intros; dsimp only at *; omega) | (intros; dsimp only; omega) | (intros; simp only [nodeI, nodeR, no1, no2] at *; omega) | (intros; simp only [nodeI, nodeR, no1, no2]; omega) | (intros; constructor <;> first | exact id | omega | (dsimp only at *; omega) | (dsimp only; omega)) | (intros; simp_all [no1, no2, nodeI, nodeR]; done)) hS5.2.2.2.1 hS5.2.2.2.2
    have C5 : CH (hk_rA st (x + 5) gC) hd t pl M := C.fr2 hS5.1 K.wk (by first | (intros; exact id) | (intros; decide) | (intros; dsimp only; decide) | (intros; omega) | (intros; dsimp only at *; omega) | (intros; dsimp only; omega) | (intros; simp only [nodeI, nodeR, no1, no2] at *; omega) | (intros; simp only [nodeI, nodeR, no1, no2]; omega) | (intros; constructor <;> first | exact id | omega | (dsimp only at *; omega) | (dsimp only; omega)) | (intros; simp_all [no1, no2, nodeI, nodeR]; done)) (by first | (intros; exact id) | (intros; decide) | (intros; dsimp only; decide) | (intros; omega) | (intros; dsimp only at *; omega) | (intros; dsimp only; omega) | (intros; simp only [nodeI, nodeR, no1, no2] at *; omega) | (intros; simp only [nodeI, nodeR, no1, no2]; omega) | (intros; constructor <;> first | exact id | omega | (dsimp only at *; omega) | (dsimp only; omega)) | (intros; simp_all [no1, no2, nodeI, nodeR]; done)) (by first | (intros; exact id) | (intros; decide) | (intros; dsimp only; decide) | (intros; omega) | (intros; dsimp only at *; omega) | (intros; dsimp only; omega) | (intros; simp only [nodeI, nodeR, no1, no2] at *; omega) | (intros; simp only [nodeI, nodeR, no1, no2]; omega) | (intros; constructor <;> first | exact id | omega | (dsimp only at *; omega) | (dsimp only; omega)) | (intros; simp_all [no1, no2, nodeI, nodeR]; done)) (by first | (intros; exact id) | (intros; decide) | (intros; dsimp only; decide) | (intros; omega) | (intros; dsimp only at *; omega) | (intros; dsimp only; omega) | (intros; simp only [nodeI, nodeR, no1, no2] at *; omega) | (intros; simp only [nodeI, nodeR, no1, no2]; omega) | (intros; constructor <;> first | exact id | omega | (dsimp only at *; omega) | (dsimp only; omega)) | (intros; simp_all [no1, no2, nodeI, nodeR]; done)) (by
      rintro (q | q)
      · exact hd5 q
      · have h2 := K.ka.2.1 (hd + 1 - (x + 7)) (by omega)
        rw [show x + 6 + (hd + 1 - (x + 7) + 1) = hd + 1 by omega, C3] at h2
        cases h2) (by first | (intros; exact id) | (intros; decide) | (intros; dsimp only; decide) | (intros; omega) | (intros; dsimp only at *; omega) | (intros; dsimp only; omega) | (intros; simp only [nodeI, nodeR, no1, no2] at *; omega) | (intros; simp only [nodeI, nodeR, no1, no2]; omega) | (intros; constructor <;> first | exact id | omega | (dsimp only at *; omega) | (dsimp only; omega)) | (intros; simp_all [no1, no2, nodeI, nodeR]; done))
    -- the reference up to workOut
    obtain ⟨s12, hs12, hsc, hN⟩ : ∃ s12, m_chosenBy (nI h) (nI ab) tb s = ((m_workOut (0 : Int32) (nI m) s12).bind fun q13 => if (m_within q13.1.toInt64 (0 : Int64) (6 : Int64)) = 0 then ((m_layOut (nI h) (1 : Int32) (nI ab) tb q13.2).bind fun q2 => some ((1 : Int32), q2.2)) else
        (m_layOut (nI h) q13.1 (nI ab) tb q13.2).bind fun q6 => if q6.1 = 0 then ((m_layOut (nI h) (1 : Int32) (nI ab) tb q6.2).bind fun q2 => some ((1 : Int32), q2.2)) else some (q13.1, q6.2)) ∧ ScM s s12 ∧ Nm s12 = nrm gC := by
      have e3 := ld_4 hab.1
      have e4 := lm_4 hab.1
      rw [e3] at e4
      have d8 : 8 < 2 ^ 31 := by decide
      have hml0 : ∀ i, i < 5 → hm_A s 0 (5 * h + i) = nI (t0 i) := D.1
      have nm9 : ¬ nI m < 0 := nI_pos (by omega)
      have x6 : ∀ (z : hk_Ms) (v : Int32), hm_tI z 6 8 (6 : Int32) v = some (hm_sA z 6 6 v) := fun z v => hmt (i := 6) (by decide) d8
      have x0 : ∀ (z : hk_Ms) (v : Int32), hm_tI z 6 8 (0 : Int32) v = some (hm_sA z 6 0 v) := fun z v => hmt (i := 0) (by decide) d8
      have x1 : ∀ (z : hk_Ms) (v : Int32), hm_tI z 6 8 (1 : Int32) v = some (hm_sA z 6 1 v) := fun z v => hmt (i := 1) (by decide) d8
      have x2 : ∀ (z : hk_Ms) (v : Int32), hm_tI z 6 8 (2 : Int32) v = some (hm_sA z 6 2 v) := fun z v => hmt (i := 2) (by decide) d8
      have x3 : ∀ (z : hk_Ms) (v : Int32), hm_tI z 6 8 (3 : Int32) v = some (hm_sA z 6 3 v) := fun z v => hmt (i := 3) (by decide) d8
      have x4 : ∀ (z : hk_Ms) (v : Int32), hm_tI z 6 8 (4 : Int32) v = some (hm_sA z 6 4 v) := fun z v => hmt (i := 4) (by decide) d8
      have x5 : ∀ (z : hk_Ms) (v : Int32), hm_tI z 6 8 (5 : Int32) v = some (hm_sA z 6 5 v) := fun z v => hmt (i := 5) (by decide) d8
      have x7 : ∀ (z : hk_Ms) (v : Int32), hm_tI z 6 8 (7 : Int32) v = some (hm_sA z 6 7 v) := fun z v => hmt (i := 7) (by decide) d8
      have e54 : (5 : Int32) * nI h + (4 : Int32) = nI (5 * h + 4) := i5 (a := 4)
      have e53 : (5 : Int32) * nI h + (3 : Int32) = nI (5 * h + 3) := i5 (a := 3)
      have l54 : ∀ z : hk_Ms, hm_lI z 0 30 (nI (5 * h + 4)) = some (hm_A z 0 (5 * h + 4)) := fun z => hml (by omega) (by decide)
      have l53 : ∀ z : hk_Ms, hm_lI z 0 30 (nI (5 * h + 3)) = some (hm_A z 0 (5 * h + 3)) := fun z => hml (by omega) (by decide)
      refine ⟨hm_sA (hm_sA (hm_sA (hm_sA (hm_sA (hm_sA (hm_sA (hm_sA s 6 0 (nI (nd (ab / 10000)))) 6 1 (nI (nd (ab % 10000)))) 6 2 (nI (ab / 10000) - nI (ab / 10000) / (10 : Int32) * (10 : Int32))) 6 3 (nI (ab % 10000) - nI (ab % 10000) / (10 : Int32) * (10 : Int32))) 6 4 (m_size (nI (ab / 10000) - nI (ab % 10000)))) 6 5 (no + np)) 6 6 (nI (t 3))) 6 7 (nI (t 4)), ?_, ?_, ?_⟩
      · rcases htb with ⟨b1, b2⟩ | ⟨b1, b2⟩
        · simp only [m_chosenBy, hz_nm, l4, nm9, if_false, e3, e4, ll_digits (show ab / 10000 < 2 ^ 31 by omega), ll_digits (show ab % 10000 < 2 ^ 31 by omega), hz_ob, x0, x1, x2, x3, x4, x5, x6, x7, no2, np2, b1, if_true, e53, e54, l53, l54, hmA_sA, Nat.reduceEqDiff, false_and, hml0 3 (by decide), hml0 4 (by decide), b2, ht0 4 (by decide), hmI_sA]
        · subst b2
          simp only [m_chosenBy, hz_nm, l4, nm9, if_false, e3, e4, ll_digits (show ab / 10000 < 2 ^ 31 by omega), ll_digits (show ab % 10000 < 2 ^ 31 by omega), hz_ob, x0, x1, x2, x3, x4, x5, x6, x7, no2, np2, b1, e54, l54, hmA_sA, Nat.reduceEqDiff, false_and, hml0 4 (by decide), ht0 4 (by decide), hmI_sA]
      · exact (((((((ScM.rf.sA rfl).sA rfl).sA rfl).sA rfl).sA rfl).sA rfl).sA rfl).sA rfl
      · funext c
        unfold Nm nrm
        by_cases hc : (opL 3).contains c = true
        · rw [if_pos hc, if_pos hc]
          have hc2 : c = 109 ∨ c = 110 ∨ c = 120 ∨ c = 121 ∨ c = 100 ∨ c = 122 ∨ c = 116 ∨ c = 99 := by simpa [opL] using hc
          subst hgC
          rcases hc2 with rfl | rfl | rfl | rfl | rfl | rfl | rfl | rfl <;> (simp [hmA_sA, nmx]; try rfl)
        · rw [if_neg hc, if_neg hc]
    obtain ⟨s3, hwo, hs3⟩ := l7 s12 (fun i _ => hsc.2.1 5 i rfl)
    rw [hN] at hwo
    rw [hst1, hgv, hz_ob, hs12, hwo, hz_ob]
    dsimp only
    generalize hw : qGv L (nrm gC) = wv
    rcases in_cases wv 0 6 (by decide) (by decide) with ⟨h1, h2⟩ | ⟨h1, w, h2, h3, rfl⟩
    · have h1 : x_in wv 0 6 = 0 := h1
      obtain ⟨s', E', S', L'⟩ := hback s3 (hsc.trans hs3)
      refine ⟨1, hk_rA st (x + 5) gC, s', by decide, ?_, hS5, ?_, S', L', rfl⟩
      · rw [h1, if_pos rfl]; rfl
      · rw [wi (b := 0) (c := 6) (by decide) (by decide), h1, if_pos rfl]; exact E'
    · have h1 : x_in (nI w) 0 6 = 1 := h1
      obtain ⟨st', E1, S1, L1⟩ := c_lay (w := w) K5 C5 hv ht ht3 hab h3
      obtain ⟨s', E2, S2, L2⟩ := m_lay (w := w) (t := t) (tb := tb) (D.fr (hsc.trans hs3).fr hv.1 (fun i _ => (by first | (intros; exact id) | (intros; decide) | (intros; dsimp only; decide) | (intros; omega) | (intros; dsimp only at *; omega) | (intros; dsimp only; omega) | (intros; simp only [nodeI, nodeR, no1, no2] at *; omega) | (intros; simp only [nodeI, nodeR, no1, no2]; omega) | (intros; constructor <;> first | exact id | omega | (dsimp only at *; omega) | (dsimp only; omega)) | (intros; simp_all [no1, no2, nodeI, nodeR]; done))) (by first | (intros; exact id) | (intros; decide) | (intros; dsimp only; decide) | (intros; omega) | (intros; dsimp only at *; omega) | (intros; dsimp only; omega) | (intros; simp only [nodeI, nodeR, no1, no2] at *; omega) | (intros; simp only [nodeI, nodeR, no1, no2]; omega) | (intros; constructor <;> first | exact id | omega | (dsimp only at *; omega) | (dsimp only; omega)) | (intros; simp_all [no1, no2, nodeI, nodeR]; done)) (fun k _ => by constructor <;> decide)) hv hh ht ht0 htb hab h3
      rw [w0 w h3, h1, if_neg (by decide), if_neg (by decide), E1, E2, hz_ob, hz_ob, hz_gd, if_pos (bf_k K5.ka.1)]
      cases hb : (qL t pl w ab).1 with
      | true =>
        refine ⟨w, st', s', h3, by rw [if_neg (show ¬ bI true = 0 by decide)], hS5.trans S1, by rw [if_neg (show ¬ bI true = 0 by decide)], (hsc.trans hs3).trans S2, L2, hb⟩
      | false =>
        obtain ⟨s4, E4, S4, L4⟩ := hback s' ((hsc.trans hs3).trans S2)
        exact ⟨1, st', s4, by decide, by rw [if_pos (show bI false = 0 from rfl)]; rfl, hS5.trans S1, by rw [if_pos (show bI false = 0 from rfl)]; exact E4, S4, L4, rfl⟩
end S2CH
