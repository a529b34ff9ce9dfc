set_option maxRecDepth 100000
/-! ===== STAGE 2: the class's heads ===== -/
/-- a head of the class: what it was told, its pairs; of M places of its pairs' array something lies there -/
def CH (st : hk_St) (hd : Nat) (t : Nat → Nat) (pl : List qP) (M : Nat) : Prop :=
  hk_KH st hd (hd + 1) t ∧ hk_fR st 301 hd = some (hd + 2) ∧ hk_k st (hd + 2) = some (105, 60) ∧ hk_fI st 302 hd = nI pl.length ∧ pl.length ≤ M ∧ M ≤ 60 ∧
  (∀ k, k < M → ∃ la, hk_aR st (hd + 2) k = some la ∧ hk_k st la = some (14, 0)) ∧ (∀ k, M ≤ k → hk_aR st (hd + 2) k = none) ∧
  ∀ k la, k < pl.length → hk_aR st (hd + 2) k = some la → hk_fI st 1400 la = nI (pe pl k).1 ∧ hk_fI st 1401 la = nI (pe pl k).2.1 ∧ hk_fI st 1402 la = (pe pl k).2.2
/-- what asks of the head pu can change -/
def pP (pu : Nat) (st0 : hk_St) (f a : Nat) : Prop := (f = 302 ∧ a = pu) ∨ ((f = 1400 ∨ f = 1401 ∨ f = 1402) ∧ ∃ k, hk_aR st0 (pu + 2) k = some a)
def no1 (_ : Nat) : Prop := False
def no2 (_ _ : Nat) : Prop := False
def FrP (pu : Nat) (st0 st : hk_St) : Prop := Fr (pP pu st0) no2 no2 (fun a => a = pu + 1) no1 (fun a => a = pu + 2) st0 st
def HG (pu : Nat) (st0 : hk_St) (M0 : Nat) (st : hk_St) (M : Nat) : Prop :=
  FrP pu st0 st ∧ Wk st ∧ Li st ∧ (∀ k la, hk_aR st (pu + 2) k = some la → hk_aR st0 (pu + 2) k = some la ∨ hk_nx st0 ≤ la) ∧ (hk_nc st + M0 = hk_nc st0 + M ∧ hk_ns st + 3 * M0 = hk_ns st0 + 3 * M)
theorem HG.rf {pu : Nat} {st : hk_St} {M : Nat} (hw : Wk st) (hl : Li st) : HG pu st M st M := ⟨Fr.rf, hw, hl, fun _ _ h => Or.inl h, rfl, rfl⟩
section S2Y
variable {st st0 st1 : hk_St} {hd a b M M0 pu : Nat} {t : Nat → Nat} {pl : List qP}
theorem x_is {la : Nat} {e : qP} (hk : hk_k st la = some (14, 0)) (h0 : hk_fI st 1400 la = nI e.1) (h1 : hk_fI st 1401 la = nI e.2.1) (he : e.1 < 2 ^ 31) (he2 : e.2.1 < 2 ^ 31) (ha : a < 2 ^ 31) (hb : b < 2 ^ 31) :
    xLearnt_is la (nI a) (nI b) st = some (if qIs a b e = true then (1 : Int32) else 0) := by
  have hq : qIs a b e = decide ((e.1 = a ∧ e.2.1 = b) ∨ (e.1 = b ∧ e.2.1 = a)) := rfl
  simp only [xLearnt_is, hz_nm, gI_b (bf_k hk), h0, h1, hz_ob, nI_eq he ha, nI_eq he2 hb, nI_eq he hb, nI_eq he2 ha, hq, decide_eq_true_eq]
  repeat' split
  all_goals first | rfl | (exfalso; omega)
theorem qx_fnd_L (C : CH st hd t pl M) (hv : Pv pl) (ha : a < 2 ^ 31) (hb : b < 2 ^ 31) {e0 : Unit → Option (Option Nat)} :
    ∀ m f k, m < f → k + m = pl.length → xHead_find_L2 hd (nI a) (nI b) st e0 f (nI k) = match qFd pl a b m k with
      | some j => some (hk_aR st (hd + 2) j)
      | none => e0 () := by
  have hl := hv.1
  obtain ⟨⟨C1, C2, C3, C4⟩, C5, C6, C7, C8, C9, CA, CB, CC⟩ := C
  intro m
  induction m with
  | zero =>
    intro f k hf hk
    obtain ⟨f, rfl⟩ : ∃ g, f = g + 1 := ⟨f - 1, by omega⟩
    show xHead_find_L2b hd (nI a) (nI b) st e0 _ _ = _
    simp only [xHead_find_L2b, gI_b (bf_k C1), C7, hz_ob, nI_le (show pl.length ≤ k by omega) (show k < 2 ^ 31 by omega), if_true, qFd]
  | succ m ih =>
    intro f k hf hk
    obtain ⟨f, rfl⟩ : ∃ g, f = g + 1 := ⟨f - 1, by omega⟩
    show xHead_find_L2b hd (nI a) (nI b) st e0 (xHead_find_L2 hd (nI a) (nI b) st e0 f) (nI k) = _
    obtain ⟨la, hla, hkl⟩ := CA k (by omega)
    have hv2 := hv.2 k (by omega)
    obtain ⟨f0, f1, f2⟩ := CC k la (by omega) hla
    simp only [xHead_find_L2b, gI_b (bf_k C1), gR_b (bf_k C1), C7, C5, hz_ob, nI_ge (show k < pl.length by omega) (show pl.length < 2 ^ 31 by omega), if_false, hz_nn, lR_k (ty := 5) C6 (show k < 60 by omega) (by decide), hla,
      x_is hkl f0 f1 (show (pe pl k).1 < 2 ^ 31 by omega) (show (pe pl k).2.1 < 2 ^ 31 by omega) ha hb, hz_gd, bf_k hkl, if_true, hz_nm, nI_1]
    rw [qFd]
    by_cases e : qIs a b (pe pl k) = true
    · rw [if_pos e, if_pos e, if_neg (by decide)]
      exact congrArg some hla.symm
    · rw [if_neg e, if_neg e, if_pos rfl]
      exact ih f (k + 1) (by omega) (by omega)
theorem qx_fnd (C : CH st hd t pl M) (hv : Pv pl) (ha : a < 2 ^ 31) (hb : b < 2 ^ 31) : xHead_find hd (nI a) (nI b) st = some (match qFnd pl a b with
      | some j => hk_aR st (hd + 2) j
      | none => none) := by
  unfold xHead_find
  rw [show (0 : Int32) = nI 0 from rfl, qx_fnd_L C hv ha hb pl.length hk_F 0 (pw_F (by have := hv.1; omega)) (by omega)]
  show _ = some (match qFd pl a b pl.length 0 with
      | some j => hk_aR st (hd + 2) j
      | none => none)
  cases qFd pl a b pl.length 0 <;> rfl
theorem qx_knows (C : CH st hd t pl M) (hv : Pv pl) (ht : t 3 ≤ 99) (ha : a < 2 ^ 31) (hb : b < 2 ^ 31) : xHead_knows hd (nI a) (nI b) st = some (if qKn (t 3) pl a b = true then (1 : Int32) else 0) := by
  have hF := qx_fnd C hv ha hb
  obtain ⟨⟨C1, C2, C3, C4⟩, C5, C6, C7, C8, C9, CA, CB, CC⟩ := C
  have h3 : hk_lI 0 st (hd + 1) (3 : Int32) = some (nI (t 3)) := by rw [show (3 : Int32) = nI 3 from rfl, lI_k (ty := 0) C3 (by decide) (by decide), C4 3 (by decide)]
  have hk : (match qFnd pl a b with
      | some j => hk_aR st (hd + 2) j
      | none => none) = none ∧ qFnd pl a b = none ∨ ∃ k la, qFnd pl a b = some k ∧ hk_aR st (hd + 2) k = some la ∧ hk_k st la = some (14, 0) ∧ hk_fI st 1402 la = (pe pl k).2.2 := by
    cases hf : qFnd pl a b with
    | none => exact Or.inl ⟨rfl, rfl⟩
    | some k =>
      have hk := (qFd_some _ _ hf).2.1
      obtain ⟨la, hla, hkl⟩ := CA k (by omega)
      exact Or.inr ⟨k, la, rfl, hla, hkl, (CC k la (by omega) hla).2.2⟩
  simp only [xHead_knows, hz_nm, hz_nn, gR_b (bf_k C1), C2, h3, hz_ob, hF, hz_gd, bf_k C1, if_true]
  have hfin : ∀ r, r = (if qLk pl a b = true then (1 : Int32) else 0) →
      (hk_oc (match qFnd pl a b with | some j => hk_aR st (hd + 2) j | none => none) (some (0 : Int32)) fun a3 => (hk_gI [14] 1402 st a3).bind fun x4 => if x4 < (3 : Int32) then some (0 : Int32) else some (1 : Int32)) = some r := by
    intro r hr
    subst hr
    rcases hk with ⟨h1, h2⟩ | ⟨k, la, h1, h2, h4, h5⟩
    · simp only [h2, hz_on, qLk]
      rfl
    · simp only [h1, h2, hz_os, gI_b (bf_k h4), h5, hz_ob, qLk]
      by_cases h6 : (pe pl k).2.2 < 3
      · simp only [h6, if_true, not_true_eq_false, decide_false, Bool.false_eq_true, if_false]
      · simp only [h6, if_false, not_false_eq_true, decide_true, if_true]
  by_cases h1 : a ≤ t 3
  · rw [if_neg (nI_nlt h1 (by omega))]
    by_cases h2 : b ≤ t 3
    · rw [if_neg (nI_nlt h2 (by omega)), qKn, if_pos (show a ≤ t 3 ∧ b ≤ t 3 from ⟨h1, h2⟩)]; rfl
    · rw [if_pos (nI_lt (by omega) hb), qKn, if_neg (show ¬ (a ≤ t 3 ∧ b ≤ t 3) from fun q => h2 q.2)]
      exact hfin _ rfl
  · rw [if_pos (nI_lt (by omega) ha), qKn, if_neg (show ¬ (a ≤ t 3 ∧ b ≤ t 3) from fun q => h1 q.1)]
    exact hfin _ rfl
theorem qx_learnt_L (C : CH st hd t pl M) {e0 : Int32 → Option Int32} :
    ∀ m f k v, m < f → k + m = pl.length → xHead_learnt_L4 hd st e0 f v (nI k) = e0 (qLn pl m k v) := by
  obtain ⟨⟨C1, C2, C3, C4⟩, C5, C6, C7, C8, C9, CA, CB, CC⟩ := C
  intro m
  induction m with
  | zero =>
    intro f k v hf hk
    obtain ⟨f, rfl⟩ : ∃ g, f = g + 1 := ⟨f - 1, by omega⟩
    show xHead_learnt_L4b hd st e0 _ _ _ = _
    simp only [xHead_learnt_L4b, gI_b (bf_k C1), C7, hz_ob, nI_le (show pl.length ≤ k by omega) (show k < 2 ^ 31 by omega), if_true, qLn]
  | succ m ih =>
    intro f k v hf hk
    obtain ⟨f, rfl⟩ : ∃ g, f = g + 1 := ⟨f - 1, by omega⟩
    show xHead_learnt_L4b hd st e0 (xHead_learnt_L4 hd st e0 f) v (nI k) = _
    obtain ⟨la, hla, hkl⟩ := CA k (by omega)
    obtain ⟨f0, f1, f2⟩ := CC k la (by omega) hla
    simp only [xHead_learnt_L4b, gI_b (bf_k C1), gR_b (bf_k C1), C7, C5, hz_ob, nI_ge (show k < pl.length by omega) (show pl.length < 2 ^ 31 by omega), if_false, hz_nn, lR_k (ty := 5) C6 (show k < 60 by omega) (by decide), hla,
      gI_b (bf_k hkl), f2, hz_nm, nI_1]
    rw [qLn]
    by_cases h3 : (pe pl k).2.2 < 3
    · rw [if_pos h3, if_pos h3]; exact ih f (k + 1) _ (by omega) (by omega)
    · rw [if_neg h3, if_neg h3]; exact ih f (k + 1) _ (by omega) (by omega)
theorem qx_learnt (C : CH st hd t pl M) : xHead_learnt hd st = some (qLn pl pl.length 0 0) := by
  have h1 := C.2.2.2.2.1
  have h2 := C.2.2.2.2.2.1
  unfold xHead_learnt
  rw [show (0 : Int32) = nI 0 from rfl, qx_learnt_L C pl.length hk_F 0 (nI 0) (pw_F (by omega)) (by omega)]
/-- a head's picture through a run that changes another one's pairs -/
theorem CH.fr (C : CH st hd t pl M) (fr : FrP pu st st1) (hw : Wk st) (hl : Li st) (hpk : hk_k st (pu + 2) = some (105, 60)) (hpk1 : hk_k st (pu + 1) = some (100, 5)) (hne : hd ≠ pu) : CH st1 hd t pl M := by
  obtain ⟨⟨C1, C2, C3, C4⟩, C5, C6, C7, C8, C9, CA, CB, CC⟩ := C
  obtain ⟨h0, h1, h2, h3, h4, h5, h6, h7⟩ := fr
  have w1 := hw.lt C1
  have w3 := hw.lt C3
  have w6 := hw.lt C6
  have e7 : ∀ k, hk_aR st1 (hd + 2) k = hk_aR st (hd + 2) k := fun k => h7 _ k w6 (by show ¬ hd + 2 = pu + 2; omega)
  refine ⟨⟨(h1 _ w1).trans C1, (h4 _ _ w1 (fun q => q)).trans C2, (h1 _ w3).trans C3, fun i hi => (h5 _ _ w3 (by show ¬ hd + 1 = pu + 1; omega)).trans (C4 i hi)⟩, (h4 _ _ w1 (fun q => q)).trans C5, (h1 _ w6).trans C6, ?_, C8, C9, ?_, ?_, ?_⟩
  · refine (h2 _ _ w1 ?_).trans C7
    rintro (⟨_, q⟩ | ⟨q, _⟩)
    · exact hne q
    · omega
  · intro k hk
    obtain ⟨la, hla, hkl⟩ := CA k hk
    exact ⟨la, (e7 k).trans hla, (h1 _ (hw.lt hkl)).trans hkl⟩
  · intro k hk
    exact (e7 k).trans (CB k hk)
  · intro k la hk hla
    rw [e7] at hla
    have hM : k < M := by omega
    obtain ⟨la', hla', hkl⟩ := CA k hM
    rw [hla] at hla'
    cases hla'
    have np : ∀ f, (f = 1400 ∨ f = 1401 ∨ f = 1402) → ¬ pP pu st f la := by
      rintro f hf (⟨q, _⟩ | ⟨_, k', q⟩)
      · omega
      · have := (hl.1 _ _ _ _ _ C6 hpk hla q).1
        omega
    obtain ⟨f0, f1, f2⟩ := CC k la hk hla
    exact ⟨(h2 _ _ (hw.lt hkl) (np _ (Or.inl rfl))).trans f0, (h2 _ _ (hw.lt hkl) (np _ (Or.inr (Or.inl rfl)))).trans f1, (h2 _ _ (hw.lt hkl) (np _ (Or.inr (Or.inr rfl)))).trans f2⟩
/-- one pair more -/
theorem qx_add {n : Int32} (C : CH st hd t pl M) (G : HG hd st0 M0 st M) (h60 : pl.length < 60) :
    ∃ la st' M', xHead_add hd (nI a) (nI b) n st = some (some la, st') ∧ HG hd st0 M0 st' M' ∧ CH st' hd t (pl ++ [(a, b, n)]) M' ∧ hk_aR st' (hd + 2) pl.length = some la ∧ (pl.length = M → M' = M + 1) := by
  have C' := C
  obtain ⟨⟨C1, C2, C3, C4⟩, C5, C6, C7, C8, C9, CA, CB, CC⟩ := C
  obtain ⟨G1, G2, G3, G4, G5, G6⟩ := G
  by_cases hM : pl.length < M
  · obtain ⟨la, hla, hkl⟩ := CA pl.length hM
    refine ⟨la, hk_sfI (hk_sfI (hk_sfI (hk_sfI st 1400 la (nI a)) 1401 la (nI b)) 1402 la n) 302 hd (nI (pl.length + 1)), M, ?_, ⟨?_, ?_, ?_, ?_, G5, G6⟩, ?_, hla, fun q => absurd q (by omega)⟩
    · simp only [xHead_add, hz_nm, hz_nn, gR_b (bf_k C1), gI_b (bf_k C1), C5, C7, hz_ob, lR_k (ty := 5) C6 (show pl.length < 60 by omega) (by decide), hla, hz_os, hz_on, xLearnt_become, pI_b (bf_k hkl),
        pI_b (st := hk_sfI st 1400 la (nI a)) (bf_k hkl), pI_b (st := hk_sfI (hk_sfI st 1400 la (nI a)) 1401 la (nI b)) (bf_k hkl), hz_gd, bf_k hkl, if_true,
        gI_b (st := hk_sfI (hk_sfI (hk_sfI st 1400 la (nI a)) 1401 la (nI b)) 1402 la n) (bf_k C1), pI_b (st := hk_sfI (hk_sfI (hk_sfI st 1400 la (nI a)) 1401 la (nI b)) 1402 la n) (bf_k C1), fI_sfI, Nat.reduceEqDiff, false_and, if_false, nI_1]
    · have hp : ∀ f, (f = 1400 ∨ f = 1401 ∨ f = 1402) → la < hk_nx st0 → pP hd st0 f la := fun f hf hn => Or.inr ⟨hf, pl.length, by
        rcases G4 _ _ hla with q | q
        · exact q
        · omega⟩
      exact (((G1.sfI (hp _ (Or.inl rfl))).sfI (hp _ (Or.inr (Or.inl rfl)))).sfI (hp _ (Or.inr (Or.inr rfl)))).sfI (fun _ => Or.inl ⟨rfl, rfl⟩)
    · exact G2
    · exact G3
    · exact G4
    · have hne : ¬ la = hd := fun q => by rw [q, C1] at hkl; cases hkl
      refine ⟨⟨C1, C2, C3, C4⟩, C5, C6, ?_, ?_, C9, CA, CB, ?_⟩
      · rw [fI_sfI, if_pos ⟨rfl, rfl⟩, List.length_append]; rfl
      · rw [List.length_append]; exact hM
      · intro k la' hk hla'
        rw [List.length_append, List.length_singleton] at hk
        have hla2 : hk_aR st (hd + 2) k = some la' := hla'
        simp only [fI_sfI, Nat.reduceEqDiff, false_and, if_false, true_and]
        by_cases e : k < pl.length
        · have hne2 : ¬ la' = la := fun q => by
            rw [q] at hla2
            have := (G3.1 _ _ _ _ _ C6 C6 hla2 hla).2
            omega
          simp only [hne2, if_false, pe_lt e]
          exact CC k la' e hla2
        · have : k = pl.length := by omega
          subst this
          rw [hla] at hla2
          cases hla2
          simp only [if_true, pe_eq, and_self]
  · have hMe : M = pl.length := by omega
    have hno := CB pl.length (by omega)
    have hnx := hk_nx st
    have k1 : ∀ {c n y : Nat}, hk_k st y = some (c, n) → hk_k (hk_mk st 14 0 3) y = some (c, n) := fun h => by rw [k_mk, if_neg (G2.nn h)]; exact h
    have kn : hk_k (hk_mk st 14 0 3) (hk_nx st) = some (14, 0) := by rw [k_mk, if_pos rfl]
    have d1 : ¬ hd = hk_nx st := G2.nn C1
    have d2 : ¬ hd + 2 = hk_nx st := G2.nn C6
    have d3 : ¬ hd + 1 = hk_nx st := G2.nn C3
    refine ⟨hk_nx st, hk_sfI (hk_sfI (hk_sfI (hk_sfI (hk_saR (hk_mk st 14 0 3) (hd + 2) pl.length (some (hk_nx st))) 1400 (hk_nx st) (nI a)) 1401 (hk_nx st) (nI b)) 1402 (hk_nx st) n) 302 hd (nI (pl.length + 1)), M + 1, ?_, ⟨?_, ?_, ?_, ?_, ?_⟩, ?_, ?_, fun _ => rfl⟩
    · simp only [xHead_add, hz_nm, hz_nn, gR_b (bf_k C1), gI_b (bf_k C1), C5, C7, hz_ob, lR_k (ty := 5) C6 (show pl.length < 60 by omega) (by decide), hno, hz_os, hz_on, xLearnt_init,
        tR_k (st := hk_mk st 14 0 3) (ty := 5) (cs := [14]) (v := some (hk_nx st)) (k1 C6) (show pl.length < 60 by omega) (by decide) (bv_k kn)]
      have q1 : hk_gR [3] 301 (hk_saR (hk_mk st 14 0 3) (hd + 2) pl.length (some (hk_nx st))) hd = some (some (hd + 2)) := by
        rw [gR_b (st := hk_saR (hk_mk st 14 0 3) (hd + 2) pl.length (some (hk_nx st))) (bf_k (k1 C1))]; rw [fR_saR, fR_mk, if_neg d1, C5]
      have q2 : hk_gI [3] 302 (hk_saR (hk_mk st 14 0 3) (hd + 2) pl.length (some (hk_nx st))) hd = some (nI pl.length) := by
        rw [gI_b (st := hk_saR (hk_mk st 14 0 3) (hd + 2) pl.length (some (hk_nx st))) (bf_k (k1 C1))]; rw [fI_saR, fI_mk, if_neg d1, C7]
      have q3 : hk_lR 5 (hk_saR (hk_mk st 14 0 3) (hd + 2) pl.length (some (hk_nx st))) (hd + 2) (nI pl.length) = some (some (hk_nx st)) := by
        rw [lR_k (ty := 5) (st := hk_saR (hk_mk st 14 0 3) (hd + 2) pl.length (some (hk_nx st))) (k1 C6) (show pl.length < 60 by omega) (by decide), aR_saR, if_pos ⟨rfl, rfl⟩]
      simp only [q1, q2, q3, hz_ob, hz_nn, xLearnt_become, pI_b (st := hk_saR (hk_mk st 14 0 3) (hd + 2) pl.length (some (hk_nx st))) (bf_k kn),
        pI_b (st := hk_sfI (hk_saR (hk_mk st 14 0 3) (hd + 2) pl.length (some (hk_nx st))) 1400 (hk_nx st) (nI a)) (bf_k kn),
        pI_b (st := hk_sfI (hk_sfI (hk_saR (hk_mk st 14 0 3) (hd + 2) pl.length (some (hk_nx st))) 1400 (hk_nx st) (nI a)) 1401 (hk_nx st) (nI b)) (bf_k kn), hz_gd,
        show hk_bf [14] (hk_saR (hk_mk st 14 0 3) (hd + 2) pl.length (some (hk_nx st))) (hk_nx st) = true from bf_k kn, if_true,
        gI_b (st := hk_sfI (hk_sfI (hk_sfI (hk_saR (hk_mk st 14 0 3) (hd + 2) pl.length (some (hk_nx st))) 1400 (hk_nx st) (nI a)) 1401 (hk_nx st) (nI b)) 1402 (hk_nx st) n) (bf_k (k1 C1)),
        pI_b (st := hk_sfI (hk_sfI (hk_sfI (hk_saR (hk_mk st 14 0 3) (hd + 2) pl.length (some (hk_nx st))) 1400 (hk_nx st) (nI a)) 1401 (hk_nx st) (nI b)) 1402 (hk_nx st) n) (bf_k (k1 C1)),
        fI_sfI, fI_saR, fI_mk, Nat.reduceEqDiff, false_and, if_false, d1, C7, nI_1]
    · have hnx0 : hk_nx st0 ≤ hk_nx st := G1.1
      have no : hk_nx st < hk_nx st0 → False := fun q => by omega
      exact ((((G1.mk.saR (fun _ => rfl)).sfI (fun q => (no q).elim)).sfI (fun q => (no q).elim)).sfI (fun q => (no q).elim)).sfI (fun _ => Or.inl ⟨rfl, rfl⟩)
    · exact Wk.mk (t := 14) (len := 0) (sl := 3) G2
    · -- no Learnt twice
      have rd : ∀ y j, ¬ y = hk_nx st → hk_aR (hk_sfI (hk_sfI (hk_sfI (hk_sfI (hk_saR (hk_mk st 14 0 3) (hd + 2) pl.length (some (hk_nx st))) 1400 (hk_nx st) (nI a)) 1401 (hk_nx st) (nI b)) 1402 (hk_nx st) n) 302 hd (nI (pl.length + 1))) y j =
          if y = hd + 2 ∧ j = pl.length then some (hk_nx st) else hk_aR st y j := fun y j hy => by
        show hk_aR (hk_saR (hk_mk st 14 0 3) (hd + 2) pl.length (some (hk_nx st))) y j = _
        rw [aR_saR, aR_mk, if_neg hy]
      have kk : ∀ p, hk_k (hk_sfI (hk_sfI (hk_sfI (hk_sfI (hk_saR (hk_mk st 14 0 3) (hd + 2) pl.length (some (hk_nx st))) 1400 (hk_nx st) (nI a)) 1401 (hk_nx st) (nI b)) 1402 (hk_nx st) n) 302 hd (nI (pl.length + 1))) p = some (105, 60) → hk_k st p = some (105, 60) ∧ ¬ p = hk_nx st := by
        intro p hp
        have hp2 : hk_k (hk_mk st 14 0 3) p = some (105, 60) := hp
        have pn : ¬ p = hk_nx st := fun q => by rw [q, kn] at hp2; cases hp2
        rw [k_mk, if_neg pn] at hp2
        exact ⟨hp2, pn⟩
      refine ⟨?_, ?_⟩
      · intro p p' k k' la hp hp' hla hla'
        obtain ⟨hp2, pn⟩ := kk p hp
        obtain ⟨hp2', pn'⟩ := kk p' hp'
        rw [rd _ _ pn] at hla
        rw [rd _ _ pn'] at hla'
        have old : ∀ y j, hk_k st y = some (105, 60) → hk_aR st y j = some (hk_nx st) → False := by
          intro y j hy hj
          have := G3.2 y j _ hy hj
          omega
        by_cases e1 : p = hd + 2 ∧ k = pl.length
        · rw [if_pos e1] at hla
          cases hla
          by_cases e2 : p' = hd + 2 ∧ k' = pl.length
          · exact ⟨e1.1.trans e2.1.symm, e1.2.trans e2.2.symm⟩
          · rw [if_neg e2] at hla'
            exact (old _ _ hp2' hla').elim
        · rw [if_neg e1] at hla
          by_cases e2 : p' = hd + 2 ∧ k' = pl.length
          · rw [if_pos e2] at hla'
            cases hla'
            exact (old _ _ hp2 hla).elim
          · rw [if_neg e2] at hla'
            exact G3.1 _ _ _ _ _ hp2 hp2' hla hla'
      · intro p k la hp hla
        obtain ⟨hp2, pn⟩ := kk p hp
        rw [rd _ _ pn] at hla
        show la < hk_nx st + 1
        by_cases e1 : p = hd + 2 ∧ k = pl.length
        · rw [if_pos e1] at hla
          cases hla
          omega
        · rw [if_neg e1] at hla
          have := G3.2 _ _ _ hp2 hla
          omega
    · intro k la hla
      have hla2 : hk_aR (hk_saR (hk_mk st 14 0 3) (hd + 2) pl.length (some (hk_nx st))) (hd + 2) k = some la := hla
      rw [aR_saR, aR_mk, if_neg d2] at hla2
      by_cases e : hd + 2 = hd + 2 ∧ k = pl.length
      · rw [if_pos e] at hla2
        cases hla2
        exact Or.inr G1.1
      · rw [if_neg e] at hla2
        exact G4 k la hla2
    · refine ⟨?_, ?_⟩
      · show hk_nc st + 1 + M0 = hk_nc st0 + (M + 1); omega
      · show hk_ns st + 3 + 3 * M0 = hk_ns st0 + 3 * (M + 1); omega
    · refine ⟨⟨k1 C1, ?_, k1 C3, ?_⟩, ?_, k1 C6, ?_, ?_, by omega, ?_, ?_, ?_⟩
      · show hk_fR (hk_mk st 14 0 3) 300 hd = _
        rw [fR_mk, if_neg d1]; exact C2
      · intro i hi
        show hk_aI (hk_mk st 14 0 3) (hd + 1) i = _
        rw [aI_mk, if_neg d3]; exact C4 i hi
      · show hk_fR (hk_mk st 14 0 3) 301 hd = _
        rw [fR_mk, if_neg d1]; exact C5
      · rw [fI_sfI, if_pos ⟨rfl, rfl⟩, List.length_append]; rfl
      · rw [List.length_append, List.length_singleton]; omega
      · intro k hk
        by_cases e : k = pl.length
        · subst e
          exact ⟨hk_nx st, by show hk_aR (hk_saR (hk_mk st 14 0 3) (hd + 2) pl.length (some (hk_nx st))) (hd + 2) pl.length = _; rw [aR_saR, if_pos ⟨rfl, rfl⟩], kn⟩
        · obtain ⟨la, hla, hkl⟩ := CA k (by omega)
          refine ⟨la, ?_, k1 hkl⟩
          show hk_aR (hk_saR (hk_mk st 14 0 3) (hd + 2) pl.length (some (hk_nx st))) (hd + 2) k = _
          rw [aR_saR, if_neg (fun q => e q.2), aR_mk, if_neg d2]; exact hla
      · intro k hk
        show hk_aR (hk_saR (hk_mk st 14 0 3) (hd + 2) pl.length (some (hk_nx st))) (hd + 2) k = _
        rw [aR_saR, if_neg (fun q => by omega), aR_mk, if_neg d2]; exact CB k (by omega)
      · intro k la' hk hla'
        rw [List.length_append, List.length_singleton] at hk
        have hla2 : hk_aR (hk_saR (hk_mk st 14 0 3) (hd + 2) pl.length (some (hk_nx st))) (hd + 2) k = some la' := hla'
        rw [aR_saR, aR_mk, if_neg d2] at hla2
        by_cases e : k < pl.length
        · rw [if_neg (fun q => by omega)] at hla2
          obtain ⟨la2, hla3, hkl⟩ := CA k (by omega)
          rw [hla2] at hla3
          cases hla3
          have hne2 : ¬ la' = hk_nx st := G2.nn hkl
          simp only [fI_sfI, fI_saR, fI_mk, Nat.reduceEqDiff, false_and, true_and, hne2, if_false, pe_lt e]
          exact CC k la' e hla2
        · have : k = pl.length := by omega
          subst this
          rw [if_pos ⟨rfl, rfl⟩] at hla2
          cases hla2
          simp only [fI_sfI, Nat.reduceEqDiff, false_and, true_and, if_false, if_true, pe_eq, and_self]
    · show hk_aR (hk_saR (hk_mk st 14 0 3) (hd + 2) pl.length (some (hk_nx st))) (hd + 2) pl.length = _
      rw [aR_saR, if_pos ⟨rfl, rfl⟩]
end S2Y
