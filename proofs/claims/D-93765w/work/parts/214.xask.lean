set_option maxRecDepth 100000
/-! ===== STAGE 2: the class's asks and copies of heads ===== -/
/-- an int array's contents taken for others -/
def hk_rA (st : hk_St) (a : Nat) (g : Nat → Int32) : hk_St := (st.1, st.2.1, st.2.2.1, st.2.2.2.1, fun b i => if b = a then g i else st.2.2.2.2.1 b i, st.2.2.2.2.2)
theorem rA_self {st : hk_St} {a : Nat} : hk_rA st a (hk_aI st a) = st := by
  unfold hk_rA hk_aI
  obtain ⟨q1, q2, q3, q4, q5, q6⟩ := st
  simp only [Prod.mk.injEq, true_and, and_true]
  funext b i
  by_cases h : b = a
  · subst h; simp
  · simp [h]
theorem rA_saI {st : hk_St} {a i : Nat} {g : Nat → Int32} {v : Int32} : hk_saI (hk_rA st a g) a i v = hk_rA st a (fun j => if j = i then v else g j) := by
  unfold hk_rA hk_saI hk_u2
  simp only [Prod.mk.injEq, true_and, and_true]
  funext b j
  by_cases h : b = a
  · subst h; simp
  · simp [h]
theorem rA_aI {st : hk_St} {a b i : Nat} {g : Nat → Int32} : hk_aI (hk_rA st a g) b i = if b = a then g i else hk_aI st b i := rfl
theorem rA_k {st : hk_St} {a : Nat} {g : Nat → Int32} : hk_k (hk_rA st a g) = hk_k st := rfl
theorem rA_fR {st : hk_St} {a : Nat} {g : Nat → Int32} : hk_fR (hk_rA st a g) = hk_fR st := rfl
theorem Fr.rA {pI pL pR : Nat → Nat → Prop} {pA pB pO : Nat → Prop} {st st1 : hk_St} {a : Nat} {g : Nat → Int32} (h : Fr pI pL pR pA pB pO st st1) (hp : a < hk_nx st → pA a) : Fr pI pL pR pA pB pO st (hk_rA st1 a g) := by
  obtain ⟨h0, h1, h2, h3, h4, h5, h6, h7⟩ := h
  refine ⟨h0, h1, h2, h3, h4, fun c j hc hq => ?_, h6, h7⟩
  rw [rA_aI, if_neg (fun q => hq (by rw [q]; exact hp (by omega)))]
  exact h5 c j hc hq
section S2Z
variable {st st0 st1 : hk_St} {hd a b M M0 pu : Nat} {t : Nat → Nat} {pl : List qP}
theorem CH.times {v : Int32} {k la : Nat} (C : CH st hd t pl M) (G : HG hd st0 M0 st M) (hk : k < pl.length) (hla : hk_aR st (hd + 2) k = some la) :
    CH (hk_sfI st 1402 la v) hd t (pl.set k ((pe pl k).1, (pe pl k).2.1, v)) M ∧ HG hd st0 M0 (hk_sfI st 1402 la v) M := by
  obtain ⟨⟨C1, C2, C3, C4⟩, C5, C6, C7, C8, C9, CA, CB, CC⟩ := C
  obtain ⟨G1, G2, G3, G4, G5, G6⟩ := G
  refine ⟨⟨⟨C1, C2, C3, C4⟩, C5, C6, ?_, by rw [List.length_set]; exact C8, C9, CA, CB, ?_⟩, G1.sfI (fun hn => Or.inr ⟨Or.inr (Or.inr rfl), k, ?_⟩), G2, G3, G4, G5, G6⟩
  · rw [fI_sfI, if_neg (fun q => absurd q.1 (by decide)), List.length_set]; exact C7
  · intro j la' hj hla'
    rw [List.length_set] at hj
    have hla2 : hk_aR st (hd + 2) j = some la' := hla'
    obtain ⟨f0, f1, f2⟩ := CC j la' hj hla2
    rw [pe_set hk]
    simp only [fI_sfI, Nat.reduceEqDiff, false_and, true_and, if_false]
    by_cases e : j = k
    · subst e
      rw [hla] at hla2
      cases hla2
      simp only [if_true]
      exact ⟨f0, f1, trivial⟩
    · have hne : ¬ la' = la := fun q => by
        rw [q] at hla2
        exact e (G3.1 _ _ _ _ _ C6 C6 hla2 hla).2
      simp only [hne, e, if_false]
      exact ⟨f0, f1, f2⟩
  · rcases G4 _ _ hla with q | q
    · exact q
    · omega
theorem set_end {l : List qP} {x y : qP} : (l ++ [x]).set l.length y = l ++ [y] := by
  induction l with
  | nil => rfl
  | cons z l ih => simp [ih]
theorem qx_ask (C : CH st hd t pl M) (hv : Pv pl) (G : HG hd st0 M0 st M) (ha : a ≤ 99) (hb : b ≤ 99) :
    ∃ st' M', xHead_ask hd (nI a) (nI b) st = some ((qAsk pl a b).1, st') ∧ HG hd st0 M0 st' M' ∧ CH st' hd t (qAsk pl a b).2 M' ∧ (pl.length = M → M' = (qAsk pl a b).2.length) := by
  have hF := qx_fnd C hv (show a < 2 ^ 31 by omega) (show b < 2 ^ 31 by omega)
  have hl := hv.1
  have C1 := C.1.1
  have C7 := C.2.2.2.1
  cases hf : qFnd pl a b with
  | some k =>
    have hk := (qFd_some _ _ hf).2.1
    rw [Nat.zero_add] at hk
    obtain ⟨la, hla, hkl⟩ := C.2.2.2.2.2.2.1 k (Nat.lt_of_lt_of_le hk C.2.2.2.2.1)
    have hT := C.times (v := (pe pl k).2.2 + 1) G hk hla
    have h2 := (C.2.2.2.2.2.2.2.2 k la hk hla).2.2
    refine ⟨_, M, ?_, hT.2, by simp only [qAsk, hf]; exact hT.1, fun q => by simp only [qAsk, hf, List.length_set]; exact q.symm⟩
    rw [hf] at hF
    simp only [xHead_ask, hz_nm, hF, hz_ob, hz_gd, bf_k C1, if_true, hla, hz_os, hz_on, hz_nn, gI_b (bf_k hkl), pI_b (bf_k hkl), h2, gI_b (st := hk_sfI st 1402 la ((pe pl k).2.2 + 1)) (bf_k hkl), fI_sfI, and_self, qAsk, hf]
  | none =>
    rw [hf] at hF
    by_cases h60 : pl.length = 60
    · refine ⟨st, M, ?_, G, by simp only [qAsk, hf, h60, if_true]; exact C, fun q => by simp only [qAsk, hf, h60, if_true]; omega⟩
      simp only [xHead_ask, hz_nm, hF, hz_ob, hz_gd, bf_k C1, if_true, hz_os, hz_on, gI_b (bf_k C1), C7, h60, show nI 60 = (60 : Int32) from rfl, qAsk, hf]
    · obtain ⟨la, st1, M1, E1, G1, D1, hla, hM1⟩ := qx_add (a := a) (b := b) (n := 0) C G (by omega)
      have hk : pl.length < (pl ++ [(a, b, (0 : Int32))]).length := by simp
      have hT := D1.times (v := (0 : Int32) + 1) G1 hk hla
      obtain ⟨la2, hla2, hkl⟩ := D1.2.2.2.2.2.2.1 pl.length (Nat.lt_of_lt_of_le hk D1.2.2.2.2.1)
      rw [hla] at hla2
      cases hla2
      have h2 := (D1.2.2.2.2.2.2.2.2 pl.length la hk hla).2.2
      rw [pe_eq] at h2 hT
      rw [set_end] at hT
      refine ⟨_, M1, ?_, hT.2, by simp only [qAsk, hf, h60, if_false]; exact hT.1, fun q => by rw [hM1 q]; simp only [qAsk, hf, h60, if_false, List.length_append, List.length_singleton]; omega⟩
      have n60 : ¬ nI pl.length = (60 : Int32) := fun q => h60 ((nI_eq (by omega) (by decide)).mp q)
      simp only [xHead_ask, hz_nm, hF, hz_ob, hz_gd, bf_k C1, if_true, hz_os, hz_on, gI_b (bf_k C1), C7, n60, if_false, E1, hz_nn, gI_b (bf_k hkl), pI_b (bf_k hkl), h2, gI_b (st := hk_sfI st1 1402 la ((0 : Int32) + 1)) (bf_k hkl), fI_sfI, and_self, qAsk, hf, h60]
-- a copy
theorem qx_copy_told {e0 : hk_St → Option hk_St} (k0 : hk_k st pu = some (3, 0)) (f0 : hk_fR st 300 pu = some (pu + 1)) (k1 : hk_k st (pu + 1) = some (100, 5)) (H : hk_KH st hd (hd + 1) t) (hne : hd ≠ pu) :
    ∀ m f k g, m < f → k + m = 5 → (∀ i, i < k → g i = nI (t i)) → ∃ g', xHead_copy_L2 pu hd e0 f (nI k) (hk_rA st (pu + 1) g) = e0 (hk_rA st (pu + 1) g') ∧ ∀ i, i < 5 → g' i = nI (t i) := by
  intro m
  induction m with
  | zero =>
    intro f k g hf hk hg
    obtain ⟨f, rfl⟩ : ∃ g, f = g + 1 := ⟨f - 1, by omega⟩
    refine ⟨g, ?_, fun i hi => hg i (by omega)⟩
    show xHead_copy_L2b pu hd e0 _ _ _ = _
    have : k = 5 := by omega
    subst this
    simp only [xHead_copy_L2b, show (5 : Int32) ≤ nI 5 by decide, if_true]
  | succ m ih =>
    intro f k g hf hk hg
    obtain ⟨f, rfl⟩ : ∃ g, f = g + 1 := ⟨f - 1, by omega⟩
    show ∃ g', xHead_copy_L2b pu hd e0 (xHead_copy_L2 pu hd e0 f) (nI k) (hk_rA st (pu + 1) g) = _ ∧ _
    have e5 : ¬ (5 : Int32) ≤ nI k := by rw [show (5 : Int32) = nI 5 from rfl]; exact nI_ge (by omega) (by decide)
    have hl : hk_lI 0 (hk_rA st (pu + 1) g) (hd + 1) (nI k) = some (nI (t k)) := by
      rw [lI_k (st := hk_rA st (pu + 1) g) (ty := 0) H.2.2.1 (show k < 5 by omega) (by decide), rA_aI, if_neg (by omega), H.2.2.2 k (by omega)]
    simp only [xHead_copy_L2b, e5, if_false, gR_b (st := hk_rA st (pu + 1) g) (bf_k k0), gR_b (st := hk_rA st (pu + 1) g) (bf_k H.1), rA_fR, f0, H.2.1, hz_nn, hl, hz_ob,
      tI_k (st := hk_rA st (pu + 1) g) (ty := 0) k1 (show k < 5 by omega) (by decide), hk_nar, rA_saI, hz_nm, nI_1]
    refine ih f (k + 1) _ (by omega) (by omega) ?_
    intro i hi
    by_cases e : i = k
    · subst e; simp
    · simp only [e, if_false]; exact hg i (by omega)
theorem take_pe {k : Nat} (h : k < pl.length) : pl.take k ++ [((pe pl k).1, (pe pl k).2.1, (pe pl k).2.2)] = pl.take (k + 1) := by
  have : pe pl k = pl[k] := by simp [pe, h]
  rw [show ((pe pl k).1, (pe pl k).2.1, (pe pl k).2.2) = pl[k] from this]
  exact List.take_append_getElem h
theorem qx_copy_pairs {t' : Nat → Nat} {e0 : hk_St → Option hk_St} (hv : Pv pl) (hne : hd ≠ pu) :
    ∀ m f k st Mk, m < f → k + m = pl.length → CH st hd t pl M → HG pu st0 M0 st Mk → CH st pu t' (pl.take k) Mk →
    ∃ st' M', xHead_copy_L32 pu hd e0 f (nI k) st = e0 st' ∧ HG pu st0 M0 st' M' ∧ CH st' pu t' pl M' := by
  have hl := hv.1
  intro m
  induction m with
  | zero =>
    intro f k st Mk hf hk C G D
    obtain ⟨f, rfl⟩ : ∃ g, f = g + 1 := ⟨f - 1, by omega⟩
    have : k = pl.length := by omega
    subst this
    rw [List.take_length] at D
    refine ⟨st, Mk, ?_, G, D⟩
    show xHead_copy_L32b pu hd e0 _ _ _ = _
    simp only [xHead_copy_L32b, gI_b (bf_k C.1.1), C.2.2.2.1, hz_ob, Int32.le_refl, if_true]
  | succ m ih =>
    intro f k st Mk hf hk C G D
    obtain ⟨f, rfl⟩ : ∃ g, f = g + 1 := ⟨f - 1, by omega⟩
    show ∃ st' M', xHead_copy_L32b pu hd e0 (xHead_copy_L32 pu hd e0 f) (nI k) st = _ ∧ _
    have C' := C
    obtain ⟨⟨C1, C2, C3, C4⟩, C5, C6, C7, C8, C9, CA, CB, CC⟩ := C
    obtain ⟨la, hla, hkl⟩ := CA k (by omega)
    obtain ⟨f0, f1, f2⟩ := CC k la (by omega) hla
    have hlen : (pl.take k).length = k := by simp; omega
    obtain ⟨la2, st1, M1, E1, G1, D1, _⟩ := qx_add (a := (pe pl k).1) (b := (pe pl k).2.1) (n := (pe pl k).2.2) D G (by omega)
    rw [take_pe (by omega)] at D1
    have P6 := D.2.2.1
    have P3 := D.1.2.2.1
    have frs : FrP pu st st1 := by
      -- the step alone
      obtain ⟨la3, st3, M3, E3, G3, D3, _⟩ := qx_add (a := (pe pl k).1) (b := (pe pl k).2.1) (n := (pe pl k).2.2) D (HG.rf G.2.1 G.2.2.1) (by omega)
      rw [E1] at E3
      cases E3
      exact G3.1
    have C2' := C'.fr frs G.2.1 G.2.2.1 P6 P3 hne
    simp only [xHead_copy_L32b, gI_b (bf_k C1), gR_b (bf_k C1), C7, C5, hz_ob, nI_ge (show k < pl.length by omega) (show pl.length < 2 ^ 31 by omega), if_false, hz_nn, lR_k (ty := 5) C6 (show k < 60 by omega) (by decide), hla,
      gI_b (bf_k hkl), f0, f1, f2, E1, hz_gd, bf_k D.1.1, if_true, hz_nm, nI_1]
    exact ih f (k + 1) st1 M1 (by omega) (by omega) C2' G1 D1
theorem qx_copy {t0 : Nat → Nat} {pl0 : List qP} (C : CH st hd t pl M) (P : CH st pu t0 pl0 M0) (hv : Pv pl) (hne : hd ≠ pu) (hw : Wk st) (hl : Li st) :
    ∃ st' M', xHead_copy pu hd st = some st' ∧ HG pu st M0 st' M' ∧ CH st' pu t pl M' := by
  have C' := C
  have P' := P
  obtain ⟨⟨C1, C2, C3, C4⟩, C5, C6, C7, C8, C9, CA, CB, CC⟩ := C
  obtain ⟨⟨P1, P2, P3, P4⟩, P5, P6, P7, P8, P9, PA, PB, PC⟩ := P
  obtain ⟨g, E, hg⟩ := qx_copy_told (e0 := fun (s3 : hk_St) =>
    (hk_pI [3] 302 s3 pu (0 : Int32)).bind fun s12 =>
    xHead_copy_L32 pu hd (fun (s15 : hk_St) =>
      some s15) hk_F (0 : Int32) s12) P1 P2 P3 ⟨C1, C2, C3, C4⟩ hne 5 hk_F 0 (hk_aI st (pu + 1)) (pw_F (by decide)) rfl (fun i hi => absurd hi (Nat.not_lt_zero i))
  rw [rA_self, nI_0] at E
  unfold xHead_copy
  rw [E]
  simp only [pI_b (st := hk_rA st (pu + 1) g) (bf_k P1), hz_ob]
  have fr0 : FrP pu st st := Fr.rf
  have fr1 : FrP pu st (hk_rA st (pu + 1) g) := Fr.rA fr0 (fun _ => rfl)
  have fr : FrP pu st (hk_sfI (hk_rA st (pu + 1) g) 302 pu 0) := Fr.sfI fr1 (fun _ => Or.inl ⟨rfl, rfl⟩)
  have G : HG pu st M0 (hk_sfI (hk_rA st (pu + 1) g) 302 pu 0) M0 := ⟨fr, hw, hl, fun _ _ h => Or.inl h, rfl, rfl⟩
  have D : CH (hk_sfI (hk_rA st (pu + 1) g) 302 pu 0) pu t (pl.take 0) M0 := by
    refine ⟨⟨P1, P2, P3, fun i hi => ?_⟩, P5, P6, ?_, by simp, P9, PA, PB, fun k la hk => absurd hk (by simp)⟩
    · show hk_aI (hk_rA st (pu + 1) g) (pu + 1) i = _
      rw [rA_aI, if_pos rfl]; exact hg i hi
    · rw [fI_sfI, if_pos ⟨rfl, rfl⟩]; rfl
  have C2' := C'.fr fr hw hl P6 P3 hne
  obtain ⟨st', M', E', G', D'⟩ := qx_copy_pairs (e0 := fun s => some s) hv hne pl.length hk_F 0 _ M0 (pw_F (by have := hv.1; omega)) (by omega) C2' G D
  rw [nI_0] at E'
  exact ⟨st', M', E', G', D'⟩
end S2Z
