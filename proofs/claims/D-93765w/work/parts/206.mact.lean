set_option maxRecDepth 100000
/-! ===== STAGE 2: the reference's acts against the numbers ===== -/
theorem hz_nm {α β : Type} {e : α} {f : α → β} : hk_nm e f = f e := Eq.trans rfl rfl
theorem hz_ob {α β : Type} {a : α} {f : α → Option β} : (some a).bind f = f a := Eq.trans rfl rfl
theorem hz_gd {α : Type} {b : Bool} {x : Option α} : hk_gd b x = if b = true then x else none := Eq.trans rfl rfl
theorem hz_nn {α : Type} {a : Nat} {f : Nat → Option α} : hk_nn (some a) f = f a := Eq.trans rfl rfl
theorem hz_os {α : Type} {a : Nat} {x : α} {f : Nat → α} : hk_oc (some a) x f = f a := Eq.trans rfl rfl
theorem hz_on {α : Type} {x : α} {f : Nat → α} : hk_oc none x f = x := Eq.trans rfl rfl
theorem hmI_sI {s : hk_Ms} {f g : Nat} {v : Int32} : hm_I (hm_sI s f v) g = if g = f then v else hm_I s g := Eq.trans rfl rfl
theorem hmI_sA {s : hk_Ms} {j i g : Nat} {v : Int32} : hm_I (hm_sA s j i v) g = hm_I s g := Eq.trans rfl rfl
theorem hmI_sL {s : hk_Ms} {f g : Nat} {v : Int64} : hm_I (hm_sL s f v) g = hm_I s g := Eq.trans rfl rfl
theorem hmI_sB {s : hk_Ms} {j i g : Nat} {v : Int64} : hm_I (hm_sB s j i v) g = hm_I s g := Eq.trans rfl rfl
theorem hmA_sI {s : hk_Ms} {f j i : Nat} {v : Int32} : hm_A (hm_sI s f v) j i = hm_A s j i := Eq.trans rfl rfl
theorem hmA_sA {s : hk_Ms} {j i j2 i2 : Nat} {v : Int32} : hm_A (hm_sA s j i v) j2 i2 = if j2 = j ∧ i2 = i then v else hm_A s j2 i2 := Eq.trans rfl rfl
theorem hmA_sL {s : hk_Ms} {f j i : Nat} {v : Int64} : hm_A (hm_sL s f v) j i = hm_A s j i := Eq.trans rfl rfl
theorem hmA_sB {s : hk_Ms} {j i j2 i2 : Nat} {v : Int64} : hm_A (hm_sB s j i v) j2 i2 = hm_A s j2 i2 := Eq.trans rfl rfl
theorem hmL_sI {s : hk_Ms} {f g : Nat} {v : Int32} : hm_L (hm_sI s f v) g = hm_L s g := Eq.trans rfl rfl
theorem hmL_sA {s : hk_Ms} {j i g : Nat} {v : Int32} : hm_L (hm_sA s j i v) g = hm_L s g := Eq.trans rfl rfl
theorem hmL_sL {s : hk_Ms} {f g : Nat} {v : Int64} : hm_L (hm_sL s f v) g = if g = f then v else hm_L s g := Eq.trans rfl rfl
theorem hmL_sB {s : hk_Ms} {j i g : Nat} {v : Int64} : hm_L (hm_sB s j i v) g = hm_L s g := Eq.trans rfl rfl
theorem hmB_sI {s : hk_Ms} {f j i : Nat} {v : Int32} : hm_B (hm_sI s f v) j i = hm_B s j i := Eq.trans rfl rfl
theorem hmB_sA {s : hk_Ms} {j i j2 i2 : Nat} {v : Int32} : hm_B (hm_sA s j i v) j2 i2 = hm_B s j2 i2 := Eq.trans rfl rfl
theorem hmB_sL {s : hk_Ms} {f j i : Nat} {v : Int64} : hm_B (hm_sL s f v) j i = hm_B s j i := Eq.trans rfl rfl
theorem hmB_sB {s : hk_Ms} {j i j2 i2 : Nat} {v : Int64} : hm_B (hm_sB s j i v) j2 i2 = if j2 = j ∧ i2 = i then v else hm_B s j2 i2 := Eq.trans rfl rfl
theorem hmt {s : hk_Ms} {j n i : Nat} {v : Int32} (h : i < n) (hn : n < 2 ^ 31) : hm_tI s j n (nI i) v = some (hm_sA s j i v) := by
  rw [hm_tI, if_pos (hk_in_nI h hn), nI_clamp (by omega)]
theorem hml {s : hk_Ms} {j n i : Nat} (h : i < n) (hn : n < 2 ^ 31) : hm_lI s j n (nI i) = some (hm_A s j i) := by
  rw [hm_lI, if_pos (hk_in_nI h hn), nI_clamp (by omega)]
theorem hmtB {s : hk_Ms} {j n i : Nat} {v : Int64} (h : i < n) (hn : n < 2 ^ 31) : hm_tL s j n (nI i) v = some (hm_sB s j i v) := by
  rw [hm_tL, if_pos (hk_in_nI h hn), nI_clamp (by omega)]
theorem hmlB {s : hk_Ms} {j n i : Nat} (h : i < n) (hn : n < 2 ^ 31) : hm_lL s j n (nI i) = some (hm_B s j i) := by
  rw [hm_lL, if_pos (hk_in_nI h hn), nI_clamp (by omega)]
/-- the reference's lasting fields and arrays -/
def mcI (f : Nat) : Bool := [4, 5, 7, 9, 16, 33, 37, 40, 41, 42, 43, 45, 48].contains f
def mcA (j : Nat) : Bool := [0, 1, 2, 3, 4, 5, 8, 9, 10, 18, 19, 20, 21, 22, 23, 24, 25, 26, 27].contains j
/-- but scratch alike -/
def ScM (s s' : hk_Ms) : Prop := (∀ f, mcI f = true → hm_I s' f = hm_I s f) ∧ (∀ j i, mcA j = true → hm_A s' j i = hm_A s j i) ∧ (∀ i, hm_B s' 28 i = hm_B s 28 i)
theorem ScM.rf {s : hk_Ms} : ScM s s := ⟨fun _ _ => rfl, fun _ _ _ => rfl, fun _ => rfl⟩
theorem ScM.trans {s s1 s2 : hk_Ms} (h : ScM s s1) (k : ScM s1 s2) : ScM s s2 := ⟨fun f hf => (k.1 f hf).trans (h.1 f hf), fun j i hj => (k.2.1 j i hj).trans (h.2.1 j i hj), fun i => (k.2.2 i).trans (h.2.2 i)⟩
theorem ScM.sI {s s1 : hk_Ms} {f : Nat} {v : Int32} (h : ScM s s1) (hf : mcI f = false) : ScM s (hm_sI s1 f v) := by
  refine ⟨fun g hg => ?_, h.2.1, h.2.2⟩
  rw [hmI_sI]
  by_cases e : g = f
  · subst e; rw [hf] at hg; cases hg
  · rw [if_neg e]; exact h.1 g hg
theorem ScM.sA {s s1 : hk_Ms} {j i : Nat} {v : Int32} (h : ScM s s1) (hj : mcA j = false) : ScM s (hm_sA s1 j i v) := by
  refine ⟨h.1, fun j2 i2 hg => ?_, h.2.2⟩
  rw [hmA_sA]
  by_cases e : j2 = j ∧ i2 = i
  · rw [e.1, hj] at hg; cases hg
  · rw [if_neg e]; exact h.2.1 j2 i2 hg
theorem ScM.sL {s s1 : hk_Ms} {f : Nat} {v : Int64} (h : ScM s s1) : ScM s (hm_sL s1 f v) := h
theorem ScM.sB {s s1 : hk_Ms} {j i : Nat} {v : Int64} (h : ScM s s1) (hj : j ≠ 28) : ScM s (hm_sB s1 j i v) := by
  refine ⟨h.1, h.2.1, fun i2 => ?_⟩
  rw [hmB_sB, if_neg (fun q => hj q.1.symm)]
  exact h.2.2 i2
/-- the acts that lie in the reference, behind a start s0: its head h, what that was told (at 3: the table), the rows' array -/
def RM (s0 s : hk_Ms) (A : qS) (h : Nat) (t : Nat → Nat) (g : Nat → Int32) : Prop :=
  ScM s0 s ∧ hm_I s 21 = nI (sA A).length ∧ hm_I s 28 = nI (sK A) ∧ hm_I s 29 = nI (sR A) ∧ hm_I s 30 = nI h ∧ hm_I s 31 = nI (t 3) ∧ (∀ i, hm_A s 17 i = g i) ∧
  ∀ i r, (sA A)[i]? = some r → hm_A s 11 i = nI (aSo r) ∧ hm_A s 12 i = nI (aV r) ∧ hm_A s 13 i = nI (aLe r) ∧ hm_A s 14 i = nI (aHe r) ∧ hm_A s 15 i = nI (aSl r * 10 ^ aPl r) ∧ hm_A s 16 i = nI (if aSo r = 1 then aPl r else 0)
/-- what a head was told, in the reference -/
def HM (s0 : hk_Ms) (h : Nat) (t : Nat → Nat) : Prop := h < 6 ∧ ∀ i, i < 3 → hm_A s0 0 (5 * h + i) = nI (t i)
section S2N
variable {s0 s : hk_Ms} {A : qS} {h : Nat} {t : Nat → Nat} {g : Nat → Int32}
theorem qm_act {so v le sl pl : Nat} {vI slI plI : Int32} (R : RM s0 s A h t g) (H : HM s0 h t) (hso : so ≤ 2) (hn : (sA A).length < 120) (hr : sR A < 2 ^ 31) (hv : v < 2 ^ 31)
    (hvI : vI = nI v) (hle : le = if so = 0 then t 0 else t so * (if so = 2 ∧ v = 0 then 1 else nd v)) (hsl : slI = nI (sl * 10 ^ sP A)) (hpl : pl = if so = 1 then sP A else 0) (hplI : plI = nI pl) :
    ∃ s', m_acts (nI so) vI slI plI s = some s' ∧ RM s0 s' (qAct so v le sl A) h t g := by
  obtain ⟨RS, R1, R2, R3, R4, R5, RG, RX⟩ := R
  obtain ⟨hh, H⟩ := H
  subst hvI hsl hplI
  have e1 : (5 : Int32) * hm_I s 30 + nI so = nI (5 * h + so) := by rw [R4, show (5 : Int32) = nI 5 from rfl, pk_mul, nI_add]
  have e2 : hm_lI s 0 30 (nI (5 * h + so)) = some (nI (t so)) := by rw [hml (by omega) (by decide), RS.2.1 0 _ rfl, H so (by omega)]
  have tt := fun (s : hk_Ms) (j : Nat) (v : Int32) => hmt (s := s) (j := j) (n := 200) (i := (sA A).length) (v := v) (by omega) (by decide)
  have hd29 : m_digits (nI (sR A)) = some (nI (nd (sR A))) := ll_digits hr
  have hdv := ll_digits hv
  refine ⟨hm_sI (hm_sA (hm_sA (hm_sA (hm_sA (hm_sA (hm_sA s 11 (sA A).length (nI so)) 12 (sA A).length (nI v)) 13 (sA A).length (nI le)) 14 (sA A).length (nI (sK A + nd (sR A)))) 15 (sA A).length (nI (sl * 10 ^ sP A))) 16 (sA A).length (nI pl)) 21 (nI ((sA A).length + 1)), ?_, ?_⟩
  · have hc : so = 0 ∨ so = 1 ∨ so = 2 := by omega
    simp only [m_acts, hk_nm, R1, e1, e2, tt, Option.bind_some, hmI_sA, R3, hd29, R2, nI_add, nI_1, hdv]
    rcases hc with rfl | rfl | rfl
    · rw [hle, if_pos rfl, if_pos nI_0]
    · rw [hle, if_neg (show ¬ nI 1 = 0 by decide), if_neg (show ¬ nI 1 = (2 : Int32) by decide), pk_mul, if_neg (show ¬ (1 = 0) by decide), if_neg (by omega)]
    · rw [hle, if_neg (show ¬ nI 2 = 0 by decide), if_pos (show nI 2 = (2 : Int32) by decide), if_neg (show ¬ (2 = 0) by decide)]
      by_cases hv0 : v = 0
      · rw [if_pos ((li_eq0 hv).mpr hv0), if_pos ⟨rfl, hv0⟩, show nI (t 2) * (1 : Int32) = nI (t 2 * 1) from pk_mul _ 1]
      · rw [if_neg (fun q => hv0 ((li_eq0 hv).mp q)), if_neg (fun q => hv0 q.2), pk_mul]
  · unfold RM
    simp only [hmI_sI, hmI_sA, hmA_sI, hmA_sA, Nat.reduceEqDiff, if_true, if_false, qAct_A, qAct_K, qAct_R, List.length_append, List.length_singleton, false_and]
    refine ⟨((((((RS.sA rfl).sA rfl).sA rfl).sA rfl).sA rfl).sA rfl).sI rfl, trivial, R2, R3, R4, R5, RG, ?_⟩
    intro i r hi
    rcases ap_get hi with ⟨h1, h2⟩ | ⟨h1, h2⟩
    · have h3 : ¬ i = (sA A).length := by omega
      simp only [h3, and_false, if_false]
      exact RX i r h2
    · subst h1 h2
      simp [aSo, aLe, aHe, aV, aSl, aPl]
      exact congrArg nI hpl
theorem RM.sR {r : Nat} (R : RM s0 s A h t g) : RM s0 (hm_sI s 29 (nI r)) (sR_ A r) h t g := by
  obtain ⟨RS, R1, R2, R3, R4, R5, RG, RX⟩ := R
  exact ⟨RS.sI rfl, R1, R2, rfl, R4, R5, RG, RX⟩
theorem RM.sK {r : Nat} (R : RM s0 s A h t g) : RM s0 (hm_sI s 28 (nI r)) (sK_ A r) h t g := by
  obtain ⟨RS, R1, R2, R3, R4, R5, RG, RX⟩ := R
  exact ⟨RS.sI rfl, R1, rfl, R3, R4, R5, RG, RX⟩
theorem RM.sF {r : Bool} (R : RM s0 s A h t g) : RM s0 s (sF_ A r) h t g := R
theorem qm_holds (R : RM s0 s A h t g) (H : HM s0 h t) (G : qG A 1 0) (h0 : sR A ≠ 0) :
    ∃ s', m_holds s = some s' ∧ RM s0 s' (qHold t (sR A) (ns1 (sR A)) (qBegin A)) h t g := by
  have hr := G.2.1
  have hn := G.2.2.1
  have R1 : RM s0 (hm_sI (hm_sI s 28 (nI (sK A + ns1 (sR A)))) 29 (nI 0)) (sK_ (qBegin A) (sK A + ns1 (sR A))) h t g := ((RM.sK R).sR).sF
  obtain ⟨s2, E2, R2⟩ := qm_act (so := 2) (v := sR A) (le := t 2 * ns1 (sR A)) (sl := 0) (pl := 0) (vI := nI (sR A)) (slI := 0) (plI := 0) R1 H (by decide) (by show (sA A).length < 120; omega) (by show 0 < 2 ^ 31; decide) hr rfl
    (by rw [if_neg (by decide), if_neg (fun q => h0 q.2), ns1_pos h0]) (by rw [Nat.zero_mul]; rfl) rfl rfl
  refine ⟨s2, ?_, R2⟩
  simp only [m_holds, hk_nm, R.2.2.2.1, R.2.2.1, ll_digits hr, Option.bind_some, nI_add]
  rw [← ns1_pos h0]
  rw [nI2, nI_0] at E2
  rw [E2]
  rfl
/-- a look and an add, at the place 0 -/
theorem qm_look {x y p : Nat} {fI : Int32} (R : RM s0 s A h t g) (H : HM s0 h t) (G : qG A 2 (x * y * 10 ^ p)) (hx : x ≤ 9) (hy : y ≤ 9) (hx0 : x ≠ 0) (hy0 : y ≠ 0) (hp : p < 1000) (hP : sP A = 0) (hf : fI = if sF A then 1 else 0) :
    ∃ s', m_lookAndAdd (nI x) (nI y) (nI p) fI (0 : Int32) s = some (0, s') ∧ RM s0 s' (qLook t x y (10 ^ p) A) h t g := by
  have hr := G.2.1
  have hn := G.2.2.1
  have hs := G.2.2.2
  have hw0 : 10 ^ p ≠ 0 := Nat.pos_iff_ne_zero.mp (Nat.pow_pos (by decide))
  have hv0 : x * y * 10 ^ p ≠ 0 := Nat.mul_ne_zero (Nat.mul_ne_zero hx0 hy0) hw0
  have e1 : nI x * nI y * nI (10 ^ p) = nI (x * y * 10 ^ p) := by rw [pk_mul, pk_mul]
  have t0 : m_tens (0 : Int32) = some (nI (10 ^ 0)) := ll_tens (p := 0) (by decide)
  have tp := ll_tens (p := p) (by omega)
  by_cases hF : sF A = true
  · rw [if_pos hF] at hf
    subst hf
    obtain ⟨s2, E2, R2⟩ := qm_act (so := 0) (v := x * y * 10 ^ p) (le := t 0) (sl := min x y * 10 ^ p) (pl := 0) (vI := nI (x * y * 10 ^ p)) (slI := nI (min x y * 10 ^ p * 10 ^ sP A)) (plI := 0) (RM.sR (r := x * y * 10 ^ p) R) H (by decide)
      (by show (sA A).length < 120; omega) (by show x * y * 10 ^ p < 2 ^ 31; omega) (by omega) rfl (by rw [if_pos rfl]) rfl rfl rfl
    refine ⟨s2, ?_, ?_⟩
    · rw [nI_0] at E2
      by_cases hyx : y ≤ x
      · have e2 : nI y * nI (10 ^ p) * nI (10 ^ 0) = nI (min x y * 10 ^ p * 10 ^ sP A) := by rw [pk_mul, pk_mul, hP, Nat.min_eq_right hyx]
        simp only [m_lookAndAdd, hk_nm, tp, t0, Option.bind_some, e1, show ¬ (1 : Int32) = 0 by decide, if_false, nI_le hyx (show x < 2 ^ 31 by omega), if_true, e2, E2]
      · have e2 : nI x * nI (10 ^ p) * nI (10 ^ 0) = nI (min x y * 10 ^ p * 10 ^ sP A) := by rw [pk_mul, pk_mul, hP, Nat.min_eq_left (by omega)]
        simp only [m_lookAndAdd, hk_nm, tp, t0, Option.bind_some, e1, show ¬ (1 : Int32) = 0 by decide, if_false, nI_ge (show x < y by omega) (show y < 2 ^ 31 by omega), e2, E2]
    · rw [qLook, if_pos hF]
      exact R2.sF
  · rw [if_neg hF] at hf
    subst hf
    rw [sBs, if_neg hF] at hs
    obtain ⟨s2, E2, R2⟩ := qm_act (so := 0) (v := x * y * 10 ^ p) (le := t 0) (sl := min x y * 10 ^ p) (pl := 0) (vI := nI (x * y * 10 ^ p)) (slI := nI (min x y * 10 ^ p * 10 ^ sP A)) (plI := 0) R H (by decide)
      (by omega) hr (by omega) rfl (by rw [if_pos rfl]) rfl rfl rfl
    have hl3 : (sA (qAct 0 (x * y * 10 ^ p) (t 0) (min x y * 10 ^ p) A)).length = (sA A).length + 1 := by rw [qAct_A, List.length_append]; rfl
    obtain ⟨s4, E4, R4⟩ := qm_act (so := 1) (v := sR A + x * y * 10 ^ p) (le := t 1 * ns1 (sR A + x * y * 10 ^ p)) (sl := 0) (pl := sP A) (vI := nI (sR A + x * y * 10 ^ p)) (slI := 0) (plI := 0) (RM.sR (r := sR A + x * y * 10 ^ p) R2) H (by decide)
      (by show (sA (qAct 0 _ _ _ A)).length < 120; omega) (by show sR A + x * y * 10 ^ p < 2 ^ 31; omega) (by omega) rfl (by rw [if_neg (by decide), if_neg (by omega), ns1_pos (by omega)]) (by rw [Nat.zero_mul]; rfl) rfl (by rw [hP]; rfl)
    refine ⟨s4, ?_, ?_⟩
    · rw [nI_0] at E2
      rw [nI1] at E4
      have hr2 : hm_I s2 29 = nI (sR A) := R2.2.2.2.1
      by_cases hyx : y ≤ x
      · have e2 : nI y * nI (10 ^ p) * nI (10 ^ 0) = nI (min x y * 10 ^ p * 10 ^ sP A) := by rw [pk_mul, pk_mul, hP, Nat.min_eq_right hyx]
        simp only [m_lookAndAdd, hk_nm, tp, t0, Option.bind_some, e1, nI_le hyx (show x < 2 ^ 31 by omega), if_true, e2, E2, hr2, nI_add, hmI_sI, E4]
      · have e2 : nI x * nI (10 ^ p) * nI (10 ^ 0) = nI (min x y * 10 ^ p * 10 ^ sP A) := by rw [pk_mul, pk_mul, hP, Nat.min_eq_left (by omega)]
        simp only [m_lookAndAdd, hk_nm, tp, t0, Option.bind_some, e1, if_true, nI_ge (show x < y by omega) (show y < 2 ^ 31 by omega), if_false, e2, E2, hr2, nI_add, hmI_sI, E4]
    · rw [qLook, if_neg hF]
      exact R4
end S2N
section S2O
variable {s0 s : hk_Ms} {A : qS} {h : Nat} {t : Nat → Nat} {g : Nat → Int32}
def fI (A : qS) : Int32 := if sF A then 1 else 0
theorem im1 (j : Nat) : nI j + (-1 : Int32) = nI j - 1 := by rw [Int32.sub_eq_add_neg]
theorem im1_lt : nI 0 - 1 < (0 : Int32) := by decide
theorem im1_nlt {j : Nat} (h : j < 2 ^ 31) : ¬ nI (j + 1) - 1 < (0 : Int32) := by rw [nI_pred]; exact nI_pos h
theorem qm_left_in {a b i : Nat} {e0 : Int32 → hk_Ms → Option hk_Ms} (H : HM s0 h t) (ht : ∀ i, t i ≤ 99) (ha : a < 2 ^ 31) (hb : b < 2 ^ 31) (hi : i ≤ 10) (hx : fg a i ≠ 0) :
    ∀ j f s A, j < f → j ≤ 10 → RM s0 s A h t g → sP A = 0 → qG A (2 * (lRow (fg a i) b i j).length) (qSum (lRow (fg a i) b i j)) →
    ∃ s', m_goLeft_L23 (nI a) (nI b) (nI i) e0 f (fI A) (nI j - 1) s = e0 (fI (qLooks t (lRow (fg a i) b i j) A)) s' ∧ RM s0 s' (qLooks t (lRow (fg a i) b i j) A) h t g := by
  intro j
  induction j with
  | zero =>
    intro f s A hf _ R _ _
    obtain ⟨f, rfl⟩ : ∃ g, f = g + 1 := ⟨f - 1, by omega⟩
    refine ⟨s, ?_, R⟩
    show m_goLeft_L23b (nI a) (nI b) (nI i) e0 _ _ _ _ = _
    simp only [m_goLeft_L23b, im1_lt, if_true]
    rfl
  | succ j ih =>
    intro f s A hf hj R hP G
    obtain ⟨f, rfl⟩ : ∃ g, f = g + 1 := ⟨f - 1, by omega⟩
    show ∃ s', m_goLeft_L23b (nI a) (nI b) (nI i) e0 (m_goLeft_L23 (nI a) (nI b) (nI i) e0 f) (fI A) (nI (j + 1) - 1) s = _ ∧ _
    have ea : m_figure (nI a) (nI i) = some (nI (fg a i)) := ll_figure ha (by omega)
    have eb : m_figure (nI b) (nI j) = some (nI (fg b j)) := ll_figure hb (by omega)
    have hfa := fg_10 a i
    have hfb := fg_10 b j
    rw [lRow] at G ⊢
    simp only [m_goLeft_L23b, nI_pos (show j < 2 ^ 31 by omega), if_false, nI_pred, ea, eb, Option.bind_some, hk_nm, im1, nI_add]
    rw [if_neg (fun q => hx ((li_le0 (by omega)).mp q))]
    by_cases h0 : fg b j = 0
    · rw [if_pos h0] at G ⊢
      rw [if_pos ((li_le0 (by omega)).mpr h0)]
      exact ih f s A (by omega) (by omega) R hP G
    · rw [if_neg h0] at G ⊢
      rw [if_neg (fun q => h0 ((li_le0 (by omega)).mp q))]
      rw [qLooks_ap]
      have G1 : qG A (2 * (lRow (fg a i) b i j).length + 2) (fg a i * fg b j * 10 ^ (i + j) + qSum (lRow (fg a i) b i j)) := G.le (by simp; omega) (by simp [qSum])
      obtain ⟨s2, E2, R2⟩ := qm_look (x := fg a i) (y := fg b j) (p := i + j) (fI := fI A) R H (G1.le (by omega) (by omega)) (by omega) (by omega) hx h0 (by omega) hP rfl
      rw [E2]
      simp only [Option.bind_some]
      have hF0 : fI (qLook t (fg a i) (fg b j) (10 ^ (i + j)) A) = 0 := by rw [fI, qLook_F]; rfl
      have := ih f s2 (qLook t (fg a i) (fg b j) (10 ^ (i + j)) A) (by omega) (by omega) R2 (by rw [qLook_P]; exact hP) ?_
      · rw [hF0] at this
        exact this
      · exact qLook_G ht G1
theorem qm_left_in0 {a b i : Nat} {e0 : Int32 → hk_Ms → Option hk_Ms} (ha : a < 2 ^ 31) (hi : i ≤ 10) (hx : fg a i = 0) {fI : Int32} {s : hk_Ms} :
    ∀ j f, j < f → j ≤ 10 → m_goLeft_L23 (nI a) (nI b) (nI i) e0 f fI (nI j - 1) s = e0 fI s := by
  intro j
  induction j with
  | zero =>
    intro f hf _
    obtain ⟨f, rfl⟩ : ∃ g, f = g + 1 := ⟨f - 1, by omega⟩
    show m_goLeft_L23b (nI a) (nI b) (nI i) e0 _ _ _ _ = _
    simp only [m_goLeft_L23b, im1_lt, if_true]
  | succ j ih =>
    intro f hf hj
    obtain ⟨f, rfl⟩ : ∃ g, f = g + 1 := ⟨f - 1, by omega⟩
    show m_goLeft_L23b (nI a) (nI b) (nI i) e0 (m_goLeft_L23 (nI a) (nI b) (nI i) e0 f) fI (nI (j + 1) - 1) s = _
    have ea : m_figure (nI a) (nI i) = some (nI (fg a i)) := ll_figure ha (by omega)
    simp only [m_goLeft_L23b, nI_pos (show j < 2 ^ 31 by omega), if_false, nI_pred, ea, Option.bind_some, hk_nm, im1, hx, show nI 0 ≤ (0 : Int32) by decide, if_true]
    exact ih f (by omega) (by omega)
theorem qm_left_out {a b : Nat} {e0 : hk_Ms → Option hk_Ms} (H : HM s0 h t) (ht : ∀ i, t i ≤ 99) (ha : a < 2 ^ 31) (hb : b < 2 ^ 31) :
    ∀ i f s A, i < f → i ≤ 10 → RM s0 s A h t g → sP A = 0 → qG A (2 * (lAll a b i).length) (qSum (lAll a b i)) →
    ∃ s', m_goLeft_L10 (nI a) (nI b) e0 f (fI A) (nI i - 1) s = e0 s' ∧ RM s0 s' (qLooks t (lAll a b i) A) h t g := by
  intro i
  induction i with
  | zero =>
    intro f s A hf _ R _ _
    obtain ⟨f, rfl⟩ : ∃ g, f = g + 1 := ⟨f - 1, by omega⟩
    refine ⟨s, ?_, R⟩
    show m_goLeft_L10b (nI a) (nI b) e0 _ _ _ _ = _
    simp only [m_goLeft_L10b, im1_lt, if_true]
  | succ i ih =>
    intro f s A hf hi R hP G
    obtain ⟨f, rfl⟩ : ∃ g, f = g + 1 := ⟨f - 1, by omega⟩
    show ∃ s', m_goLeft_L10b (nI a) (nI b) e0 (m_goLeft_L10 (nI a) (nI b) e0 f) (fI A) (nI (i + 1) - 1) s = _ ∧ _
    have hnb := nd_31 hb
    rw [lAll] at G ⊢
    simp only [m_goLeft_L10b, nI_pos (show i < 2 ^ 31 by omega), if_false, nI_pred, ll_digits hb, Option.bind_some, hk_nm, im1]
    by_cases h0 : fg a i = 0
    · rw [if_pos h0] at G ⊢
      rw [qm_left_in0 ha (by omega) h0 (nd b) hk_F (pw_F (by omega)) hnb]
      exact ih f s A (by omega) (by omega) R hP G
    · rw [if_neg h0] at G ⊢
      rw [qLooks_ap]
      have G1 : qG A (2 * (lAll a b i).length + 2 * (lRow (fg a i) b i (nd b)).length) (qSum (lRow (fg a i) b i (nd b)) + qSum (lAll a b i)) := G.le (by simp; omega) (by simp [qSum_ap])
      obtain ⟨s2, E2, R2⟩ := qm_left_in (a := a) (b := b) (i := i) (e0 := fun v14 s15 => m_goLeft_L10 (nI a) (nI b) e0 f v14 (nI i - 1) s15) H ht ha hb (by omega) h0 (nd b) hk_F s A (pw_F (by omega)) hnb R hP (G1.le (by omega) (by omega))
      rw [E2]
      exact ih f s2 _ (by omega) (by omega) R2 (by rw [qLooks_P]; exact hP) (qLooks_G ht _ _ G1)
theorem qm_left {a b : Nat} (H : HM s0 h t) (ht : ∀ i, t i ≤ 99) (ha : a < 2 ^ 31) (hb : b < 2 ^ 31) (R : RM s0 s A h t g) (hP : sP A = 0) (hF : sF A = true) (G : qG A (2 * (nd a * nd b)) (a * b)) :
    ∃ s', m_goLeft (nI a) (nI b) s = some s' ∧ RM s0 s' (qLeft t a b A) h t g := by
  have h1 := nd_31 ha
  obtain ⟨s2, E2, R2⟩ := qm_left_out (a := a) (b := b) (e0 := fun s => some s) H ht ha hb (nd a) hk_F s A (pw_F (by omega)) h1 R hP (G.le (Nat.mul_le_mul (Nat.le_refl 2) (lAll_len a b (nd a))) (Nat.le_of_eq (lAll_sum1 a b)))
  refine ⟨s2, ?_, R2⟩
  have hf : fI A = 1 := by rw [fI, hF]; rfl
  rw [hf] at E2
  simp only [m_goLeft, ll_digits ha, Option.bind_some, hk_nm]
  exact E2
theorem qm_rows {a b : Nat} {e0 : Int32 → hk_Ms → Option hk_Ms} (H : HM s0 h t) (ht : ∀ i, t i ≤ 99) (ha : nd a ≤ 4) (hb : nd b ≤ 4) (ha0 : a ≠ 0) (hab : a * b < 2 ^ 31) :
    ∀ m f j s g q, m < f → j + m = nd b → q.2.length ≤ j → RM s0 s q.1 h t g → sR q.1 = 0 → sP q.1 = 0 → (∀ k r, q.2[k]? = some r → g k = nI r ∧ r ≠ 0) → qG q.1 (rb m j) 0 →
    ∃ s' g', m_goRight_L5 (nI a) (nI b) e0 f (nI q.2.length) (nI j) s = e0 (nI (qRows t a b m j q).2.length) s' ∧
      RM s0 s' (qRows t a b m j q).1 h t g' ∧ (∀ k r, (qRows t a b m j q).2[k]? = some r → g' k = nI r ∧ r ≠ 0) := by
  have ha4 : a < 10 ^ 4 := nd_lt _ _ ha
  have hb4 : b < 10 ^ 4 := nd_lt _ _ hb
  intro m
  induction m with
  | zero =>
    intro f j s g q hf hj hl R _ _ hg _
    obtain ⟨f, rfl⟩ : ∃ g, f = g + 1 := ⟨f - 1, by omega⟩
    refine ⟨s, g, ?_, R, hg⟩
    show m_goRight_L5b (nI a) (nI b) e0 _ _ _ _ = _
    simp only [m_goRight_L5b, ll_digits (show b < 2 ^ 31 by omega), Option.bind_some, nI_le (show nd b ≤ j by omega) (show j < 2 ^ 31 by omega), if_true]
    rfl
  | succ m ih =>
    intro f j s g q hf hj hl R hR0 hP hg G
    obtain ⟨f, rfl⟩ : ∃ g, f = g + 1 := ⟨f - 1, by omega⟩
    show ∃ s' g', m_goRight_L5b (nI a) (nI b) e0 (m_goRight_L5 (nI a) (nI b) e0 f) (nI q.2.length) (nI j) s = _ ∧ _
    have eb : m_figure (nI b) (nI j) = some (nI (fg b j)) := ll_figure (by omega) (by omega)
    have hfg := fg_10 b j
    rw [qRows]
    simp only [m_goRight_L5b, ll_digits (show b < 2 ^ 31 by omega), Option.bind_some, nI_ge (show j < nd b by omega) (show nd b < 2 ^ 31 by omega), if_false, eb, hk_nm, nI_1, ll_tens (show j < 1000000 by omega), pk_mul]
    by_cases h0 : fg b j = 0
    · rw [if_pos h0, if_pos ((li_le0 (by omega)).mpr h0)]
      exact ih f (j + 1) s g q (by omega) (by omega) (by omega) R hR0 hP hg (G.le (by rw [rb]; omega) (Nat.le_refl _))
    · rw [if_neg h0, if_neg (fun q => h0 ((li_le0 (by omega)).mp q))]
      have hp0 : 10 ^ j ≠ 0 := Nat.pos_iff_ne_zero.mp (Nat.pow_pos (by decide))
      have hy0 : fg b j * 10 ^ j ≠ 0 := Nat.mul_ne_zero h0 hp0
      have hy : fg b j * 10 ^ j ≤ b := fg_le b j
      have hay : a * (fg b j * 10 ^ j) < 2 ^ 31 := Nat.lt_of_le_of_lt (Nat.mul_le_mul_left a hy) hab
      have hay0 : a * (fg b j * 10 ^ j) ≠ 0 := Nat.mul_ne_zero ha0 hy0
      have G0 : qG q.1 (rb m (j + 1) + 1 + 2 * (nd a * nd (fg b j * 10 ^ j))) 0 := G.le (rb_row ha) (Nat.le_refl _)
      have R1 : RM s0 s (qBegin q.1) h t g := by
        have e : qBegin q.1 = sF_ q.1 true := by unfold qBegin; rw [show sR_ q.1 0 = q.1 from by rw [← hR0]; rfl]
        rw [e]; exact R.sF
      have G1 := qBegin_G G0 (N' := a * (fg b j * 10 ^ j)) hay
      obtain ⟨s2, E2, R2⟩ := qm_left (a := a) (b := fg b j * 10 ^ j) H ht (by omega) (by omega) R1 hP rfl (G1.le (by omega) (Nat.le_refl _))
      have hR2 : sR (qLeft t a (fg b j * 10 ^ j) (qBegin q.1)) = a * (fg b j * 10 ^ j) := by
        rw [qLeft_R hay0]
        show 0 + _ = _
        rw [Nat.zero_add]
      have hI2 : hm_I s2 29 = nI (a * (fg b j * 10 ^ j)) := by rw [R2.2.2.2.1, hR2]
      have hn4 : q.2.length < 4 := by omega
      have R3 : RM s0 (hm_sA s2 17 q.2.length (nI (a * (fg b j * 10 ^ j)))) (qLeft t a (fg b j * 10 ^ j) (qBegin q.1)) h t (fun i => if i = q.2.length then nI (a * (fg b j * 10 ^ j)) else g i) := by
        obtain ⟨RS, R1, R2, R3, R4, R5, RG, RX⟩ := R2
        refine ⟨RS.sA rfl, R1, R2, R3, R4, R5, ?_, ?_⟩
        · intro i
          rw [hmA_sA, RG]
          simp
        · intro i r hi
          simpa [hmA_sA] using RX i r hi
      have G4 : qG (qLeft t a (fg b j * 10 ^ j) (qBegin q.1)) (rb m (j + 1) + 1) 0 := qLeft_G ht (N := 0) (G1.le (Nat.le_refl _) (by omega))
      obtain ⟨s5, E5, R5⟩ := qm_holds R3 H (G4.le (by omega) (Nat.le_refl _)) (by rw [hR2]; exact hay0)
      rw [hR2] at R5
      simp only [E2, Option.bind_some, hI2, hmt hn4 (show 4 < 2 ^ 31 by decide), E5]
      have G5 := qHold_G (v := a * (fg b j * 10 ^ j)) ht (ns1_63 (show a * (fg b j * 10 ^ j) < 2 ^ 63 by omega)) (qBegin_G (N' := 0) G4 (by decide))
      have := ih f (j + 1) s5 _ (qHold t (a * (fg b j * 10 ^ j)) (ns1 (a * (fg b j * 10 ^ j))) (qBegin (qLeft t a (fg b j * 10 ^ j) (qBegin q.1))), q.2 ++ [a * (fg b j * 10 ^ j)]) (by omega) (by omega) (by simp; omega) R5 rfl
        (by show sP (qLeft t a (fg b j * 10 ^ j) (qBegin q.1)) = 0; rw [qLeft_P]; exact hP) ?_ G5
      · simpa using this
      · intro k r hk
        rcases ap_get hk with ⟨h1, h2⟩ | ⟨h1, h2⟩
        · have h3 : ¬ k = q.2.length := by omega
          simp only [h3, if_false]
          exact hg k r h2
        · subst h1 h2
          exact ⟨by simp, hay0⟩
theorem qm_adds {n : Nat} {p1 p2 : Int32} {e0 : hk_Ms → Option hk_Ms} (H : HM s0 h t) (ht : ∀ i, t i ≤ 99) (hn : n ≤ 4) :
    ∀ l f k s A, l.length < f → k + l.length = n → RM s0 s A h t g → sP A = 0 → sR A ≠ 0 → (∀ i r, l[i]? = some r → g (k + i) = nI r ∧ r ≠ 0) → qG A l.length 0 → sR A + lS l < 2 ^ 31 → lZ l ≤ sK A →
    ∃ s', m_goRight_L98 p1 p2 (nI n) e0 f (nI k) s = e0 s' ∧ RM s0 s' (qAdds t l A) h t g := by
  intro l
  induction l with
  | nil =>
    intro f k s A hf hk R _ _ hg _ _ _
    obtain ⟨f, rfl⟩ : ∃ g, f = g + 1 := ⟨f - 1, by omega⟩
    refine ⟨s, ?_, R⟩
    show m_goRight_L98b p1 p2 (nI n) e0 _ _ _ = _
    have e1 : nI n ≤ nI k := nI_le (by simp at hk; omega) (by simp at hk; omega)
    simp only [m_goRight_L98b, e1, if_true]
  | cons r l ih =>
    intro f k s A hf hk R hP hR0 hg G hs hz
    obtain ⟨f, rfl⟩ : ∃ g, f = g + 1 := ⟨f - 1, by omega⟩
    simp only [List.length_cons] at hf hk
    have e1 : ¬ nI n ≤ nI k := nI_ge (by omega) (by omega)
    have hk4 : k < 4 := by omega
    obtain ⟨hgk, hr0⟩ := hg 0 r rfl
    have hgk : hm_A s 17 k = nI r := by rw [R.2.2.2.2.2.2.1]; exact hgk
    rw [lS] at hs
    rw [lZ] at hz
    have hr : r < 2 ^ 31 := by omega
    have B := G.1
    have hlen := G.2.2.1
    simp only [List.length_cons] at hlen
    have R1 : RM s0 (hm_sI (hm_sI s 29 (nI (sR A + r))) 28 (nI (sK A - ns1 r))) (sR_ (sK_ A (sK A - ns1 r)) (sR A + r)) h t g := by
      obtain ⟨RS, R1, R2, R3, R4, R5, RG, RX⟩ := R
      exact ⟨(RS.sI rfl).sI rfl, R1, rfl, rfl, R4, R5, RG, RX⟩
    have hv : sR A + r < 2 ^ 31 := by omega
    obtain ⟨s2, E2, R2⟩ := qm_act (so := 1) (v := sR A + r) (le := t 1 * ns1 (sR A + r)) (sl := 0) (pl := 0) (vI := nI (sR A + r)) (slI := 0) (plI := 0) R1 H (by decide) (by show (sA A).length < 120; omega) hv hv rfl
      (by rw [if_neg (by decide), if_neg (by omega), ns1_pos (by omega)]) (by rw [Nat.zero_mul]; rfl) (by rw [if_pos rfl]; exact hP.symm) rfl
    have B1 : sK (sR_ (sK_ A (sK A - ns1 r)) (sR A + r)) ≤ 19 * ((sA A).length + 1) := by show sK A - ns1 r ≤ _; have := B.1; omega
    have G2 : qB (qAct 1 (sR A + r) (t 1 * ns1 (sR A + r)) 0 (sR_ (sK_ A (sK A - ns1 r)) (sR A + r))) := qAct_B B1 B.2.1 B.2.2 (ns1_le (by omega) (by have := ht 1; omega)) (by show sR A + r < 2 ^ 63; omega)
    have G3 : qG (qAct 1 (sR A + r) (t 1 * ns1 (sR A + r)) 0 (sR_ (sK_ A (sK A - ns1 r)) (sR A + r))) l.length 0 := by
      refine ⟨G2, (by show sR A + r < 2 ^ 31; omega), ?_, ?_⟩
      · show (sA A ++ [_]).length + l.length ≤ 120
        simp; omega
      · show (if sF A = true then 0 else sR A + r) + 0 < 2 ^ 31
        split <;> omega
    rw [nI1] at E2
    show ∃ s', m_goRight_L98b p1 p2 (nI n) e0 (m_goRight_L98 p1 p2 (nI n) e0 f) (nI k) s = _ ∧ _
    simp only [m_goRight_L98b, e1, if_false, hk_nm, Option.bind_some, hml hk4 (show 4 < 2 ^ 31 by decide), hgk, R.2.2.2.1, R.2.2.1, hmA_sI, hmI_sI, Nat.reduceEqDiff, if_true, nI_add, ll_digits hr, ← ns1_pos hr0, pk_sub (show ns1 r ≤ sK A by omega), E2, nI_1]
    exact ih f (k + 1) s2 _ (by omega) (by omega) R2 hP (by show sR A + r ≠ 0; omega) (fun i r' hi => by rw [show k + 1 + i = k + (i + 1) by omega]; exact hg (i + 1) r' (by simpa using hi)) G3 (by show sR A + r + lS l < 2 ^ 31; omega) (by show lZ l ≤ sK A - ns1 r; omega)
end S2O
