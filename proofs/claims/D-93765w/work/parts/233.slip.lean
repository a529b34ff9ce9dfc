set_option maxRecDepth 100000
/-! ===== STAGE 2: the API: slips ===== -/
theorem neg_l {V : Nat} (hV : V < 2 ^ 31) : (-(nI V)).toInt64 = -(lN V) := by
  apply Int64.toInt_inj.mp
  rw [Int32.toInt_toInt64, Int32.toInt_neg, Int64.toInt_neg, nI_toInt hV, pk_lT (by omega)]
  rw [Int.bmod_eq_of_le (by omega) (by omega), Int.bmod_eq_of_le (by omega) (by omega)]
theorem i64_inj {a b : Int32} : a.toInt64 = b.toInt64 ↔ a = b := ⟨fun h => Int32.toInt_inj.mp (by rw [← Int32.toInt_toInt64, ← Int32.toInt_toInt64, h]), fun h => by rw [h]⟩
theorem eqV {off : Int32} {V : Nat} (hV : V < 2 ^ 31) : (lN V = off.toInt64 ↔ off = nI V) ∧ (-(lN V) = off.toInt64 ↔ off = -(nI V)) := by
  rw [← neg_l hV, ← nI_l hV, i64_inj, i64_inj]
  exact ⟨⟨fun h => h.symm, fun h => h.symm⟩, ⟨fun h => h.symm, fun h => h.symm⟩⟩
section S2SL
variable {x : Nat} {st : hk_St} {s : hk_Ms} {A : qS} {off : Int32}
theorem slipWays_K (L : LC x st A) {i : Nat} {r : qA} (hr : (sA A)[i]? = some r) (hi : i < 120) (ok : qOk r) : xActs_slipWays (x + 6) (nI i) st = some (if aSo r = 0 then 2 else if aSo r = 1 then nI (nd (aV r)) else 0) := by
  obtain ⟨c1, c2, c3, c4, c5, c6⟩ := L.r.2 i r hr hi
  have r0 := L.r.1 0 (by decide)
  have r3 := L.r.1 3 (by decide)
  simp only [Nat.add_zero, Nat.reduceAdd, Nat.add_assoc] at r0 r3
  have h31 := ok.2.1
  have hso := ok.1
  simp only [xActs_slipWays, r0, r3, hz_ob, hz_nn, c1, c4, ll_sizeOf (show aV r < 2 ^ 63 by omega)]
  by_cases h0 : aSo r = 0
  · rw [if_pos ((li_eq0 (by omega)).mpr h0), if_pos h0]
  · rw [if_neg (fun q => h0 ((li_eq0 (by omega)).mp q)), if_neg h0]
    by_cases h1 : aSo r = 1
    · rw [if_pos (show nI (aSo r) = (1 : Int32) by rw [h1]; rfl), if_pos h1, ns1_pos (ok.2.2.2.1 h1).1]
    · rw [if_neg (show ¬ nI (aSo r) = (1 : Int32) from fun q => h1 ((nI_eq (b := 1) (by omega) (by decide)).mp q)), if_neg h1]
theorem slip_K (L : LC x st A) {i w : Nat} {r : qA} (hr : (sA A)[i]? = some r) (hi : i < 120) (ok : qOk r) (hw : w < 1000) : xActs_slip (x + 6) (nI i) (nI w) st = some (if aSo r = 0 then (if w = 1 then lN (aSl r * 10 ^ aPl r) else -(lN (aSl r * 10 ^ aPl r))) else -(lN (10 ^ (aPl r + w)))) := by
  obtain ⟨c1, c2, c3, c4, c5, c6⟩ := L.r.2 i r hr hi
  have r0 := L.r.1 0 (by decide)
  have r4 := L.r.1 4 (by decide)
  have r5 := L.r.1 5 (by decide)
  simp only [Nat.add_zero, Nat.reduceAdd, Nat.add_assoc] at r0 r4 r5
  have hso := ok.1
  have e1 : lN (10 ^ aPl r) * lN (aSl r) = lN (aSl r * 10 ^ aPl r) := by rw [lN_mul, Nat.mul_comm]
  have e2 : lN (10 ^ aPl r) * -(lN (aSl r)) = -(lN (aSl r * 10 ^ aPl r)) := by rw [Int64.mul_neg, e1]
  have e3 : lN (10 ^ aPl r) * -(lN (10 ^ w)) = -(lN (10 ^ (aPl r + w))) := by rw [Int64.mul_neg, lN_mul, Nat.pow_add]
  simp only [xActs_slip, r0, r4, r5, hz_ob, hz_nn, c1, c5, c6, ll_tenTo (show w < 1000000 by omega), e1, e2, e3]
  by_cases h0 : aSo r = 0
  · rw [if_pos ((li_eq0 (by omega)).mpr h0), if_pos h0]
    by_cases h1 : w = 1
    · rw [if_pos (show nI w = (1 : Int32) by rw [h1]; rfl), if_pos h1]
    · rw [if_neg (show ¬ nI w = (1 : Int32) from fun q => h1 ((nI_eq (b := 1) (by omega) (by decide)).mp q)), if_neg h1]
  · rw [if_neg (fun q => h0 ((li_eq0 (by omega)).mp q)), if_neg h0]
theorem LC.bf (L : LC x st A) : hk_bf [2] st (x + 6) = true := by
  obtain ⟨st0, u, hd, g, rfl, K, R⟩ := L
  exact K.bf
theorem canS_1 (L : LC x st A) (L2 : LM s A) {i : Nat} {r : qA} (hr : (sA A)[i]? = some r) (hi : i < 120) (ok : qOk r) (h1 : aSo r = 1) : ∀ m f w, m < f → w + m = nd (aV r) → ∃ b,
    xActs_canSlip_L3 (x + 6) (nI i) off.toInt64 st (fun (_ : Unit) => some (0 : Int32)) f (nI w) = some (bI b) ∧ m_canSlip_L38 (nI i) off s (fun (_ : Unit) => some (0 : Int32)) f (nI w) = some (bI b) := by
  have h31 := ok.2.1
  have hn := nd_31 h31
  obtain ⟨m1, m2, m3, m4, m5, m6⟩ := L2.r hr
  rw [if_pos h1] at m6
  have d200 : 200 < 2 ^ 31 := by decide
  intro m
  induction m with
  | zero =>
    intro f w hf hw
    obtain ⟨f, rfl⟩ : ∃ g, f = g + 1 := ⟨f - 1, by omega⟩
    refine ⟨false, ?_, ?_⟩
    · show xActs_canSlip_L3b _ _ _ _ _ _ _ = _
      simp only [xActs_canSlip_L3b, slipWays_K L hr hi ok, h1, show ¬ (1 = 0) by decide, if_false, if_true, hz_ob, hz_gd, L.bf, nI_le (show nd (aV r) ≤ w by omega) (show w < 2 ^ 31 by omega)]
      rfl
    · show m_canSlip_L38b _ _ _ _ _ _ = _
      simp only [m_canSlip_L38b, hml (show i < 200 by omega) d200, m2, hz_ob, ll_digits h31, nI_le (show nd (aV r) ≤ w by omega) (show w < 2 ^ 31 by omega), if_true]
      rfl
  | succ m ih =>
    intro f w hf hw
    obtain ⟨f, rfl⟩ : ∃ g, f = g + 1 := ⟨f - 1, by omega⟩
    have hV : 10 ^ (aPl r + w) < 2 ^ 31 := Nat.lt_of_le_of_lt (Nat.pow_le_pow_right (by decide) (show aPl r + w ≤ aPl r + (nd (aV r) - 1) by omega)) (ok.2.2.2.1 h1).2
    have hpl : aPl r < 1000 := by
      by_cases q : aPl r < 10
      · omega
      · have : 10 ^ 10 ≤ 10 ^ (aPl r + w) := Nat.pow_le_pow_right (by decide) (by omega)
        omega
    have em : -(nI (10 ^ w)) * nI (10 ^ aPl r) = -(nI (10 ^ (aPl r + w))) := by rw [Int32.neg_mul, pk_mul, ← Nat.pow_add, Nat.add_comm]
    have nle : ¬ nI (nd (aV r)) ≤ nI w := nI_ge (by omega) (by omega)
    obtain ⟨b, i1, i2⟩ := ih f (w + 1) (by omega) (by omega)
    show ∃ b, xActs_canSlip_L3b _ _ _ _ _ (xActs_canSlip_L3 (x + 6) (nI i) off.toInt64 st _ f) _ = _ ∧ m_canSlip_L38b _ _ _ _ (m_canSlip_L38 (nI i) off s _ f) _ = _
    simp only [xActs_canSlip_L3b, m_canSlip_L38b, slipWays_K L hr hi ok, slip_K L hr hi ok (show w < 1000 by omega), h1, show ¬ (1 = 0) by decide, if_false, if_true, hz_ob, hz_gd, L.bf, nle, hml (show i < 200 by omega) d200, m1, m2, m6, ll_digits h31, show nI 1 = (1 : Int32) from rfl,
      ll_tens (show w < 1000000 by omega), ll_tens (show aPl r < 1000000 by omega), em, hz_nm]
    rw [show nI w + (1 : Int32) = nI (w + 1) from nI_1 w]
    by_cases hq : off = -(nI (10 ^ (aPl r + w)))
    · rw [if_pos ((eqV hV).2.mpr hq), if_pos hq]
      exact ⟨true, rfl, rfl⟩
    · rw [if_neg (fun q => hq ((eqV hV).2.mp q)), if_neg hq]
      exact ⟨b, i1, i2⟩
theorem canS (L : LC x st A) (L2 : LM s A) {i : Nat} {r : qA} (hr : (sA A)[i]? = some r) (hi : i < 120) (ok : qOk r) : ∃ b, xActs_canSlip (x + 6) (nI i) off.toInt64 st = some (bI b) ∧ m_canSlip (nI i) off s = some (bI b) := by
  obtain ⟨m1, m2, m3, m4, m5, m6⟩ := L2.r hr
  have d200 : 200 < 2 ^ 31 := by decide
  have hso := ok.1
  have h31 := ok.2.1
  have hn := nd_31 h31
  obtain ⟨F, hF⟩ : ∃ F, hk_F = F + 3 := ⟨hk_F - 3, by have := hk_F_big; omega⟩
  by_cases h0 : aSo r = 0
  · have hV := ok.2.2.1
    have s0 := slip_K L hr hi ok (w := 0) (by decide)
    have s1 := slip_K L hr hi ok (w := 1) (by decide)
    rw [h0, if_pos rfl, if_neg (by decide), nI_0] at s0
    rw [h0, if_pos rfl, if_pos rfl, nI1] at s1
    have sw := slipWays_K L hr hi ok
    rw [h0, if_pos rfl] at sw
    have e1 : m_canSlip (nI i) off s = if off = nI (aSl r * 10 ^ aPl r) then some 1 else if off = -(nI (aSl r * 10 ^ aPl r)) then some 1 else some 0 := by
      simp only [m_canSlip, hml (show i < 200 by omega) d200, m1, m5, hz_ob, h0, nI_0, if_true]
    have e2 : xActs_canSlip (x + 6) (nI i) off.toInt64 st = if -(lN (aSl r * 10 ^ aPl r)) = off.toInt64 then some 1 else if lN (aSl r * 10 ^ aPl r) = off.toInt64 then some 1 else some 0 := by
      unfold xActs_canSlip
      rw [hF]
      show xActs_canSlip_L3b _ _ _ _ _ (xActs_canSlip_L3 _ _ _ _ _ (F + 2)) _ = _
      simp only [xActs_canSlip_L3b, sw, s0, hz_ob, hz_gd, L.bf, if_true, show ¬ (2 : Int32) ≤ 0 by decide, if_false, hz_nm, show (0 : Int32) + 1 = 1 from rfl]
      congr 1
      show xActs_canSlip_L3b _ _ _ _ _ (xActs_canSlip_L3 _ _ _ _ _ (F + 1)) _ = _
      simp only [xActs_canSlip_L3b, sw, s1, hz_ob, hz_gd, L.bf, if_true, show ¬ (2 : Int32) ≤ 1 by decide, if_false, hz_nm, show (1 : Int32) + 1 = 2 from rfl]
      congr 1
      show xActs_canSlip_L3b _ _ _ _ _ (xActs_canSlip_L3 _ _ _ _ _ F) _ = _
      simp only [xActs_canSlip_L3b, sw, hz_ob, hz_gd, L.bf, if_true, Int32.le_refl]
    rw [e1, e2]
    obtain ⟨q1, q2⟩ := eqV (off := off) hV
    by_cases c1 : off = nI (aSl r * 10 ^ aPl r)
    · refine ⟨true, ?_, by rw [if_pos c1]; rfl⟩
      rw [if_pos (q1.mpr c1)]
      split <;> rfl
    · rw [if_neg c1, if_neg (fun q => c1 (q1.mp q))]
      by_cases c2 : off = -(nI (aSl r * 10 ^ aPl r))
      · exact ⟨true, by rw [if_pos (q2.mpr c2)]; rfl, by rw [if_pos c2]; rfl⟩
      · exact ⟨false, by rw [if_neg (fun q => c2 (q2.mp q))]; rfl, by rw [if_neg c2]; rfl⟩
  · have n0 : ¬ nI (aSo r) = 0 := fun q => h0 ((li_eq0 (by omega)).mp q)
    have e1 : m_canSlip (nI i) off s = m_canSlip_L38 (nI i) off s (fun (_ : Unit) => some (0 : Int32)) hk_F (nI 0) := by
      unfold m_canSlip
      rw [hml (show i < 200 by omega) d200, hz_ob, m1, if_neg n0, nI_0]
    have e2 : xActs_canSlip (x + 6) (nI i) off.toInt64 st = xActs_canSlip_L3 (x + 6) (nI i) off.toInt64 st (fun (_ : Unit) => some (0 : Int32)) hk_F (nI 0) := by
      unfold xActs_canSlip
      rw [nI_0]
    rw [e1, e2]
    by_cases h1 : aSo r = 1
    · exact canS_1 L L2 hr hi ok h1 (nd (aV r)) hk_F 0 (pw_F (by omega)) (by omega)
    · refine ⟨false, ?_, ?_⟩
      · rw [hF]
        show xActs_canSlip_L3b _ _ _ _ _ (xActs_canSlip_L3 _ _ _ _ _ (F + 2)) _ = _
        have sw := slipWays_K L hr hi ok
        rw [if_neg h0, if_neg h1] at sw
        simp only [xActs_canSlip_L3b, sw, hz_ob, hz_gd, L.bf, if_true, show (0 : Int32) ≤ nI 0 by decide]
        rfl
      · rw [hF]
        show m_canSlip_L38b _ _ _ _ (m_canSlip_L38 _ _ _ _ (F + 2)) _ = _
        have n1 : ¬ nI (aSo r) = (1 : Int32) := fun q => h1 ((nI_eq (b := 1) (by omega) (by decide)).mp q)
        simp only [m_canSlip_L38b, hml (show i < 200 by omega) d200, m1, m2, hz_ob, ll_digits h31, n1, if_false, ite_self]
        rfl
/-- how many of the acts behind k can have slipped -/
def cnt (cb : Nat → Bool) : Nat → Nat → Nat
  | 0, _ => 0
  | m + 1, k => (if cb k = true then 1 else 0) + cnt cb m (k + 1)
theorem cnt_le (cb : Nat → Bool) : ∀ m k, cnt cb m k ≤ m := by
  intro m
  induction m with
  | zero => intro k; exact Nat.le_refl _
  | succ m ih => intro k; rw [cnt]; have := ih (k + 1); split <;> omega
/-- whether the act i can have slipped -/
def cbf (s : hk_Ms) (off : Int32) (i : Nat) : Bool := decide (m_canSlip (nI i) off s = some 1)
theorem canB (L : LC x st A) (L2 : LM s A) (W : qW A) (hl : (sA A).length ≤ 120) {i : Nat} (hi : i < (sA A).length) : xActs_canSlip (x + 6) (nI i) off.toInt64 st = some (bI (cbf s off i)) ∧ m_canSlip (nI i) off s = some (bI (cbf s off i)) := by
  have hr : (sA A)[i]? = some (sA A)[i] := by simp [hi]
  obtain ⟨b, h1, h2⟩ := canS (off := off) L L2 hr (by omega) (W _ (List.getElem_mem hi))
  have : cbf s off i = b := by
    unfold cbf
    rw [h2]
    cases b <;> decide
  rw [this]
  exact ⟨h1, h2⟩
theorem slips_K (L : LC x st A) (L2 : LM s A) (W : qW A) (hl : (sA A).length ≤ 120) : m_slipsOf off s = some (nI (cnt (cbf s off) (sA A).length 0)) := by
  have key : ∀ m f k v, m < f → k + m = (sA A).length → m_slipsOf_L4 off s (fun (v3 : Int32) => some v3) f (nI v) (nI k) = some (nI (v + cnt (cbf s off) m k)) := by
    intro m
    induction m with
    | zero =>
      intro f k v hf hk
      obtain ⟨f, rfl⟩ : ∃ g, f = g + 1 := ⟨f - 1, by omega⟩
      show m_slipsOf_L4b _ _ _ _ _ _ = _
      simp only [m_slipsOf_L4b, L2.n, nI_le (show (sA A).length ≤ k by omega) (show k < 2 ^ 31 by omega), if_true, cnt, Nat.add_zero]
    | succ m ih =>
      intro f k v hf hk
      obtain ⟨f, rfl⟩ : ∃ g, f = g + 1 := ⟨f - 1, by omega⟩
      have hc := (canB (off := off) L L2 W hl (show k < (sA A).length by omega)).2
      show m_slipsOf_L4b _ _ _ (m_slipsOf_L4 off s _ f) _ _ = _
      simp only [m_slipsOf_L4b, L2.n, nI_ge (show k < (sA A).length by omega) (show (sA A).length < 2 ^ 31 by omega), if_false, hc, hz_ob, hz_nm, nI_1]
      rw [cnt]
      cases hb : cbf s off k with
      | true =>
        simp only [show bI true = 1 from rfl, show ¬ (1 : Int32) = 0 by decide, if_false, if_true]
        rw [ih f (k + 1) (v + 1) (by omega) (by omega), Nat.add_assoc]
      | false =>
        simp only [show bI false = 0 from rfl, if_true, Bool.false_eq_true, if_false]
        rw [show nI v + (0 : Int32) = nI v from by simp, ih f (k + 1) v (by omega) (by omega), Nat.zero_add]
  have := key (sA A).length hk_F 0 0 (pw_F (by omega)) (by omega)
  rw [Nat.zero_add] at this
  exact this
theorem bySlip_K (r9 : hk_gR [0] 9 st x = some (some (x + 6))) (L : LC x st A) (L2 : LM s A) (W : qW A) (hl : (sA A).length ≤ 120) : x_isBySlip x off.toInt64 st = some (if off = 0 then 1 else bI (decide (cnt (cbf s off) (sA A).length 0 ≠ 0))) := by
  have key : ∀ m f k, m < f → k + m = (sA A).length → x_isBySlip_L10 x off.toInt64 st (fun (_ : Unit) => some (0 : Int32)) f (nI k) = some (bI (decide (cnt (cbf s off) m k ≠ 0))) := by
    intro m
    induction m with
    | zero =>
      intro f k hf hk
      obtain ⟨f, rfl⟩ : ∃ g, f = g + 1 := ⟨f - 1, by omega⟩
      show x_isBySlip_L10b _ _ _ _ _ _ = _
      simp only [x_isBySlip_L10b, r9, hz_ob, hz_nn, L.i.1, nI_le (show (sA A).length ≤ k by omega) (show k < 2 ^ 31 by omega), if_true, cnt]
      rfl
    | succ m ih =>
      intro f k hf hk
      obtain ⟨f, rfl⟩ : ∃ g, f = g + 1 := ⟨f - 1, by omega⟩
      have hc := (canB (off := off) L L2 W hl (show k < (sA A).length by omega)).1
      show x_isBySlip_L10b _ _ _ _ (x_isBySlip_L10 x off.toInt64 st _ f) _ = _
      simp only [x_isBySlip_L10b, r9, hz_ob, hz_nn, L.i.1, nI_ge (show k < (sA A).length by omega) (show (sA A).length < 2 ^ 31 by omega), if_false, hc, hz_gd, L.bf, if_true, hz_nm, nI_1]
      rw [cnt]
      cases hb : cbf s off k with
      | true =>
        simp only [show bI true = 1 from rfl, show ¬ (1 : Int32) = 0 by decide, if_false, if_true]
        rw [decide_eq_true (by omega)]; rfl
      | false =>
        simp only [show bI false = 0 from rfl, if_true, Bool.false_eq_true, if_false]
        rw [ih f (k + 1) (by omega) (by omega), Nat.zero_add]
  have h0 : off.toInt64 = 0 ↔ off = 0 := by
    have := (eqV (off := off) (V := 0) (by decide)).1
    constructor
    · intro q; exact this.mp q.symm
    · intro q; exact (this.mpr q).symm
  unfold x_isBySlip
  by_cases hz : off = 0
  · rw [if_pos (h0.mpr hz), if_pos hz]
  · rw [if_neg (fun q => hz (h0.mp q)), if_neg hz, show (0 : Int32) = nI 0 from rfl]
    exact key (sA A).length hk_F 0 (pw_F (by omega)) (by omega)
/-- by how much an ask's answer is off -/
theorem off_l {an : Int32} {ab : Nat} (hab : Pr ab) (h1 : -999999999 ≤ an.toInt) (h2 : an.toInt ≤ 999999999) : an.toInt64 - (nI (ab / 10000)).toInt64 * (nI (ab % 10000)).toInt64 = (an - nI (ab / 10000) * nI (ab % 10000)).toInt64 := by
  have hm : ab % 10000 < 10000 := Nat.mod_lt _ (by decide)
  have ha := hab.2.2.1
  have hp : ab / 10000 * (ab % 10000) ≤ 9999 * 9999 := Nat.mul_le_mul ha (by omega)
  rw [nI_l (by omega), nI_l (by omega), lN_mul, pk_mul]
  apply Int64.toInt_inj.mp
  rw [Int64.toInt_sub, Int32.toInt_toInt64, Int32.toInt_toInt64, Int32.toInt_sub, pk_lT (by omega), nI_toInt (by omega)]
  rw [Int.bmod_eq_of_le (by omega) (by omega), Int.bmod_eq_of_le (by omega) (by omega)]
end S2SL
