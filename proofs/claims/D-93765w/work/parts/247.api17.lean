set_option maxRecDepth 100000
/-! ===== STAGE 2: the API: first digits ===== -/
section S2AH
variable {k d lo U p : Nat}
theorem negT (hk : k < 2 ^ 62) : (-(lN k)).toInt = -(k : Int) := by
  rw [Int64.toInt_neg, pk_lT (by omega), Int.bmod_eq_of_le (by omega) (by omega)]
theorem negRem (hk : k < 2 ^ 62) : -(lN k) - -(lN k) / (10 : Int64) * (10 : Int64) = -(lN (k % 10)) := by
  apply Int64.toInt_inj.mp
  have h10 : (10 : Int64).toInt = 10 := rfl
  have hdiv : (-(lN k) / (10 : Int64)).toInt = -((k / 10 : Nat) : Int) := by
    rw [Int64.toInt_div, negT hk, h10, Int.neg_tdiv, show (k : Int).tdiv 10 = ((k / 10 : Nat) : Int) from rfl, Int.bmod_eq_of_le (by omega) (by omega)]
  have hmul : (-(lN k) / (10 : Int64) * (10 : Int64)).toInt = -((k / 10 : Nat) : Int) * 10 := by
    rw [Int64.toInt_mul, hdiv, h10, Int.bmod_eq_of_le (by omega) (by omega)]
  rw [Int64.toInt_sub, hmul, negT hk, negT (by omega), Int.bmod_eq_of_le (by omega) (by omega)]
  omega
theorem sub_neg {a b : Nat} (h : a < b) : lN a - lN b = -(lN (b - a)) := by
  have : lN b = lN a + lN (b - a) := by rw [lN_add]; congr 1; omega
  rw [this]
  generalize lN a = u
  generalize lN (b - a) = v
  apply Int64.toBitVec_inj.mp
  rw [Int64.toBitVec_sub, Int64.toBitVec_add, Int64.toBitVec_neg]
  apply BitVec.eq_of_toNat_eq
  simp only [BitVec.toNat_sub, BitVec.toNat_add, BitVec.toNat_neg]
  have h1 := u.toBitVec.isLt
  have h2 := v.toBitVec.isLt
  omega
theorem neg_add10 {a : Nat} (h : a ≤ 10) : -(lN a) + (10 : Int64) = lN (10 - a) := by
  apply Int64.toInt_inj.mp
  rw [Int64.toInt_add, negT (by omega), pk_lT (by omega), show (10 : Int64).toInt = 10 from rfl, Int.bmod_eq_of_le (by omega) (by omega)]
  omega
theorem xor_neg {z : Int64} (hz : z.toInt < 0) : ¬ (0 : Int64) ≤ (z ^^^ (10 : Int64)) := by
  intro q
  rw [Int64.le_iff_toInt_le] at q
  have h0 : (0 : Int64).toInt = 0 := rfl
  rw [h0] at q
  have hz2 : z.toBitVec.msb = true := by
    rw [BitVec.msb_eq_toInt]
    exact decide_eq_true hz
  have hm : (z ^^^ (10 : Int64)).toBitVec.msb = true := by
    rw [Int64.toBitVec_xor, BitVec.msb_xor, hz2]
    rfl
  rw [BitVec.msb_eq_toInt] at hm
  have := of_decide_eq_true hm
  have e : (z ^^^ (10 : Int64)).toBitVec.toInt = (z ^^^ (10 : Int64)).toInt := rfl
  omega
theorem xor_pos {z : Int64} (hz : 0 ≤ z.toInt) : (0 : Int64) ≤ (z ^^^ (10 : Int64)) := by
  rw [Int64.le_iff_toInt_le]
  have h0 : (0 : Int64).toInt = 0 := rfl
  rw [h0]
  have hz2 : z.toBitVec.msb = false := by
    rw [BitVec.msb_eq_toInt]
    exact decide_eq_false (by
      have e : z.toBitVec.toInt = z.toInt := rfl
      omega)
  have hm : (z ^^^ (10 : Int64)).toBitVec.msb = false := by
    rw [Int64.toBitVec_xor, BitVec.msb_xor, hz2]
    rfl
  rw [BitVec.msb_eq_toInt] at hm
  have := of_decide_eq_false hm
  have e : (z ^^^ (10 : Int64)).toBitVec.toInt = (z ^^^ (10 : Int64)).toInt := rfl
  omega
/-- the first number from lo on that ends in d -/
def fsO (lo d : Nat) : Nat := (d + 10 - lo % 10) % 10
theorem fm_K (hd : d < 10) (hl : lo < 2 ^ 62) : j_floorMod_j (lN d - lN lo) (10 : Int64) = some (lN (fsO lo d)) := by
  have g10 : decide (¬ (10 : Int64) = 0) = true := by decide
  have e10 : (10 : Int64) = lN 10 := rfl
  unfold fsO
  by_cases h : lo ≤ d
  · have hx : (0 : Int64) ≤ (lN (d - lo) ^^^ (10 : Int64)) := xor_pos (by rw [pk_lT (by omega)]; omega)
    have hr : lN (d - lo) - lN (d - lo) / (10 : Int64) * (10 : Int64) = lN ((d - lo) % 10) := by rw [e10]; exact pk_lRem (by omega) (by decide) (by decide)
    simp only [j_floorMod_j, gdT g10, hz_nm, lN_sub h, hx, if_true, hr]
    congr 2
    omega
  · have hx := xor_neg (z := -(lN (lo - d))) (by rw [negT (by omega)]; omega)
    have hr := negRem (k := lo - d) (by omega)
    simp only [j_floorMod_j, gdT g10, hz_nm, sub_neg (show d < lo by omega), hx, if_false, hr]
    by_cases h0 : (lo - d) % 10 = 0
    · rw [h0, if_pos (by decide)]
      have : (d + 10 - lo % 10) % 10 = 0 := by omega
      rw [this]
      rfl
    · rw [if_neg, neg_add10 (by omega)]
      · congr 2
        omega
      · intro q
        have := congrArg Int64.toInt q
        rw [negT (by omega)] at this
        have h00 : (0 : Int64).toInt = 0 := rfl
        omega
/-- the same as the reference has it -/
theorem mrem_K (hd : d < 10) (hl : lo < 2 ^ 62) : (((lN d - lN lo) - (lN d - lN lo) / (10 : Int64) * (10 : Int64)) + (10 : Int64)) - (((lN d - lN lo) - (lN d - lN lo) / (10 : Int64) * (10 : Int64)) + (10 : Int64)) / (10 : Int64) * (10 : Int64) = lN (fsO lo d) := by
  have e10 : (10 : Int64) = lN 10 := rfl
  unfold fsO
  by_cases h : lo ≤ d
  · have hr : lN (d - lo) - lN (d - lo) / (10 : Int64) * (10 : Int64) = lN ((d - lo) % 10) := by rw [e10]; exact pk_lRem (by omega) (by decide) (by decide)
    have hr2 : lN ((d - lo) % 10 + 10) - lN ((d - lo) % 10 + 10) / (10 : Int64) * (10 : Int64) = lN (((d - lo) % 10 + 10) % 10) := by rw [e10]; exact pk_lRem (by omega) (by decide) (by decide)
    have ha : lN ((d - lo) % 10) + (10 : Int64) = lN ((d - lo) % 10 + 10) := by rw [e10, lN_add]
    rw [lN_sub h, hr, ha, hr2]
    congr 1
    omega
  · have hr := negRem (k := lo - d) (by omega)
    have hr2 : lN (10 - (lo - d) % 10) - lN (10 - (lo - d) % 10) / (10 : Int64) * (10 : Int64) = lN ((10 - (lo - d) % 10) % 10) := by rw [e10]; exact pk_lRem (by omega) (by decide) (by decide)
    rw [sub_neg (show d < lo by omega), hr, neg_add10 (by omega), hr2]
    congr 1
    omega
def enB (U d : Nat) : Nat := if d < U then (U - 1 - d) / 10 + 1 else 0
theorem enB_K (hd : d < 10) (hU : U < 2 ^ 62) : m_endingBelow (lN U) (nI d) = lN (enB U d) := by
  have e10 : (10 : Int64) = lN 10 := rfl
  have e1 : (1 : Int64) = lN 1 := rfl
  unfold m_endingBelow enB
  rw [nI_l (by omega)]
  by_cases h : d < U
  · rw [if_pos ((pk_lLT (by omega) (by omega)).mpr h), if_pos h, e1, lN_sub (by omega), lN_sub (by omega), e10, pk_lDiv (by omega) (by decide) (by decide), lN_add]
  · rw [if_neg (fun q => h ((pk_lLT (by omega) (by omega)).mp q)), if_neg h]
    rfl
/-- both count alike -/
theorem enB_2 {hi : Nat} (hd : d < 10) (hl : lo ≤ hi + 1) : (lo + fsO lo d ≤ hi → enB (hi + 1) d = enB lo d + ((hi - (lo + fsO lo d)) / 10 + 1)) ∧ (¬ lo + fsO lo d ≤ hi → enB (hi + 1) d = enB lo d) := by
  unfold fsO enB
  constructor <;> intro h <;> split <;> split <;> omega
theorem lastOf_L {e0 : Int32 → Option Int32} (hd : d < 10) (hp : p < 2 ^ 31) : ∀ m f k, m < f → k + m = p → m_lastOf_L4 (nI d) (nI p) e0 f (nI (d ^ k % 10)) (nI k) = e0 (nI (d ^ p % 10)) := by
  intro m
  induction m with
  | zero =>
    intro f k hf hk
    obtain ⟨f, rfl⟩ : ∃ g, f = g + 1 := ⟨f - 1, by omega⟩
    have : k = p := by omega
    subst this
    show m_lastOf_L4b _ _ _ _ _ _ = _
    simp only [m_lastOf_L4b, Int32.le_refl, if_true]
  | succ m ih =>
    intro f k hf hk
    obtain ⟨f, rfl⟩ : ∃ g, f = g + 1 := ⟨f - 1, by omega⟩
    have n0 : ¬ nI p ≤ nI k := nI_ge (show k < p by omega) hp
    have hm : d ^ k % 10 * d < 2 ^ 31 := by
      have : d ^ k % 10 * d ≤ 9 * 9 := Nat.mul_le_mul (by omega) (by omega)
      omega
    show m_lastOf_L4b _ _ _ (m_lastOf_L4 (nI d) (nI p) e0 f) _ _ = _
    simp only [m_lastOf_L4b, n0, if_false, hz_nm, pk_mul, lm_10 hm, nI_1]
    have : d ^ k % 10 * d % 10 = d ^ (k + 1) % 10 := by rw [Nat.pow_succ, Nat.mod_mul_mod]
    rw [this]
    exact ih f (k + 1) (by omega) (by omega)
theorem lastOf_K (hd : d < 10) (hp : p ≤ 1000) : m_lastOf (nI d) (nI p) = some (nI (d ^ p % 10)) := by
  have := lastOf_L (e0 := fun v => some v) hd (show p < 2 ^ 31 by omega) p hk_F 0 (pw_F (by omega)) (by omega)
  exact this
theorem digitsOf_L {P : Int64} {e0 : Int32 → Option Int32} : ∀ (f v n : Nat), nd v < f → v < 2 ^ 63 → m_digitsOf_L4 P e0 f (nI n) (lN v) = e0 (nI (n + nd v)) := by
  intro f
  induction f with
  | zero => intro v n h; omega
  | succ f ih =>
    intro v n hf hv
    show m_digitsOf_L4b _ _ (m_digitsOf_L4 P e0 f) _ _ = _
    by_cases h : v = 0
    · subst h
      simp only [m_digitsOf_L4b, show lN 0 ≤ (0 : Int64) by decide, if_true, nd_0, Nat.add_zero]
    · have n0 : ¬ lN v ≤ (0 : Int64) := fun q => h ((lL_le0 hv).mp q)
      rw [nd_pos h] at hf ⊢
      simp only [m_digitsOf_L4b, n0, if_false, hz_nm, nI_1, lL_10 hv]
      rw [ih (v / 10) (n + 1) (by omega) (by omega)]
      congr 2
      omega
end S2AH
