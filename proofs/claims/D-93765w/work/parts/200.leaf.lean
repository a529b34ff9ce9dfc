set_option maxRecDepth 100000
/-! ===== STAGE 2: numbers ===== -/
/-- how many decimal figures (of 0: none) -/
def nd (v : Nat) : Nat := if v = 0 then 0 else nd (v / 10) + 1
termination_by v
decreasing_by omega
theorem nd_0 : nd 0 = 0 := by rw [nd]; simp
theorem nd_pos {v : Nat} (h : v ≠ 0) : nd v = nd (v / 10) + 1 := by rw [nd]; simp [h]
theorem nd_bnd : ∀ (k v : Nat), v < 10 ^ k → nd v ≤ k := by
  intro k
  induction k with
  | zero => intro v h; have : v = 0 := by omega
            subst this; rw [nd_0]; omega
  | succ k ih =>
    intro v h
    by_cases h0 : v = 0
    · subst h0; rw [nd_0]; omega
    · rw [nd_pos h0]
      have := ih (v / 10) (by rw [Nat.pow_succ] at h; omega)
      omega
theorem nd_lt : ∀ (k v : Nat), nd v ≤ k → v < 10 ^ k := by
  intro k
  induction k with
  | zero => intro v h
            by_cases h0 : v = 0
            · subst h0; decide
            · rw [nd_pos h0] at h; omega
  | succ k ih =>
    intro v h
    by_cases h0 : v = 0
    · subst h0; exact Nat.pos_of_ne_zero (by simp)
    · rw [nd_pos h0] at h
      have := ih (v / 10) (by omega)
      rw [Nat.pow_succ]; omega
theorem nd_gt0 {v : Nat} (h : v ≠ 0) : 0 < nd v := by rw [nd_pos h]; omega
theorem ld_div {v d : Nat} (hv : v < 2 ^ 31) (h0 : 0 < d) (hd : d < 2 ^ 31) : nI v / nI d = nI (v / d) := pk_div hv h0 hd
theorem ld_10 {v : Nat} (hv : v < 2 ^ 31) : nI v / (10 : Int32) = nI (v / 10) := pk_div (d := 10) hv (by decide) (by decide)
theorem lm_10 {v : Nat} (hv : v < 2 ^ 31) : nI v - nI v / (10 : Int32) * (10 : Int32) = nI (v % 10) := pk_rem (d := 10) hv (by decide) (by decide)
theorem ld_4 {v : Nat} (hv : v < 2 ^ 31) : nI v / (10000 : Int32) = nI (v / 10000) := pk_div (d := 10000) hv (by decide) (by decide)
theorem lm_4 {v : Nat} (hv : v < 2 ^ 31) : nI v - nI v / (10000 : Int32) * (10000 : Int32) = nI (v % 10000) := pk_rem (d := 10000) hv (by decide) (by decide)
theorem lL_10 {v : Nat} (hv : v < 2 ^ 63) : lN v / (10 : Int64) = lN (v / 10) := pk_lDiv (b := 10) hv (by decide) (by decide)
theorem lLm_10 {v : Nat} (hv : v < 2 ^ 63) : lN v - lN v / (10 : Int64) * (10 : Int64) = lN (v % 10) := pk_lRem (b := 10) hv (by decide) (by decide)
theorem li_le0 {v : Nat} (hv : v < 2 ^ 31) : nI v ≤ 0 ↔ v = 0 := by
  have := nI_leI (a := v) (b := 0) hv (by decide)
  rw [nI_0] at this
  rw [this]; omega
theorem lL_le0 {v : Nat} (hv : v < 2 ^ 63) : lN v ≤ (0 : Int64) ↔ v = 0 := by
  have := pk_lLE (a := v) (b := 0) hv (by decide)
  rw [show lN 0 = (0 : Int64) from rfl] at this
  rw [this]; omega
-- the reference's digits
theorem ll_digits_L {p : Int32} {e0 : Int32 → Option Int32} : ∀ (f v n : Nat), nd v < f → v < 2 ^ 31 → m_digits_L4 p e0 f (nI n) (nI v) = e0 (nI (n + nd v)) := by
  intro f
  induction f with
  | zero => intro v n h; omega
  | succ f ih =>
    intro v n h hv
    show m_digits_L4b p e0 (m_digits_L4 p e0 f) (nI n) (nI v) = _
    simp only [m_digits_L4b, hk_nm]
    by_cases h0 : v = 0
    · rw [if_pos ((li_le0 hv).mpr h0), h0, nd_0]
      rfl
    · rw [if_neg (fun q => h0 ((li_le0 hv).mp q)), nI_1, ld_10 hv, ih (v / 10) (n + 1) (by rw [nd_pos h0] at h; omega) (by omega), nd_pos h0]
      congr 2
      omega
theorem hk_F_gt {n : Nat} (h : n < 1000000000) : n < hk_F := Nat.lt_of_lt_of_le h hk_F_big
theorem nd_31 {v : Nat} (hv : v < 2 ^ 31) : nd v ≤ 10 := nd_bnd 10 v (Nat.lt_trans hv (by decide))
theorem nd_63 {v : Nat} (hv : v < 2 ^ 63) : nd v ≤ 19 := nd_bnd 19 v (Nat.lt_trans hv (by decide))
theorem ll_digits {v : Nat} (hv : v < 2 ^ 31) : m_digits (nI v) = some (nI (nd v)) := by
  unfold m_digits
  rw [show (0 : Int32) = nI 0 from rfl, ll_digits_L hk_F v 0 (hk_F_gt (by have := nd_31 hv; omega)) hv, Nat.zero_add]
-- the class's sizeOf
theorem ll_sizeOf_L {p : Int64} {e0 : Int32 → Option Int32} : ∀ (f v n : Nat), nd v < f → v < 2 ^ 63 → x_sizeOf_L8 p e0 f (nI n) (lN v) = e0 (nI (n + nd v)) := by
  intro f
  induction f with
  | zero => intro v n h; omega
  | succ f ih =>
    intro v n h hv
    show x_sizeOf_L8b p e0 (x_sizeOf_L8 p e0 f) (nI n) (lN v) = _
    simp only [x_sizeOf_L8b, hk_nm]
    by_cases h0 : v = 0
    · rw [if_pos ((lL_le0 hv).mpr h0), h0, nd_0]
      rfl
    · rw [if_neg (fun q => h0 ((lL_le0 hv).mp q)), nI_1, lL_10 hv, ih (v / 10) (n + 1) (by rw [nd_pos h0] at h; omega) (by omega), nd_pos h0]
      congr 2
      omega
/-- how many decimal figures, of 0: one -/
def ns1 (v : Nat) : Nat := nd (v / 10) + 1
theorem ns1_pos {v : Nat} (h : v ≠ 0) : ns1 v = nd v := (nd_pos h).symm
theorem ll_sizeOf {v : Nat} (hv : v < 2 ^ 63) : x_sizeOf (lN v) = some (nI (ns1 v)) := by
  simp only [x_sizeOf, hk_nm]
  rw [lL_10 hv, show (1 : Int32) = nI 1 from rfl, ll_sizeOf_L hk_F (v / 10) 1 (hk_F_gt (by have := nd_63 (v := v / 10) (by omega); omega)) (by omega)]
  unfold ns1
  congr 2
  omega
-- powers of ten
theorem ll_tens_L {p : Nat} {e0 : Int32 → Option Int32} (hp : p < 2 ^ 31) : ∀ (f v k : Nat), k ≤ p → p - k < f → m_tens_L4 (nI p) e0 f (nI v) (nI k) = e0 (nI (v * 10 ^ (p - k))) := by
  intro f
  induction f with
  | zero => intro v k h1 h; omega
  | succ f ih =>
    intro v k h1 h
    show m_tens_L4b (nI p) e0 (m_tens_L4 (nI p) e0 f) (nI v) (nI k) = _
    simp only [m_tens_L4b, hk_nm]
    by_cases h0 : p ≤ k
    · rw [if_pos (nI_le h0 (by omega)), show p - k = 0 by omega]
      simp
    · rw [if_neg (fun q => h0 ((nI_leI hp (by omega)).mp q)), nI_1, show nI v * (10 : Int32) = nI (v * 10) from pk_mul v 10, ih (v * 10) (k + 1) (by omega) (by omega), show p - k = (p - (k + 1)) + 1 by omega, Nat.pow_succ]
      congr 2
      rw [Nat.mul_assoc, Nat.mul_comm 10]
theorem ll_tens {p : Nat} (hp : p < 1000000) : m_tens (nI p) = some (nI (10 ^ p)) := by
  unfold m_tens
  rw [show (1 : Int32) = nI 1 from rfl, show (0 : Int32) = nI 0 from rfl, ll_tens_L (by omega) hk_F 1 0 (by omega) (hk_F_gt (by omega))]
  simp
theorem ll_tenTo_L {p : Nat} {e0 : Int64 → Option Int64} (hp : p < 2 ^ 31) : ∀ (f v k : Nat), k ≤ p → p - k < f → x_tenTo_L4 (nI p) e0 f (lN v) (nI k) = e0 (lN (v * 10 ^ (p - k))) := by
  intro f
  induction f with
  | zero => intro v k h1 h; omega
  | succ f ih =>
    intro v k h1 h
    show x_tenTo_L4b (nI p) e0 (x_tenTo_L4 (nI p) e0 f) (lN v) (nI k) = _
    simp only [x_tenTo_L4b, hk_nm]
    by_cases h0 : p ≤ k
    · rw [if_pos (nI_le h0 (by omega)), show p - k = 0 by omega]
      simp
    · rw [if_neg (fun q => h0 ((nI_leI hp (by omega)).mp q)), nI_1, show lN v * (10 : Int64) = lN (v * 10) from lN_mul v 10, ih (v * 10) (k + 1) (by omega) (by omega), show p - k = (p - (k + 1)) + 1 by omega, Nat.pow_succ]
      congr 2
      rw [Nat.mul_assoc, Nat.mul_comm 10]
theorem ll_tenTo {p : Nat} (hp : p < 1000000) : x_tenTo (nI p) = some (lN (10 ^ p)) := by
  unfold x_tenTo
  rw [show (1 : Int64) = lN 1 from rfl, show (0 : Int32) = nI 0 from rfl, ll_tenTo_L (by omega) hk_F 1 0 (by omega) (hk_F_gt (by omega))]
  simp
theorem ll_figure_L {q p : Nat} {w : Int32} {e0 : Int32 → Option Int32} (hp : p < 2 ^ 31) : ∀ (f v k : Nat), v < 2 ^ 31 → k ≤ p → p - k < f → m_figure_L4 w (nI p) e0 f (nI v) (nI k) = e0 (nI (v / 10 ^ (p - k))) := by
  intro f
  induction f with
  | zero => intro v k hv h1 h; omega
  | succ f ih =>
    intro v k hv h1 h
    show m_figure_L4b w (nI p) e0 (m_figure_L4 w (nI p) e0 f) (nI v) (nI k) = _
    simp only [m_figure_L4b, hk_nm]
    by_cases h0 : p ≤ k
    · rw [if_pos (nI_le h0 (by omega)), show p - k = 0 by omega]
      simp
    · rw [if_neg (fun q => h0 ((nI_leI hp (by omega)).mp q)), nI_1, ld_10 hv, ih (v / 10) (k + 1) (by omega) (by omega) (by omega), show p - k = (p - (k + 1)) + 1 by omega, Nat.pow_succ, Nat.mul_comm, Nat.div_div_eq_div_mul]
theorem ll_figure {v p : Nat} (hv : v < 2 ^ 31) (hp : p < 1000000) : m_figure (nI v) (nI p) = some (nI (v / 10 ^ p % 10)) := by
  unfold m_figure
  rw [show (0 : Int32) = nI 0 from rfl, ll_figure_L (q := 0) (by omega) hk_F v 0 hv (by omega) (hk_F_gt (by omega))]
  rw [lm_10 (Nat.lt_of_le_of_lt (Nat.div_le_self _ _) hv)]
  simp
