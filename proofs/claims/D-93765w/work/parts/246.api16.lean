set_option maxRecDepth 100000
/-! ===== STAGE 2: the API: roots ===== -/
section S2AG
variable {b L p : Nat}
theorem pk_bI {q : Prop} [h : Decidable q] : (if q then (1 : Int32) else 0) = bI (decide q) := by
  by_cases e : q
  · rw [if_pos e, decide_eq_true e]; rfl
  · rw [if_neg e, decide_eq_false e]; rfl
end S2AG
section S2AG2
variable {b L p : Nat}
theorem isAb_L (hb : 1 ≤ b) (hb2 : b < 2 ^ 62) (hL : L < 2 ^ 62) (hp : p < 2 ^ 31) : ∀ m f k, m < f → k + m = p → b ^ k < 2 ^ 63 → x_isAbove_L6 (lN b) (nI p) (lN L) (fun (v3 : Int64) =>
    if v3 ≤ lN L then
      some (0 : Int32)
    else
    some (1 : Int32)) f (lN (b ^ k)) (nI k) = some (bI (decide (L < b ^ p))) := by
  intro m
  induction m with
  | zero =>
    intro f k hf hk hb3
    obtain ⟨f, rfl⟩ : ∃ g, f = g + 1 := ⟨f - 1, by omega⟩
    have : k = p := by omega
    subst this
    show x_isAbove_L6b _ _ _ _ _ _ _ = _
    simp only [x_isAbove_L6b, Int32.le_refl, if_true]
    by_cases h : b ^ k ≤ L
    · rw [if_pos ((pk_lLE hb3 (by omega)).mpr h), decide_eq_false (by omega)]; rfl
    · rw [if_neg (fun q => h ((pk_lLE hb3 (by omega)).mp q)), decide_eq_true (by omega)]; rfl
  | succ m ih =>
    intro f k hf hk hb3
    obtain ⟨f, rfl⟩ : ∃ g, f = g + 1 := ⟨f - 1, by omega⟩
    have n0 : ¬ nI p ≤ nI k := nI_ge (show k < p by omega) hp
    have nz : ¬ lN b = (0 : Int64) := fun q => absurd ((pk_lEQ (b := 0) (by omega) (by decide)).mp q) (by omega)
    show x_isAbove_L6b _ _ _ _ (x_isAbove_L6 (lN b) (nI p) (lN L) _ f) _ _ = _
    simp only [x_isAbove_L6b, n0, if_false, gdT (show decide (¬ lN b = (0 : Int64)) = true from decide_eq_true nz), pk_lDiv (show L < 2 ^ 63 by omega) (show 0 < b by omega) (show b < 2 ^ 63 by omega), hz_nm, lN_mul, nI_1]
    have hle : b ^ k ≤ L / b ↔ b ^ k * b ≤ L := Nat.le_div_iff_mul_le (by omega)
    have hlt : L / b < 2 ^ 63 := Nat.lt_of_le_of_lt (Nat.div_le_self _ _) (by omega)
    by_cases h : b ^ k * b ≤ L
    · rw [if_pos ((pk_lLE hb3 hlt).mpr (hle.mpr h)), ← Nat.pow_succ]
      exact ih f (k + 1) (by omega) (by omega) (by rw [Nat.pow_succ]; omega)
    · rw [if_neg (fun q => h (hle.mp ((pk_lLE hb3 hlt).mp q)))]
      have h2 : b ^ (k + 1) ≤ b ^ p := Nat.pow_le_pow_right hb (by omega)
      rw [Nat.pow_succ] at h2
      rw [decide_eq_true (by omega)]; rfl
theorem isAb (hb : 1 ≤ b) (hb2 : b < 2 ^ 62) (hL : L < 2 ^ 62) (hp : p ≤ 1000) : x_isAbove (lN b) (nI p) (lN L) = some (bI (decide (L < b ^ p))) :=
  isAb_L hb hb2 hL (by omega) p hk_F 0 (pw_F (by omega)) (by omega) (by rw [Nat.pow_zero]; decide)
theorem raise_L {e0 : Int64 → Option Int64} (hp : p < 2 ^ 31) : ∀ m f k, m < f → k + m = p → x_raise_L5 (lN b) (nI p) e0 f (lN (b ^ k)) (nI k) = e0 (lN (b ^ p)) := by
  intro m
  induction m with
  | zero =>
    intro f k hf hk
    obtain ⟨f, rfl⟩ : ∃ g, f = g + 1 := ⟨f - 1, by omega⟩
    have : k = p := by omega
    subst this
    show x_raise_L5b _ _ _ _ _ _ = _
    simp only [x_raise_L5b, Int32.le_refl, if_true]
  | succ m ih =>
    intro f k hf hk
    obtain ⟨f, rfl⟩ : ∃ g, f = g + 1 := ⟨f - 1, by omega⟩
    have n0 : ¬ nI p ≤ nI k := nI_ge (show k < p by omega) hp
    show x_raise_L5b _ _ _ (x_raise_L5 (lN b) (nI p) e0 f) _ _ = _
    simp only [x_raise_L5b, n0, if_false, hz_nm, lN_mul, nI_1]
    rw [← Nat.pow_succ]
    exact ih f (k + 1) (by omega) (by omega)
theorem raise_K (hp : p ≤ 1000) : x_raise (lN b) (nI p) = some (lN (b ^ p)) := raise_L (e0 := fun v => some v) (by omega) p hk_F 0 (pw_F (by omega)) (by omega)
theorem F_top : 1000000001 < hk_F := by unfold hk_F; exact Nat.le_of_ble_eq_true rfl
def pwL (b p : Nat) : Nat := if b ^ p ≤ 999999999999999999 then b ^ p else 1000000000000000000
theorem pow_L (hb : 1 ≤ b) (hb2 : b < 2 ^ 62) (hp : p < 2 ^ 31) : ∀ m f k, m < f → k + m = p → b ^ k ≤ 999999999999999999 → m_powerOf_L5 (lN b) (nI p) (fun (v3 : Int64) => some v3) f (lN (b ^ k)) (nI k) = some (lN (pwL b p)) := by
  intro m
  induction m with
  | zero =>
    intro f k hf hk hb3
    obtain ⟨f, rfl⟩ : ∃ g, f = g + 1 := ⟨f - 1, by omega⟩
    have : k = p := by omega
    subst this
    show m_powerOf_L5b _ _ _ _ _ _ = _
    simp only [m_powerOf_L5b, Int32.le_refl, if_true]
    unfold pwL
    rw [if_pos hb3]
  | succ m ih =>
    intro f k hf hk hb3
    obtain ⟨f, rfl⟩ : ∃ g, f = g + 1 := ⟨f - 1, by omega⟩
    have n0 : ¬ nI p ≤ nI k := nI_ge (show k < p by omega) hp
    have nz : ¬ lN b = (0 : Int64) := fun q => absurd ((pk_lEQ (b := 0) (by omega) (by decide)).mp q) (by omega)
    show m_powerOf_L5b _ _ _ (m_powerOf_L5 (lN b) (nI p) _ f) _ _ = _
    simp only [m_powerOf_L5b, n0, if_false, gdT (show decide (¬ lN b = (0 : Int64)) = true from decide_eq_true nz), show (999999999999999999 : Int64) = lN 999999999999999999 from rfl, pk_lDiv (show 999999999999999999 < 2 ^ 63 by decide) (show 0 < b by omega) (show b < 2 ^ 63 by omega), hz_nm, lN_mul, nI_1]
    have hle : b ^ k ≤ 999999999999999999 / b ↔ b ^ k * b ≤ 999999999999999999 := Nat.le_div_iff_mul_le (by omega)
    have hlt : 999999999999999999 / b < 2 ^ 63 := Nat.lt_of_le_of_lt (Nat.div_le_self _ _) (by decide)
    by_cases h : b ^ k * b ≤ 999999999999999999
    · rw [if_pos ((pk_lLE (by omega) hlt).mpr (hle.mpr h)), ← Nat.pow_succ]
      exact ih f (k + 1) (by omega) (by omega) (by rw [Nat.pow_succ]; omega)
    · rw [if_neg (fun q => h (hle.mp ((pk_lLE (by omega) hlt).mp q)))]
      have h2 : b ^ (k + 1) ≤ b ^ p := Nat.pow_le_pow_right hb (by omega)
      rw [Nat.pow_succ] at h2
      unfold pwL
      rw [if_neg (by omega)]
      rfl
theorem pow_K (hb : 1 ≤ b) (hb2 : b < 2 ^ 62) (hp : p ≤ 1000) : m_powerOf (lN b) (nI p) = some (lN (pwL b p)) :=
  pow_L hb hb2 (by omega) p hk_F 0 (pw_F (by omega)) (by omega) (by rw [Nat.pow_zero]; decide)
/-- the root rounded down -/
theorem rootOf_L {e0 : Int64 → Option Int64} (hL : L < 2 ^ 62) (hp : p ≤ 1000) : ∀ d f lo hi, d < f → hi - lo ≤ d → lo < hi → hi ≤ 1000000001 → lo ^ p ≤ L → L < hi ^ p → ∃ r, x_rootOf_L7 (lN L) (nI p) e0 f (lN lo) (lN hi) = e0 (lN r) ∧ r ^ p ≤ L ∧ L < (r + 1) ^ p ∧ r ≤ 1000000000 := by
  intro d
  induction d with
  | zero => intro f lo hi hf h1 h2; omega
  | succ d ih =>
    intro f lo hi hf h1 h2 h3 h4 h5
    obtain ⟨f, rfl⟩ : ∃ g, f = g + 1 := ⟨f - 1, by omega⟩
    have e1 : (1 : Int64) = lN 1 := rfl
    have e2 : (2 : Int64) = lN 2 := rfl
    show ∃ r, x_rootOf_L7b _ _ _ (x_rootOf_L7 (lN L) (nI p) e0 f) _ _ = _ ∧ _
    by_cases h : hi - lo ≤ 1
    · refine ⟨lo, ?_, h4, by rw [show lo + 1 = hi by omega]; exact h5, by omega⟩
      simp only [x_rootOf_L7b, lN_sub (show lo ≤ hi by omega)]
      rw [if_pos]
      rw [e1]
      exact (pk_lLE (by omega) (by decide)).mpr h
    · have hc : ¬ lN (hi - lo) ≤ (1 : Int64) := by rw [e1]; exact fun q => h ((pk_lLE (by omega) (by decide)).mp q)
      have hd : lN (lo + hi) / (2 : Int64) = lN ((lo + hi) / 2) := by rw [e2]; exact pk_lDiv (by omega) (by decide) (by decide)
      have ha := isAb (b := (lo + hi) / 2) (L := L) (p := p) (by omega) (by omega) hL hp
      by_cases hm : L < ((lo + hi) / 2) ^ p
      · obtain ⟨r, i1, i2⟩ := ih f lo ((lo + hi) / 2) (by omega) (by omega) (by omega) (by omega) h4 hm
        refine ⟨r, ?_, i2⟩
        simp only [x_rootOf_L7b, lN_sub (show lo ≤ hi by omega), hc, if_false, hz_nm, lN_add, hd, ha, hz_ob]
        rw [decide_eq_true hm, if_neg (by decide)]
        exact i1
      · obtain ⟨r, i1, i2⟩ := ih f ((lo + hi) / 2) hi (by omega) (by omega) (by omega) (by omega) (by omega) h5
        refine ⟨r, ?_, i2⟩
        simp only [x_rootOf_L7b, lN_sub (show lo ≤ hi by omega), hc, if_false, hz_nm, lN_add, hd, ha, hz_ob]
        rw [decide_eq_false hm, if_pos (by decide)]
        exact i1
theorem top_p (h2 : 2 ≤ p) : 1000000000000000000 < 1000000001 ^ p := Nat.lt_of_lt_of_le (show 1000000000000000000 < 1000000001 ^ 2 by decide) (Nat.pow_le_pow_right (by decide) h2)
theorem rootOf_K (hL : L ≤ 1000000000000000000) (h2 : 2 ≤ p) (hp : p ≤ 1000) : ∃ r, x_rootOf (lN L) (nI p) = some (lN r) ∧ r ^ p ≤ L ∧ L < (r + 1) ^ p ∧ r ≤ 1000000000 :=
  rootOf_L (e0 := fun v => some v) (by omega) hp 1000000001 hk_F 0 1000000001 F_top (by omega) (by decide) (by decide) (by rw [Nat.zero_pow (by omega)]; omega) (Nat.lt_of_le_of_lt hL (top_p h2))
/-- the root rounded up -/
theorem leastOf_L {V : Nat} {e0 : Int64 → Option Int64} (hV : V ≤ 1000000000000000000) (hp : p ≤ 1000) : ∀ d f lo hi, d < f → hi - lo ≤ d → lo < hi → hi ≤ 1000000001 → lo ^ p < V → V ≤ hi ^ p → ∃ r, m_leastOf_L7 (lN V) (nI p) e0 f (lN lo) (lN hi) = e0 (lN (r + 1)) ∧ r ^ p < V ∧ V ≤ (r + 1) ^ p ∧ r ≤ 1000000000 := by
  intro d
  induction d with
  | zero => intro f lo hi hf h1 h2; omega
  | succ d ih =>
    intro f lo hi hf h1 h2 h3 h4 h5
    obtain ⟨f, rfl⟩ : ∃ g, f = g + 1 := ⟨f - 1, by omega⟩
    have e1 : (1 : Int64) = lN 1 := rfl
    have e2 : (2 : Int64) = lN 2 := rfl
    show ∃ r, m_leastOf_L7b _ _ _ (m_leastOf_L7 (lN V) (nI p) e0 f) _ _ = _ ∧ _
    by_cases h : hi - lo ≤ 1
    · refine ⟨lo, ?_, h4, by rw [show lo + 1 = hi by omega]; exact h5, by omega⟩
      simp only [m_leastOf_L7b, lN_sub (show lo ≤ hi by omega)]
      rw [if_pos, show lo + 1 = hi by omega]
      rw [e1]
      exact (pk_lLE (by omega) (by decide)).mpr h
    · have hc : ¬ lN (hi - lo) ≤ (1 : Int64) := by rw [e1]; exact fun q => h ((pk_lLE (by omega) (by decide)).mp q)
      have hd : lN (lo + hi) / (2 : Int64) = lN ((lo + hi) / 2) := by rw [e2]; exact pk_lDiv (by omega) (by decide) (by decide)
      have ha := pow_K (b := (lo + hi) / 2) (p := p) (by omega) (by omega) hp
      have hl : pwL ((lo + hi) / 2) p < 2 ^ 63 := by unfold pwL; split <;> omega
      have hq : pwL ((lo + hi) / 2) p < V ↔ ((lo + hi) / 2) ^ p < V := by unfold pwL; split <;> omega
      by_cases hm : ((lo + hi) / 2) ^ p < V
      · obtain ⟨r, i1, i2⟩ := ih f ((lo + hi) / 2) hi (by omega) (by omega) (by omega) (by omega) hm h5
        refine ⟨r, ?_, i2⟩
        simp only [m_leastOf_L7b, lN_sub (show lo ≤ hi by omega), hc, if_false, hz_nm, lN_add, hd, ha, hz_ob]
        rw [if_pos ((pk_lLT hl (by omega)).mpr (hq.mpr hm))]
        exact i1
      · obtain ⟨r, i1, i2⟩ := ih f lo ((lo + hi) / 2) (by omega) (by omega) (by omega) (by omega) h4 (by omega)
        refine ⟨r, ?_, i2⟩
        simp only [m_leastOf_L7b, lN_sub (show lo ≤ hi by omega), hc, if_false, hz_nm, lN_add, hd, ha, hz_ob]
        rw [if_neg (fun q => hm (hq.mp ((pk_lLT hl (by omega)).mp q)))]
        exact i1
theorem leastOf_K {V : Nat} (h1 : 1 ≤ V) (hV : V ≤ 1000000000000000000) (h2 : 2 ≤ p) (hp : p ≤ 1000) : ∃ r, m_leastOf (lN V) (nI p) = some (lN (r + 1)) ∧ r ^ p < V ∧ V ≤ (r + 1) ^ p ∧ r ≤ 1000000000 :=
  leastOf_L (e0 := fun v => some v) hV hp 1000000001 hk_F 0 1000000001 F_top (by omega) (by decide) (by decide) (by rw [Nat.zero_pow (by omega)]; omega) (by have := top_p h2; omega)
theorem number_c (V : Int64) : (x_isNumber V = 0 ∧ m_within V (1 : Int64) (999999999999999999 : Int64) = 0) ∨ (x_isNumber V = 1 ∧ m_within V (1 : Int64) (999999999999999999 : Int64) = 1 ∧ ∃ v, 1 ≤ v ∧ v ≤ 999999999999999999 ∧ V = lN v) := by
  by_cases h1 : V < 1
  · exact Or.inl ⟨by unfold x_isNumber; rw [if_pos h1], by unfold m_within; rw [if_pos h1]⟩
  · by_cases h2 : (999999999999999999 : Int64) < V
    · exact Or.inl ⟨by unfold x_isNumber; rw [if_neg h1, if_pos h2], by unfold m_within; rw [if_neg h1, if_pos h2]⟩
    · have a1 : x_isNumber V = 1 := by unfold x_isNumber; rw [if_neg h1, if_neg h2]
      have a2 : m_within V (1 : Int64) (999999999999999999 : Int64) = 1 := by unfold m_within; rw [if_neg h1, if_neg h2]
      have h0 : ¬ V < 0 := fun q => h1 (by
        rw [Int64.lt_iff_toInt_lt] at q ⊢
        have : (0 : Int64).toInt = 0 := rfl
        have : (1 : Int64).toInt = 1 := rfl
        omega)
      obtain ⟨v, hv, rfl⟩ := pk_lOf h0
      have b1 : ¬ v < 1 := fun q => h1 ((pk_lLT (b := 1) hv (by decide)).mpr q)
      have b2 : ¬ 999999999999999999 < v := fun q => h2 ((pk_lLT (a := 999999999999999999) (by decide) hv).mpr q)
      exact Or.inr ⟨a1, a2, v, by omega, by omega, rfl⟩
theorem power_c (p : Int32) : (x_isPower p = 0 ∧ m_isPower p = 0) ∨ (x_isPower p = 1 ∧ m_isPower p = 1 ∧ ∃ k, 2 ≤ k ∧ k ≤ 5 ∧ p = nI k) := by
  unfold x_isPower m_isPower
  by_cases h2 : p = 2
  · subst h2; exact Or.inr ⟨rfl, rfl, 2, by decide, by decide, rfl⟩
  · by_cases h3 : p = 3
    · subst h3; exact Or.inr ⟨rfl, rfl, 3, by decide, by decide, rfl⟩
    · by_cases h5 : p = 5
      · subst h5; exact Or.inr ⟨rfl, rfl, 5, by decide, by decide, rfl⟩
      · simp only [h2, h3, h5, if_false]; exact Or.inl ⟨trivial, trivial⟩
/-- rounded down and rounded up -/
theorem root_2 {V r q : Nat} (h2 : 2 ≤ p) (h1 : r ^ p ≤ V) (h3 : V < (r + 1) ^ p) (h4 : q ^ p < V) (h5 : V ≤ (q + 1) ^ p) : (r ^ p = V → q + 1 = r) ∧ ((q + 1) ^ p = V → q + 1 = r) := by
  have mono : ∀ {a b : Nat}, a ≤ b → a ^ p ≤ b ^ p := fun h => Nat.pow_le_pow_left h p
  have key : ∀ {a b : Nat}, a ^ p < b ^ p → a < b := fun {a b} h => by
    by_cases e : a < b
    · exact e
    · have := mono (show b ≤ a by omega); omega
  refine ⟨fun e => ?_, fun e => ?_⟩
  · have a1 : q < r := key (by omega)
    have a2 : ¬ q + 1 < r := fun h => by
      have : (q + 1) ^ p < r ^ p := Nat.pow_lt_pow_left h (by omega)
      omega
    omega
  · have a1 : q + 1 < r + 1 := key (by omega)
    have a2 : ¬ q + 1 < r := fun h => by
      have : (q + 1) ^ p < r ^ p := Nat.pow_lt_pow_left h (by omega)
      omega
    omega
/-- both roots -/
theorem roots_2 {V : Nat} (h1 : 1 ≤ V) (hV : V ≤ 999999999999999999) (h2 : 2 ≤ p) (hp : p ≤ 5) : ∃ r, x_rootOf (lN V) (nI p) = some (lN r) ∧ x_raise (lN r) (nI p) = some (lN (r ^ p)) ∧ r ^ p ≤ V ∧ r ≤ 1000000000 ∧ m_rootOf (lN V) (nI p) = some (if r ^ p = V then nI r else 0) := by
  obtain ⟨r, e1, a1, a2, a3⟩ := rootOf_K (L := V) (p := p) (by omega) h2 (by omega)
  obtain ⟨q, e2, b1, b2, b3⟩ := leastOf_K (V := V) (p := p) h1 (by omega) h2 (by omega)
  refine ⟨r, e1, raise_K (by omega), a1, a3, ?_⟩
  obtain ⟨c1, c2⟩ := root_2 h2 a1 a2 b1 b2
  have hl : pwL (q + 1) p < 2 ^ 63 := by unfold pwL; split <;> omega
  simp only [m_rootOf, e2, hz_ob, pow_K (b := q + 1) (p := p) (by omega) (by omega) (by omega), lN_i]
  by_cases h : r ^ p = V
  · have hq := c1 h
    rw [if_pos h, if_pos, hq]
    rw [hq]
    unfold pwL
    rw [if_pos (by omega), h]
  · rw [if_neg h, if_neg]
    intro e
    have e := (pk_lEQ hl (by omega)).mp e
    unfold pwL at e
    by_cases hq : (q + 1) ^ p ≤ 999999999999999999
    · rw [if_pos hq] at e
      have := c2 e
      rw [this] at e
      exact h e
    · rw [if_neg hq] at e
      omega
theorem ap_root (x : Nat) (V : Int64) (p : Int32) : ∃ r, x_root x V p = some r ∧ m_root x V p = some r := by
  rcases number_c V with ⟨h1, h2⟩ | ⟨h1, h2, v, v1, v2, rfl⟩
  · exact ⟨-1, by simp only [x_root, h1, if_true], by simp only [m_root, m_isNumber, h2, if_true]⟩
  · have n1 : ¬ (1 : Int32) = 0 := by decide
    rcases power_c p with ⟨p1, p2⟩ | ⟨p1, p2, k, k1, k2, rfl⟩
    · exact ⟨-1, by simp only [x_root, h1, n1, if_false, p1, if_true], by simp only [m_root, m_isNumber, h2, n1, if_false, p2, if_true]⟩
    · obtain ⟨r, e1, e2, a1, a2, e3⟩ := roots_2 (p := k) v1 v2 k1 k2
      refine ⟨if r ^ k = v then nI r else 0, ?_, by simp only [m_root, m_isNumber, h2, n1, if_false, p2, e3, hz_ob]⟩
      simp only [x_root, h1, n1, if_false, p1, e1, hz_ob, e2, lN_i]
      by_cases h : r ^ k = v
      · rw [if_pos h, if_pos (by rw [h])]
      · rw [if_neg h, if_neg (fun q => h ((pk_lEQ (by omega) (by omega)).mp q))]
end S2AG2
