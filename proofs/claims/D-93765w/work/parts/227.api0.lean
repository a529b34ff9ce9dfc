set_option maxRecDepth 100000
/-! ===== STAGE 2: the API: bounds ===== -/
/-- the reference's place is untouched -/
def Mk (x : Nat) (st st' : hk_St) : Prop := ∀ a, x + 22 ≤ a → a < x + 53 → (∀ f, hk_fI st' f a = hk_fI st f a) ∧ (∀ f, hk_fL st' f a = hk_fL st f a) ∧ (∀ i, hk_aI st' a i = hk_aI st a i) ∧ ∀ i, hk_aL st' a i = hk_aL st a i
theorem Mk.rf {x : Nat} {st : hk_St} : Mk x st st := fun _ _ _ => ⟨fun _ => rfl, fun _ => rfl, fun _ => rfl, fun _ => rfl⟩
theorem Mk.trans {x : Nat} {st st1 st2 : hk_St} (h : Mk x st st1) (k : Mk x st1 st2) : Mk x st st2 := fun a h1 h2 =>
  ⟨fun f => ((k a h1 h2).1 f).trans ((h a h1 h2).1 f), fun f => ((k a h1 h2).2.1 f).trans ((h a h1 h2).2.1 f), fun f => ((k a h1 h2).2.2.1 f).trans ((h a h1 h2).2.2.1 f), fun f => ((k a h1 h2).2.2.2 f).trans ((h a h1 h2).2.2.2 f)⟩
theorem RK.ltm {x : Nat} {st : hk_St} (K : RK x st) {a : Nat} (h1 : x + 22 ≤ a) (h2 : a < x + 53) : a < hk_nx st := by
  by_cases h : a = x + 22
  · subst h; exact K.wk.lt K.km.1
  · have := K.wk.lt (K.km.2 (a - (x + 23)) (by omega)).1
    omega
theorem Fr.mk2 {x : Nat} {st st1 : hk_St} {pI pL pR : Nat → Nat → Prop} {pA pB pO : Nat → Prop} (F : Fr pI pL pR pA pB pO st st1) (K : RK x st) (h1 : ∀ f a, x + 22 ≤ a → a < x + 53 → ¬ pI f a) (h2 : ∀ f a, x + 22 ≤ a → a < x + 53 → ¬ pL f a)
    (h3 : ∀ a, x + 22 ≤ a → a < x + 53 → ¬ pA a) (h4 : ∀ a, x + 22 ≤ a → a < x + 53 → ¬ pB a) : Mk x st st1 := fun a q1 q2 =>
  ⟨fun f => F.2.2.1 f a (K.ltm q1 q2) (h1 f a q1 q2), fun f => F.2.2.2.1 f a (K.ltm q1 q2) (h2 f a q1 q2), fun i => F.2.2.2.2.2.1 a i (K.ltm q1 q2) (h3 a q1 q2), fun i => F.2.2.2.2.2.2.1 a i (K.ltm q1 q2) (h4 a q1 q2)⟩
theorem Scr.mk {x : Nat} {st st1 : hk_St} (h : Scr x st st1) (K : RK x st) : Mk x st st1 := h.1.mk2 K (by first | (intros; exact id) | (intros; decide) | (intros; dsimp only; decide) | (intros; omega) | (intros; dsimp only at *; omega) | (intros; dsimp only; omega) | (intros; simp only [nodeI, nodeR, no1, no2] at *; omega) | (intros; simp only [nodeI, nodeR, no1, no2]; omega) | (intros; constructor <;> first | exact id | omega | (dsimp only at *; omega) | (dsimp only; omega)) | (intros; simp_all [no1, no2, nodeI, nodeR]; done)) (by first | (intros; exact id) | (intros; decide) | (intros; dsimp only; decide) | (intros; omega) | (intros; dsimp only at *; omega) | (intros; dsimp only; omega) | (intros; simp only [nodeI, nodeR, no1, no2] at *; omega) | (intros; simp only [nodeI, nodeR, no1, no2]; omega) | (intros; constructor <;> first | exact id | omega | (dsimp only at *; omega) | (dsimp only; omega)) | (intros; simp_all [no1, no2, nodeI, nodeR]; done)) (by first | (intros; exact id) | (intros; decide) | (intros; dsimp only; decide) | (intros; omega) | (intros; dsimp only at *; omega) | (intros; dsimp only; omega) | (intros; simp only [nodeI, nodeR, no1, no2] at *; omega) | (intros; simp only [nodeI, nodeR, no1, no2]; omega) | (intros; constructor <;> first | exact id | omega | (dsimp only at *; omega) | (dsimp only; omega)) | (intros; simp_all [no1, no2, nodeI, nodeR]; done)) (by first | (intros; exact id) | (intros; decide) | (intros; dsimp only; decide) | (intros; omega) | (intros; dsimp only at *; omega) | (intros; dsimp only; omega) | (intros; simp only [nodeI, nodeR, no1, no2] at *; omega) | (intros; simp only [nodeI, nodeR, no1, no2]; omega) | (intros; constructor <;> first | exact id | omega | (dsimp only at *; omega) | (dsimp only; omega)) | (intros; simp_all [no1, no2, nodeI, nodeR]; done))
/-- a call of the class and the same of the reference -/
def AP (x : Nat) (fx : hk_St → Option (Int32 × hk_St)) (fm : hk_Ms → Option (Int32 × hk_Ms)) : Prop :=
  ∀ c st s, RA x c st s → ∃ r st' s', fx st = some (r, st') ∧ fm s = some (r, s') ∧ RA x (c + 140) st' s' ∧ Mk x st st'
/-- calls that only read -/
def APr (x : Nat) (fx : hk_St → Option Int32) (fm : hk_Ms → Option Int32) : Prop := ∀ c st s, RA x c st s → ∃ r, fx st = some r ∧ fm s = some r
theorem RA.le {x c c' : Nat} {st : hk_St} {s : hk_Ms} (h : RA x c st s) (hc : c ≤ c') : RA x c' st s := by
  obtain ⟨n, B, H, dn, un, N1, N2, M, N3, h1, h2, h3, h4, h5, h6, h7, h8, h9, hA, hB, e1, e2⟩ := h
  exact ⟨n, B, H, dn, un, N1, N2, M, N3, h1, h2, h3, h4, h5, h6, h7, h8, h9, hA, hB, by omega, by omega⟩
theorem wi {a b c : Int32} {b' c' : Int64} (hb : b' = b.toInt64) (hc : c' = c.toInt64) : m_within a.toInt64 b' c' = x_in a b c := by
  subst hb hc
  unfold m_within x_in
  simp only [Int32.toInt64_lt]
theorem in_cases (a : Int32) (lo hi : Nat) (h : hi < 2 ^ 31) (hl : lo < 2 ^ 31) : (x_in a (nI lo) (nI hi) = 0 ∧ ∀ k, lo ≤ k → k ≤ hi → a ≠ nI k) ∨ (x_in a (nI lo) (nI hi) = 1 ∧ ∃ k, lo ≤ k ∧ k ≤ hi ∧ a = nI k) := by
  unfold x_in
  by_cases h1 : a < nI lo
  · rw [if_pos h1]
    refine Or.inl ⟨rfl, fun k q1 q2 e => ?_⟩
    rw [e] at h1
    exact nI_nlt q1 (by omega) h1
  · rw [if_neg h1]
    by_cases h2 : nI hi < a
    · rw [if_pos h2]
      refine Or.inl ⟨rfl, fun k q1 q2 e => ?_⟩
      rw [e] at h2
      exact nI_nlt q2 h h2
    · rw [if_neg h2]
      have h0 : ¬ a < 0 := fun q => h1 (by
        rw [Int32.lt_iff_toInt_lt] at q ⊢
        rw [nI_toInt hl]
        have : (0 : Int32).toInt = 0 := rfl
        omega)
      obtain ⟨k, hk, rfl⟩ := nI_of h0
      exact Or.inr ⟨rfl, k, by
        by_cases q : k < lo
        · exact absurd (nI_lt q hl) h1
        · omega, by
        by_cases q : hi < k
        · exact absurd (nI_lt q hk) h2
        · omega, rfl⟩
section S2A0
variable {x n H N : Nat} {st : hk_St} {s : hk_Ms} {p : Int32}
theorem isHead_c (K : RK x st) (hH : RH x H st s) (p : Int32) : (x_isHead x p st = some 0 ∧ m_isHead p s = some 0) ∨ (x_isHead x p st = some 1 ∧ m_isHead p s = some 1 ∧ ∃ h, h < H ∧ p = nI h) := by
  have h6 := hH.2.2.1
  have e1 : x_isHead x p st = some (x_in p 0 (nI H - 1)) := by
    simp only [x_isHead, gI_b (bf_k K.x0), hH.1, hz_ob]
  have e2 : m_isHead p s = some (x_in p 0 (nI H - 1)) := by
    simp only [m_isHead, hH.2.1]
    rw [wi (b := 0) (b' := 0) (c := nI H - 1) (by decide) rfl]
  rw [e1, e2]
  by_cases h0 : H = 0
  · subst h0
    refine Or.inl ?_
    have : x_in p 0 (nI 0 - 1) = 0 := by
      unfold x_in
      by_cases q : p < 0
      · rw [if_pos q]
      · rw [if_neg q, if_pos]
        show (-1 : Int32) < p
        rw [Int32.lt_iff_toInt_lt] at q ⊢
        have : (0 : Int32).toInt = 0 := rfl
        have : (-1 : Int32).toInt = -1 := rfl
        omega
    exact ⟨by rw [this], by rw [this]⟩
  · have e3 : nI H - 1 = nI (H - 1) := by rw [← nI1, pk_sub (by omega)]
    rw [e3]
    rcases in_cases p 0 (H - 1) (by omega) (by decide) with ⟨h1, h2⟩ | ⟨h1, k, h2, h3, h4⟩
    · have h1 : x_in p 0 (nI (H - 1)) = 0 := h1
      exact Or.inl ⟨by rw [h1], by rw [h1]⟩
    · have h1 : x_in p 0 (nI (H - 1)) = 1 := h1
      exact Or.inr ⟨by rw [h1], by rw [h1], k, by omega, h4⟩
theorem isAsk_c (p : Int32) : (x_isPair p = 0 ∧ m_isAsk p = 0) ∨ (x_isPair p = 1 ∧ m_isAsk p = 1 ∧ ∃ ab, p = nI ab ∧ Pr ab) := by
  unfold x_isPair m_isAsk
  by_cases h0 : p < 0
  · rw [if_pos h0, if_pos h0]; exact Or.inl ⟨rfl, rfl⟩
  · rw [if_neg h0, if_neg h0]
    obtain ⟨ab, hab, rfl⟩ := nI_of h0
    have e1 := ld_4 hab
    have e2 := lm_4 hab
    rw [e1] at e2
    rw [e1, e2, wi (b := 1) (b' := 1) (c := 9999) (c' := 9999) (by decide) (by decide), wi (b := 1) (b' := 1) (c := 9999) (c' := 9999) (by decide) (by decide)]
    rcases in_cases (nI (ab / 10000)) 1 9999 (by decide) (by decide) with ⟨h1, h2⟩ | ⟨h1, k, h2, h3, h4⟩
    · have h1 : x_in (nI (ab / 10000)) 1 9999 = 0 := h1
      rw [h1]; exact Or.inl ⟨rfl, rfl⟩
    · have h1 : x_in (nI (ab / 10000)) 1 9999 = 1 := h1
      have hk : ab / 10000 = k := (nI_eq (by omega) (by omega)).mp h4
      rw [h1, if_neg (show ¬ (1 : Int32) = 0 by decide), if_neg (show ¬ (1 : Int32) = 0 by decide)]
      have hm : ab % 10000 < 10000 := Nat.mod_lt _ (by decide)
      by_cases hb : ab % 10000 = 0
      · have h5 : x_in (nI (ab % 10000)) 1 9999 = 0 := by rw [hb]; decide
        rw [if_pos ((li_le0 (by omega)).mpr hb), h5]; exact Or.inl ⟨rfl, rfl⟩
      · rcases in_cases (nI (ab % 10000)) 1 9999 (by decide) (by decide) with ⟨q1, q2⟩ | ⟨q1, k2, q2, q3, q4⟩
        · exact absurd rfl (q2 _ (by omega) (by omega))
        · have q1 : x_in (nI (ab % 10000)) 1 9999 = 1 := q1
          rw [if_neg (fun q => hb ((li_le0 (by omega)).mp q)), q1, if_neg (show ¬ (1 : Int32) = 0 by decide)]
          exact Or.inr ⟨rfl, rfl, ab, rfl, hab, by omega, by omega, by omega⟩
theorem isBy_c (K : RK x st) (hH : RH x H st s) (p : Int32) : (x_isBy x p st = some 0 ∧ m_isHw p s = some 0) ∨ (x_isBy x p st = some 1 ∧ m_isHw p s = some 1 ∧ ∃ h w, h < H ∧ w < 7 ∧ p = nI (10 * h + w)) := by
  unfold x_isBy m_isHw
  by_cases h0 : p < 0
  · rw [if_pos h0, if_pos h0]; exact Or.inl ⟨rfl, rfl⟩
  · rw [if_neg h0, if_neg h0]
    obtain ⟨v, hv, rfl⟩ := nI_of h0
    have e1 := ld_10 hv
    have e2 := lm_10 hv
    rw [e1] at e2
    rw [e1, e2]
    have h6 := hH.2.2.1
    rcases isHead_c K hH (nI (v / 10)) with ⟨h1, h2⟩ | ⟨h1, h2, h, h3, h4⟩
    · rw [h1, h2]
      simp only [hz_ob, hz_gd, bf_k K.x0, if_true]
      exact Or.inl ⟨trivial, trivial⟩
    · have hk : v / 10 = h := (nI_eq (by omega) (by omega)).mp h4
      have hm : v % 10 < 10 := Nat.mod_lt _ (by decide)
      rw [h1, h2]
      simp only [hz_ob, hz_gd, bf_k K.x0, if_true, show ¬ (1 : Int32) = 0 by decide, if_false]
      by_cases hw : v % 10 < 7
      · rw [if_neg (show ¬ (7 : Int32) ≤ nI (v % 10) from nI_ge (b := 7) hw (by decide))]
        exact Or.inr ⟨rfl, rfl, h, v % 10, h3, hw, by congr 1; omega⟩
      · rw [if_pos (show (7 : Int32) ≤ nI (v % 10) from nI_le (a := 7) (by omega) (by omega))]
        exact Or.inl ⟨rfl, rfl⟩
end S2A0
