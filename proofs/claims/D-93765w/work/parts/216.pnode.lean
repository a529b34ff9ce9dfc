set_option maxRecDepth 100000
/-! ===== STAGE 2: nodes ===== -/
def FrN (st st' : hk_St) : Prop := Fr no2 no2 no2 no1 no1 no1 st st'
theorem FrN.nx {st st1 : hk_St} (h : FrN st st1) : Nx st st1 := Fr.nx h (fun _ _ q => q.elim) (fun _ _ q => q.elim)
theorem FrN.r {rd : Nat} {st st1 : hk_St} (h : FrN st st1) : FrR rd st st1 := Fr.wide h (fun _ _ _ q => q.elim) (fun _ _ _ q => q.elim) (fun _ _ _ q => q.elim) (fun _ _ q => q.elim) (fun _ _ q => q.elim) (fun _ _ q => q.elim)
theorem bf_no {st : hk_St} {cs : List Nat} {c n a : Nat} (h : hk_k st a = some (c, n)) (hc : cs.contains c = false) : ¬ hk_bf cs st a = true := by
  unfold hk_bf
  rw [h]
  simp only
  rw [hc]
  decide
section S2D
variable {x : Nat} {st st1 : hk_St}
theorem FrN.mk0 {t len sl : Nat} : FrN st (hk_mk st t len sl) := by
  have h : FrN st st := Fr.rf
  exact Fr.mk h
theorem FrN.wI {f : Nat} {v : Int32} (h : FrN st st1) : FrN st (hk_sfI st1 f (hk_nx st) v) := Fr.sfI h (fun q => absurd q (Nat.lt_irrefl _))
theorem FrN.wR {f : Nat} {v : Option Nat} (h : FrN st st1) : FrN st (hk_sfR st1 f (hk_nx st) v) := Fr.sfR h (fun q => absurd q (Nat.lt_irrefl _))
theorem NdE_leaf {v : Int32} : NdE x (hk_sfI (hk_mk st 11 0 1) 1100 (hk_nx st) v) (hk_nx st) 1 (fun _ => v) := by
  have hlt : hk_nx st < hk_nx (hk_sfI (hk_mk st 11 0 1) 1100 (hk_nx st) v) := Nat.lt_succ_self _
  refine ⟨hlt, fun d hd st2 k2 => ?_⟩
  obtain ⟨d, rfl⟩ : ∃ e, d = e + 1 := ⟨d - 1, by omega⟩
  have kk : hk_k st2 (hk_nx st) = some (11, 0) := by rw [k2.2.1 _ hlt, k_sfI, k_mk, if_pos rfl]
  have ff : hk_fI st2 1100 (hk_nx st) = v := by rw [k2.2.2.1 _ _ hlt (Or.inr (Or.inl rfl)), fI_sfI, if_pos ⟨rfl, rfl⟩]
  simp only [g_V]
  rw [if_neg (bf_no kk (by decide)), if_neg (bf_no kk (by decide)), if_neg (bf_no kk (by decide)), if_pos (bf_k kk)]
  simp only [xLeaf_value, gI_b (bf_k kk), ff, hz_ob]
theorem NdE_name {c : Nat} (hF : FcS x st) (hw : Wp st) (hc : c < 128) (hc2 : (opL 3).contains c = true) : NdE x (hk_sfI (hk_mk st 8 0 1) 800 (hk_nx st) (nI c)) (hk_nx st) 1 (fun N => N c) := by
  have hlt : hk_nx st < hk_nx (hk_sfI (hk_mk st 8 0 1) 800 (hk_nx st) (nI c)) := Nat.lt_succ_self _
  have hN : Nx st (hk_sfI (hk_mk st 8 0 1) 800 (hk_nx st) (nI c)) := FrN.nx (FrN.wI FrN.mk0)
  refine ⟨hlt, fun d hd st2 k2 => ?_⟩
  obtain ⟨d, rfl⟩ : ∃ e, d = e + 1 := ⟨d - 1, by omega⟩
  have kk : hk_k st2 (hk_nx st) = some (8, 0) := by rw [k2.2.1 _ hlt, k_sfI, k_mk, if_pos rfl]
  have ff : hk_fI st2 800 (hk_nx st) = nI c := by rw [k2.2.2.1 _ _ hlt (Or.inl rfl), fI_sfI, if_pos ⟨rfl, rfl⟩]
  obtain ⟨F1, F2, F3⟩ := hF.nx hw (hN.trans k2)
  simp only [g_V]
  rw [if_pos (bf_k kk)]
  simp only [xName_value, gR_b (bf_k F1), F2, gI_b (bf_k kk), ff, hz_ob, hz_nn, lI_k (ty := 0) F3 hc (by decide), nrm, hc2, if_true]
theorem NdE_denied {nd D : Nat} {f : qF} (h : NdE x st nd D f) : NdE x (hk_sfR (hk_mk st 9 0 1) 900 (hk_nx st) (some nd)) (hk_nx st) (D + 1) (fun N => if f N = 0 then 1 else 0) := by
  have hlt : hk_nx st < hk_nx (hk_sfR (hk_mk st 9 0 1) 900 (hk_nx st) (some nd)) := Nat.lt_succ_self _
  have hN : Nx st (hk_sfR (hk_mk st 9 0 1) 900 (hk_nx st) (some nd)) := FrN.nx (FrN.wR FrN.mk0)
  refine ⟨hlt, fun d hd st2 k2 => ?_⟩
  obtain ⟨d, rfl⟩ : ∃ e, d = e + 1 := ⟨d - 1, by omega⟩
  have kk : hk_k st2 (hk_nx st) = some (9, 0) := by rw [k2.2.1 _ hlt, k_sfR, k_mk, if_pos rfl]
  have ff : hk_fR st2 900 (hk_nx st) = some nd := by rw [k2.2.2.2 _ _ hlt (Or.inl rfl), fR_sfR, if_pos ⟨rfl, rfl⟩]
  have hv := h.2 d (by omega) st2 (hN.trans k2)
  simp only [g_V]
  rw [if_neg (bf_no kk (by decide)), if_pos (bf_k kk)]
  simp only [xDenied_value, gR_b (bf_k kk), ff, hz_ob, hz_nn, hv]
  by_cases e : f (nrm (hk_aI st2 (x + 5))) = 0
  · rw [if_pos e, if_pos e]
  · rw [if_neg e, if_neg e]
theorem NdE_turned {nd D : Nat} {f : qF} (h : NdE x st nd D f) : NdE x (hk_sfR (hk_mk st 10 0 1) 1000 (hk_nx st) (some nd)) (hk_nx st) (D + 1) (fun N => - f N) := by
  have hlt : hk_nx st < hk_nx (hk_sfR (hk_mk st 10 0 1) 1000 (hk_nx st) (some nd)) := Nat.lt_succ_self _
  have hN : Nx st (hk_sfR (hk_mk st 10 0 1) 1000 (hk_nx st) (some nd)) := FrN.nx (FrN.wR FrN.mk0)
  refine ⟨hlt, fun d hd st2 k2 => ?_⟩
  obtain ⟨d, rfl⟩ : ∃ e, d = e + 1 := ⟨d - 1, by omega⟩
  have kk : hk_k st2 (hk_nx st) = some (10, 0) := by rw [k2.2.1 _ hlt, k_sfR, k_mk, if_pos rfl]
  have ff : hk_fR st2 1000 (hk_nx st) = some nd := by rw [k2.2.2.2 _ _ hlt (Or.inr (Or.inl rfl)), fR_sfR, if_pos ⟨rfl, rfl⟩]
  have hv := h.2 d (by omega) st2 (hN.trans k2)
  simp only [g_V]
  rw [if_neg (bf_no kk (by decide)), if_neg (bf_no kk (by decide)), if_pos (bf_k kk)]
  simp only [xTurned_value, gR_b (bf_k kk), ff, hz_ob, hz_nn, hv]
def opC (c : Nat) : Prop := c = 37 ∨ c = 38 ∨ c = 42 ∨ c = 43 ∨ c = 45 ∨ c = 47 ∨ c = 60 ∨ c = 61 ∨ c = 62 ∨ c = 124
/-- the state behind a pair of two that is made -/
def mkP (st : hk_St) (c l r : Nat) : hk_St := hk_sfR (hk_sfR (hk_sfI (hk_mk st 12 0 3) 1200 (hk_nx st) (nI c)) 1201 (hk_nx st) (some l)) 1202 (hk_nx st) (some r)
theorem mkP_fr {c l r : Nat} : FrN st (mkP st c l r) := FrN.wR (FrN.wR (FrN.wI FrN.mk0))
theorem NdE_pair {c l r D E : Nat} {f g : qF} (hc : opC c) (h : NdE x st l D f) (k : NdE x st r E g) : NdE x (mkP st c l r) (hk_nx st) (max D E + 1) (fun N => pv c (f N) (g N)) := by
  have hlt : hk_nx st < hk_nx (mkP st c l r) := Nat.lt_succ_self _
  have hN : Nx st (mkP st c l r) := FrN.nx mkP_fr
  refine ⟨hlt, fun d hd st2 k2 => ?_⟩
  obtain ⟨d, rfl⟩ : ∃ e, d = e + 1 := ⟨d - 1, by omega⟩
  have kk : hk_k st2 (hk_nx st) = some (12, 0) := by rw [k2.2.1 _ hlt]; show hk_k (hk_mk st 12 0 3) _ = _; rw [k_mk, if_pos rfl]
  have f0 : hk_fI st2 1200 (hk_nx st) = nI c := by rw [k2.2.2.1 _ _ hlt (Or.inr (Or.inr rfl))]; show hk_fI (hk_sfI (hk_mk st 12 0 3) 1200 (hk_nx st) (nI c)) _ _ = _; rw [fI_sfI, if_pos ⟨rfl, rfl⟩]
  have f1 : hk_fR st2 1201 (hk_nx st) = some l := by rw [k2.2.2.2 _ _ hlt (Or.inr (Or.inr (Or.inl rfl)))]; unfold mkP; rw [fR_sfR, if_neg (fun q => absurd q.1 (by decide)), fR_sfR, if_pos ⟨rfl, rfl⟩]
  have f2 : hk_fR st2 1202 (hk_nx st) = some r := by rw [k2.2.2.2 _ _ hlt (Or.inr (Or.inr (Or.inr (Or.inl rfl))))]; unfold mkP; rw [fR_sfR, if_pos ⟨rfl, rfl⟩]
  have hv := h.2 d (by omega) st2 (hN.trans k2)
  have kv := k.2 d (by omega) st2 (hN.trans k2)
  simp only [g_V]
  rw [if_neg (bf_no kk (by decide)), if_neg (bf_no kk (by decide)), if_neg (bf_no kk (by decide)), if_neg (bf_no kk (by decide)), if_pos (bf_k kk)]
  simp only [xPair_value, gR_b (bf_k kk), gI_b (bf_k kk), f0, f1, f2, hz_ob, hz_nn, hz_nm, hv, kv]
  generalize f (nrm (hk_aI st2 (x + 5))) = a
  generalize g (nrm (hk_aI st2 (x + 5))) = b
  rcases hc with rfl | rfl | rfl | rfl | rfl | rfl | rfl | rfl | rfl | rfl
  · show (if b = 0 then some 0 else if b = -1 then some 0 else hk_gd (decide (¬ b = 0)) (some (a - a / b * b))) = some (if b = 0 then 0 else if b = -1 then 0 else a - a / b * b)
    by_cases h1 : b = 0
    · simp only [h1, if_true]
    · by_cases h2 : b = -1
      · simp only [h2, if_true, show ¬ (-1 : Int32) = 0 by decide, if_false]
      · simp only [h1, h2, if_false, not_false_eq_true, decide_true, hz_gd, if_true]
  · show (if a = 0 then some (xPair_is 0) else if b = 0 then some (xPair_is 0) else some (xPair_is 1)) = some (if a = 0 then 0 else if b = 0 then 0 else 1)
    by_cases h1 : a = 0
    · simp only [h1, if_true]; rfl
    · by_cases h2 : b = 0
      · simp only [h1, h2, if_true, if_false]; rfl
      · simp only [h1, h2, if_false]; rfl
  · rfl
  · rfl
  · rfl
  · show (if b = 0 then some 0 else if b = -1 then some (-a) else hk_gd (decide (¬ b = 0)) (some (a / b))) = some (if b = 0 then 0 else if b = -1 then -a else a / b)
    by_cases h1 : b = 0
    · simp only [h1, if_true]
    · by_cases h2 : b = -1
      · simp only [h2, if_true, show ¬ (-1 : Int32) = 0 by decide, if_false]
      · simp only [h1, h2, if_false, not_false_eq_true, decide_true, hz_gd, if_true]
  · show (if b ≤ a then some (xPair_is 0) else some (xPair_is 1)) = some (if b ≤ a then 0 else 1)
    by_cases h1 : b ≤ a
    · simp only [h1, if_true]; rfl
    · simp only [h1, if_false]; rfl
  · show (if a = b then some (xPair_is 1) else some (xPair_is 0)) = some (if a = b then 1 else 0)
    by_cases h1 : a = b
    · simp only [h1, if_true]; rfl
    · simp only [h1, if_false]; rfl
  · show (if a ≤ b then some (xPair_is 0) else some (xPair_is 1)) = some (if a ≤ b then 0 else 1)
    by_cases h1 : a ≤ b
    · simp only [h1, if_true]; rfl
    · simp only [h1, if_false]; rfl
  · show (if a = 0 then (if b = 0 then some (xPair_is 0) else some (xPair_is 1)) else some (xPair_is 1)) = some (if a = 0 then (if b = 0 then 0 else 1) else 1)
    by_cases h1 : a = 0
    · by_cases h2 : b = 0
      · simp only [h1, h2, if_true]; rfl
      · simp only [h1, h2, if_true, if_false]; rfl
    · simp only [h1, if_false]; rfl
end S2D
-- ===== the reference's place =====
/-- the reference at the place p: its fault, how many are open; all else as in s0 -/
def Pm (s0 s : hk_Ms) (p : Nat) (fl : Int32) (o : Nat) : Prop :=
  (∀ f, f ≠ 11 → f ≠ 13 → f ≠ 14 → hm_I s f = hm_I s0 f) ∧ (∀ j i, hm_A s j i = hm_A s0 j i) ∧ s.2.2 = s0.2.2 ∧ hm_I s 11 = nI p ∧ hm_I s 13 = fl ∧ hm_I s 14 = nI o
/-- what the reference reads -/
def BSm (n : Nat) (B : Nat → Nat) (s0 : hk_Ms) : Prop := n ≤ 120 ∧ hm_I s0 12 = nI n ∧ ((hm_I s0 10 = -1 ∧ ∀ i, i < n → hm_A s0 4 i = nI (B i)) ∨ (hm_I s0 10 = nI 0 ∧ ∀ i, i < n → hm_A s0 5 i = nI (B i)))
/-- a fault at q, or a figure there that nobody takes -/
def RFm (n : Nat) (B : Nat → Nat) (s0 s : hk_Ms) (q : Nat) : Prop := ∃ p fl o, Pm s0 s p fl o ∧ p ≤ n ∧ q ≤ n ∧ (fl = nI q ∨ (fl = -1 ∧ p = q ∧ dgt (chr B n q) = true))
def nmx (c : Nat) : Nat := if c = 99 then 7 else if c = 100 then 4 else if c = 109 then 0 else if c = 110 then 1 else if c = 116 then 6 else if c = 120 then 2 else if c = 121 then 3 else 5
def Nm (s0 : hk_Ms) (c : Nat) : Int32 := if (opL 3).contains c = true then hm_A s0 6 (nmx c) else 0
section S2E
variable {s0 s : hk_Ms} {n p o q : Nat} {B : Nat → Nat} {fl : Int32}
theorem Pm.at (P : Pm s0 s p fl o) {q : Nat} : Pm s0 (hm_sI s 11 (nI q)) q fl o := by
  obtain ⟨P1, P2, P3, P4, P5, P6⟩ := P
  exact ⟨fun f h1 h2 h3 => by rw [hmI_sI, if_neg h1]; exact P1 f h1 h2 h3, P2, P3, rfl, P5, P6⟩
theorem Pm.fault (P : Pm s0 s p fl o) {v : Int32} : Pm s0 (hm_sI s 13 v) p v o := by
  obtain ⟨P1, P2, P3, P4, P5, P6⟩ := P
  exact ⟨fun f h1 h2 h3 => by rw [hmI_sI, if_neg h2]; exact P1 f h1 h2 h3, P2, P3, P4, rfl, P6⟩
theorem Pm.opn (P : Pm s0 s p fl o) {v : Nat} : Pm s0 (hm_sI s 14 (nI v)) p fl v := by
  obtain ⟨P1, P2, P3, P4, P5, P6⟩ := P
  exact ⟨fun f h1 h2 h3 => by rw [hmI_sI, if_neg h3]; exact P1 f h1 h2 h3, P2, P3, P4, P5, rfl⟩
theorem m_byte (S : BSm n B s0) (P : Pm s0 s p fl o) (hp : p ≤ n) : m_byteAt s = some (nI (chr B n p)) := by
  obtain ⟨S1, S2, S3⟩ := S
  obtain ⟨P1, P2, P3, P4, P5, P6⟩ := P
  have h12 : hm_I s 12 = nI n := by rw [P1 12 (by decide) (by decide) (by decide)]; exact S2
  have h10 : hm_I s 10 = hm_I s0 10 := P1 10 (by decide) (by decide) (by decide)
  simp only [m_byteAt, h12, P4, h10]
  by_cases h : p < n
  · rw [if_neg (nI_ge h (by omega)), chr, if_pos h]
    rcases S3 with ⟨h1, h2⟩ | ⟨h1, h2⟩
    · rw [h1, if_neg (by decide), hml (by omega) (by decide), P2, h2 p h]; rfl
    · rw [h1, if_pos (by decide), nI_add, Nat.zero_add, hml (by omega) (by decide), P2, h2 p h]; rfl
  · rw [if_pos (nI_le (by omega) (by omega)), chr, if_neg h]; rfl
theorem m_take_f {c : Int32} (P : Pm s0 s p fl o) (hf : (0 : Int32) ≤ fl) : m_takes c s = some (0, s) := by
  simp only [m_takes, P.2.2.2.2.1, hf, if_true]
theorem m_take_n {c : Nat} (S : BSm n B s0) (P : Pm s0 s p (-1) o) (hp : p ≤ n) (hc : c < 256) (hB : ∀ i, i < n → B i < 256) (hne : chr B n p ≠ c) : m_takes (nI c) s = some (0, s) := by
  have h2 := chr_256 hB (p := p)
  have hne2 : ¬ nI (chr B n p) = nI c := fun q => hne ((nI_eq (by omega) (by omega)).mp q)
  simp only [m_takes, P.2.2.2.2.1, show ¬ (0 : Int32) ≤ -1 by decide, if_false, m_byte S P hp, hz_ob, hne2]
theorem m_take_y {c : Nat} (S : BSm n B s0) (P : Pm s0 s p (-1) o) (hp : p ≤ n) (hne : chr B n p = c) : m_takes (nI c) s = some (1, hm_sI s 11 (nI (p + 1))) := by
  simp only [m_takes, P.2.2.2.2.1, show ¬ (0 : Int32) ≤ -1 by decide, if_false, m_byte S P hp, hz_ob, hne, if_true, P.2.2.2.1, nI_1, hz_nm]
theorem RFm.take (R : RFm n B s0 s q) (S : BSm n B s0) (hB : ∀ i, i < n → B i < 256) {c : Nat} (hc : c < 256) (hd : dgt c = false) : m_takes (nI c) s = some (0, s) := by
  obtain ⟨p, fl, o, P, hp, hq, h | ⟨h1, h2, h3⟩⟩ := R
  · subst h
    exact m_take_f P (nI_pos' (by have := S.1; omega))
  · subst h1 h2
    refine m_take_n S P hp hc hB (fun e => ?_)
    rw [e, hd] at h3; cases h3
theorem RFm.wrong (R : RFm n B s0 s q) (hn : n ≤ 120) : ∃ s', m_wrong s = some (0, s') ∧ RFm n B s0 s' q := by
  obtain ⟨p, fl, o, P, hp, hq, h | ⟨h1, h2, h3⟩⟩ := R
  · subst h
    refine ⟨hm_sI s 13 (nI q), ?_, p, nI q, o, P.fault, hp, hq, Or.inl rfl⟩
    simp only [m_wrong, P.2.2.2.2.1, nI_pos' (show q < 2 ^ 31 by omega), if_true, hz_nm]
  · subst h1 h2
    refine ⟨hm_sI s 13 (nI p), ?_, p, nI p, o, P.fault, hp, hq, Or.inl rfl⟩
    simp only [m_wrong, P.2.2.2.2.1, P.2.2.2.1, show ¬ (0 : Int32) ≤ -1 by decide, if_false, hz_nm]
theorem m_wrong1 (P : Pm s0 s p (-1) o) (hp : p ≤ n) : ∃ s', m_wrong s = some (0, s') ∧ RFm n B s0 s' p := by
  refine ⟨hm_sI s 13 (nI p), ?_, p, nI p, o, P.fault, hp, hp, Or.inl rfl⟩
  simp only [m_wrong, P.2.2.2.2.1, P.2.2.2.1, show ¬ (0 : Int32) ≤ -1 by decide, if_false, hz_nm]
theorem RFm.byte (R : RFm n B s0 s q) (S : BSm n B s0) : ∃ c, m_byteAt s = some (nI c) ∧ ((0 : Int32) ≤ hm_I s 13 ∨ (hm_I s 13 = -1 ∧ dgt c = true)) := by
  obtain ⟨p, fl, o, P, hp, hq, h | ⟨h1, h2, h3⟩⟩ := R
  · subst h
    exact ⟨_, m_byte S P hp, Or.inl (by rw [P.2.2.2.2.1]; exact nI_pos' (by have := S.1; omega))⟩
  · subst h1 h2
    exact ⟨_, m_byte S P hp, Or.inr ⟨P.2.2.2.2.1, h3⟩⟩
end S2E
