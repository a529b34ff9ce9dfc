set_option maxRecDepth 100000
/-! ===== STAGE 2: the world of the class: guards, frames ===== -/
section S2W
variable {st : hk_St}
theorem bf_k {c n a : Nat} (h : hk_k st a = some (c, n)) : hk_bf [c] st a = true := by simp [hk_bf, h]
theorem ba_k {ty n a i : Nat} (h : hk_k st a = some (100 + ty, n)) (hi : i < n) (hn : n < 2 ^ 31) : hk_ba ty st a (nI i) = true := by simp [hk_ba, h, hk_in_nI hi hn]
theorem gI_b {cs : List Nat} {f a : Nat} (h : hk_bf cs st a = true) : hk_gI cs f st a = some (hk_fI st f a) := by rw [hk_gI, if_pos h]
theorem gL_b {cs : List Nat} {f a : Nat} (h : hk_bf cs st a = true) : hk_gL cs f st a = some (hk_fL st f a) := by rw [hk_gL, if_pos h]
theorem gR_b {cs : List Nat} {f a : Nat} (h : hk_bf cs st a = true) : hk_gR cs f st a = some (hk_fR st f a) := by rw [hk_gR, if_pos h]
theorem pI_b {cs : List Nat} {f a : Nat} {v : Int32} (h : hk_bf cs st a = true) : hk_pI cs f st a v = some (hk_sfI st f a v) := by rw [hk_pI, if_pos h]
theorem pL_b {cs : List Nat} {f a : Nat} {v : Int64} (h : hk_bf cs st a = true) : hk_pL cs f st a v = some (hk_sfL st f a v) := by rw [hk_pL, if_pos h]
theorem pR_b {cs : List Nat} {f a : Nat} {v : Option Nat} (h : hk_bf cs st a = true) : hk_pR cs f st a v = some (hk_sfR st f a v) := by rw [hk_pR, if_pos h]
theorem ba_lt {ty a i : Nat} (h : hk_ba ty st a (nI i) = true) (hi : i < 2 ^ 31) : (nI i).toNatClampNeg = i := nI_clamp hi
theorem lI_k {ty n a i : Nat} (h : hk_k st a = some (100 + ty, n)) (hi : i < n) (hn : n < 2 ^ 31) : hk_lI ty st a (nI i) = some (hk_aI st a i) := by
  rw [hk_lI, if_pos (ba_k h hi hn), nI_clamp (by omega)]
theorem tI_k {ty n a i : Nat} {v : Int32} (h : hk_k st a = some (100 + ty, n)) (hi : i < n) (hn : n < 2 ^ 31) : hk_tI ty st a (nI i) v = some (hk_saI st a i (hk_nar ty v)) := by
  rw [hk_tI, if_pos (ba_k h hi hn), nI_clamp (by omega)]
theorem lL_k {n a i : Nat} (h : hk_k st a = some (104, n)) (hi : i < n) (hn : n < 2 ^ 31) : hk_lL st a (nI i) = some (hk_aL st a i) := by
  rw [hk_lL, if_pos (ba_k (ty := 4) h hi hn), nI_clamp (by omega)]
theorem tL_k {n a i : Nat} {v : Int64} (h : hk_k st a = some (104, n)) (hi : i < n) (hn : n < 2 ^ 31) : hk_tL st a (nI i) v = some (hk_saL st a i v) := by
  rw [hk_tL, if_pos (ba_k (ty := 4) h hi hn), nI_clamp (by omega)]
theorem lR_k {ty n a i : Nat} (h : hk_k st a = some (100 + ty, n)) (hi : i < n) (hn : n < 2 ^ 31) : hk_lR ty st a (nI i) = some (hk_aR st a i) := by
  rw [hk_lR, if_pos (ba_k h hi hn), nI_clamp (by omega)]
theorem tR_k {cs : List Nat} {ty n a i : Nat} {v : Option Nat} (h : hk_k st a = some (100 + ty, n)) (hi : i < n) (hn : n < 2 ^ 31) (hv : hk_bv cs st v = true) : hk_tR ty cs st a (nI i) v = some (hk_saR st a i v) := by
  rw [hk_tR, if_pos (by rw [ba_k h hi hn, hv]; rfl), nI_clamp (by omega)]
theorem bv_k {c n a : Nat} (h : hk_k st a = some (c, n)) : hk_bv [c] st (some a) = true := bf_k h
theorem bv_n {cs : List Nat} : hk_bv cs st none = true := rfl
end S2W
/-- what a part of a run can have changed: int fields, long fields, reference fields, int and long arrays, reference arrays of what was there before -/
def Fr (pI pL pR : Nat → Nat → Prop) (pA pB pO : Nat → Prop) (st st' : hk_St) : Prop :=
  hk_nx st ≤ hk_nx st' ∧ (∀ a, a < hk_nx st → hk_k st' a = hk_k st a) ∧ (∀ f a, a < hk_nx st → ¬ pI f a → hk_fI st' f a = hk_fI st f a) ∧ (∀ f a, a < hk_nx st → ¬ pL f a → hk_fL st' f a = hk_fL st f a) ∧
  (∀ f a, a < hk_nx st → ¬ pR f a → hk_fR st' f a = hk_fR st f a) ∧ (∀ a i, a < hk_nx st → ¬ pA a → hk_aI st' a i = hk_aI st a i) ∧ (∀ a i, a < hk_nx st → ¬ pB a → hk_aL st' a i = hk_aL st a i) ∧
  (∀ a i, a < hk_nx st → ¬ pO a → hk_aR st' a i = hk_aR st a i)
section S2F
variable {pI pL pR qI qL qR : Nat → Nat → Prop} {pA pB pO qA qB qO : Nat → Prop} {st st1 st2 : hk_St}
theorem Fr.rf : Fr pI pL pR pA pB pO st st := ⟨Nat.le_refl _, fun _ _ => rfl, fun _ _ _ _ => rfl, fun _ _ _ _ => rfl, fun _ _ _ _ => rfl, fun _ _ _ _ => rfl, fun _ _ _ _ => rfl, fun _ _ _ _ => rfl⟩
theorem Fr.trans (h : Fr pI pL pR pA pB pO st st1) (k : Fr pI pL pR pA pB pO st1 st2) : Fr pI pL pR pA pB pO st st2 := by
  obtain ⟨h0, h1, h2, h3, h4, h5, h6, h7⟩ := h
  obtain ⟨k0, k1, k2, k3, k4, k5, k6, k7⟩ := k
  refine ⟨Nat.le_trans h0 k0, fun a ha => (k1 a (by omega)).trans (h1 a ha), fun f a ha hp => (k2 f a (by omega) hp).trans (h2 f a ha hp), fun f a ha hp => (k3 f a (by omega) hp).trans (h3 f a ha hp),
    fun f a ha hp => (k4 f a (by omega) hp).trans (h4 f a ha hp), fun a i ha hp => (k5 a i (by omega) hp).trans (h5 a i ha hp), fun a i ha hp => (k6 a i (by omega) hp).trans (h6 a i ha hp), fun a i ha hp => (k7 a i (by omega) hp).trans (h7 a i ha hp)⟩
/-- a wider footprint (of what was there at the beginning) -/
theorem Fr.wide (h : Fr pI pL pR pA pB pO st st1) (w1 : ∀ f a, a < hk_nx st → pI f a → qI f a) (w2 : ∀ f a, a < hk_nx st → pL f a → qL f a) (w3 : ∀ f a, a < hk_nx st → pR f a → qR f a)
    (w4 : ∀ a, a < hk_nx st → pA a → qA a) (w5 : ∀ a, a < hk_nx st → pB a → qB a) (w6 : ∀ a, a < hk_nx st → pO a → qO a) : Fr qI qL qR qA qB qO st st1 := by
  obtain ⟨h0, h1, h2, h3, h4, h5, h6, h7⟩ := h
  exact ⟨h0, h1, fun f a ha hp => h2 f a ha (fun q => hp (w1 f a ha q)), fun f a ha hp => h3 f a ha (fun q => hp (w2 f a ha q)), fun f a ha hp => h4 f a ha (fun q => hp (w3 f a ha q)),
    fun a i ha hp => h5 a i ha (fun q => hp (w4 a ha q)), fun a i ha hp => h6 a i ha (fun q => hp (w5 a ha q)), fun a i ha hp => h7 a i ha (fun q => hp (w6 a ha q))⟩
theorem Fr.sfI {f a : Nat} {v : Int32} (h : Fr pI pL pR pA pB pO st st1) (hp : a < hk_nx st → pI f a) : Fr pI pL pR pA pB pO st (hk_sfI st1 f a v) := by
  obtain ⟨h0, h1, h2, h3, h4, h5, h6, h7⟩ := h
  refine ⟨h0, h1, fun g c hc hq => ?_, h3, h4, h5, h6, h7⟩
  rw [fI_sfI, if_neg (fun q => hq (by rw [q.1, q.2]; exact hp (by omega)))]
  exact h2 g c hc hq
theorem Fr.sfL {f a : Nat} {v : Int64} (h : Fr pI pL pR pA pB pO st st1) (hp : a < hk_nx st → pL f a) : Fr pI pL pR pA pB pO st (hk_sfL st1 f a v) := by
  obtain ⟨h0, h1, h2, h3, h4, h5, h6, h7⟩ := h
  refine ⟨h0, h1, h2, fun g c hc hq => ?_, h4, h5, h6, h7⟩
  rw [fL_sfL, if_neg (fun q => hq (by rw [q.1, q.2]; exact hp (by omega)))]
  exact h3 g c hc hq
theorem Fr.sfR {f a : Nat} {v : Option Nat} (h : Fr pI pL pR pA pB pO st st1) (hp : a < hk_nx st → pR f a) : Fr pI pL pR pA pB pO st (hk_sfR st1 f a v) := by
  obtain ⟨h0, h1, h2, h3, h4, h5, h6, h7⟩ := h
  refine ⟨h0, h1, h2, h3, fun g c hc hq => ?_, h5, h6, h7⟩
  rw [fR_sfR, if_neg (fun q => hq (by rw [q.1, q.2]; exact hp (by omega)))]
  exact h4 g c hc hq
theorem Fr.saI {a i : Nat} {v : Int32} (h : Fr pI pL pR pA pB pO st st1) (hp : a < hk_nx st → pA a) : Fr pI pL pR pA pB pO st (hk_saI st1 a i v) := by
  obtain ⟨h0, h1, h2, h3, h4, h5, h6, h7⟩ := h
  refine ⟨h0, h1, h2, h3, h4, fun c j hc hq => ?_, h6, h7⟩
  rw [aI_saI, if_neg (fun q => hq (by rw [q.1]; exact hp (by omega)))]
  exact h5 c j hc hq
theorem Fr.saL {a i : Nat} {v : Int64} (h : Fr pI pL pR pA pB pO st st1) (hp : a < hk_nx st → pB a) : Fr pI pL pR pA pB pO st (hk_saL st1 a i v) := by
  obtain ⟨h0, h1, h2, h3, h4, h5, h6, h7⟩ := h
  refine ⟨h0, h1, h2, h3, h4, h5, fun c j hc hq => ?_, h7⟩
  rw [aL_saL, if_neg (fun q => hq (by rw [q.1]; exact hp (by omega)))]
  exact h6 c j hc hq
theorem Fr.saR {a i : Nat} {v : Option Nat} (h : Fr pI pL pR pA pB pO st st1) (hp : a < hk_nx st → pO a) : Fr pI pL pR pA pB pO st (hk_saR st1 a i v) := by
  obtain ⟨h0, h1, h2, h3, h4, h5, h6, h7⟩ := h
  refine ⟨h0, h1, h2, h3, h4, h5, h6, fun c j hc hq => ?_⟩
  rw [aR_saR, if_neg (fun q => hq (by rw [q.1]; exact hp (by omega)))]
  exact h7 c j hc hq
theorem Fr.mk {t len sl : Nat} (h : Fr pI pL pR pA pB pO st st1) : Fr pI pL pR pA pB pO st (hk_mk st1 t len sl) := by
  obtain ⟨h0, h1, h2, h3, h4, h5, h6, h7⟩ := h
  have ne : ∀ {a}, a < hk_nx st → ¬ a = hk_nx st1 := fun h => by omega
  refine ⟨by rw [nx_mk]; omega, fun a ha => ?_, fun f a ha hp => ?_, fun f a ha hp => ?_, fun f a ha hp => ?_, fun a i ha hp => ?_, fun a i ha hp => ?_, fun a i ha hp => ?_⟩
  · rw [k_mk, if_neg (ne ha)]; exact h1 a ha
  · rw [fI_mk, if_neg (ne ha)]; exact h2 f a ha hp
  · rw [fL_mk, if_neg (ne ha)]; exact h3 f a ha hp
  · rw [fR_mk, if_neg (ne ha)]; exact h4 f a ha hp
  · rw [aI_mk, if_neg (ne ha)]; exact h5 a i ha hp
  · rw [aL_mk, if_neg (ne ha)]; exact h6 a i ha hp
  · rw [aR_mk, if_neg (ne ha)]; exact h7 a i ha hp
end S2F
/-- all that has a kind lies below the next address -/
def Wk (st : hk_St) : Prop := ∀ a, hk_k st a ≠ none → a < hk_nx st
theorem Wk.mk {st : hk_St} {t len sl : Nat} (h : Wk st) : Wk (hk_mk st t len sl) := by
  intro a ha
  rw [k_mk] at ha
  rw [nx_mk]
  by_cases e : a = hk_nx st
  · omega
  · rw [if_neg e] at ha
    have := h a ha
    omega
theorem Wk.lt {st : hk_St} (h : Wk st) {a t n : Nat} (e : hk_k st a = some (t, n)) : a < hk_nx st := h a (by rw [e]; simp)
theorem Wk.nn {st : hk_St} (h : Wk st) {a t n : Nat} (e : hk_k st a = some (t, n)) : ¬ a = hk_nx st := by have := h.lt e; omega
/-- the pairs' arrays share no Learnt -/
def Li (st : hk_St) : Prop := (∀ p p' k k' la, hk_k st p = some (105, 60) → hk_k st p' = some (105, 60) → hk_aR st p k = some la → hk_aR st p' k' = some la → p = p' ∧ k = k') ∧
  ∀ p k la, hk_k st p = some (105, 60) → hk_aR st p k = some la → la < hk_nx st
