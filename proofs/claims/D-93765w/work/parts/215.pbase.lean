set_option maxRecDepth 100000
/-! ===== STAGE 2: the choice: what is read ===== -/
/-- all that has a kind lies below the next address; no Learnt lies twice -/
def Wp (st : hk_St) : Prop := Wk st ∧ Li st
theorem Wp.lt {st : hk_St} (h : Wp st) {a t n : Nat} (e : hk_k st a = some (t, n)) : a < hk_nx st := h.1.lt e
theorem Wp.nn {st : hk_St} (h : Wp st) {a t n : Nat} (e : hk_k st a = some (t, n)) : ¬ a = hk_nx st := h.1.nn e
theorem Wp.mk {st : hk_St} {t len sl : Nat} (h : Wp st) (ht : t ≠ 105 := by decide) : Wp (hk_mk st t len sl) := by
  refine ⟨h.1.mk, ?_, ?_⟩
  · intro p p' k k' la hp hp' e e'
    rw [k_mk] at hp hp'
    by_cases q : p = hk_nx st
    · rw [if_pos q] at hp; cases hp; exact absurd rfl ht
    · by_cases q' : p' = hk_nx st
      · rw [if_pos q'] at hp'; cases hp'; exact absurd rfl ht
      · rw [if_neg q] at hp
        rw [if_neg q'] at hp'
        rw [aR_mk, if_neg q] at e
        rw [aR_mk, if_neg q'] at e'
        exact h.2.1 p p' k k' la hp hp' e e'
  · intro p k la hp e
    rw [k_mk] at hp
    by_cases q : p = hk_nx st
    · rw [if_pos q] at hp; cases hp; exact absurd rfl ht
    · rw [if_neg q] at hp
      rw [aR_mk, if_neg q] at e
      have := h.2.2 p k la hp e
      rw [nx_mk]; omega
/-- what lies on the tape: n bytes B; behind them noughts -/
def chr (B : Nat → Nat) (n p : Nat) : Nat := if p < n then B p else 0
def sbv (b : Nat) : Int32 := (nI b).toInt8.toInt32
theorem sbv_lo : ∀ b, b < 128 → sbv b = nI b := by decide +kernel
theorem sbv_hi : ∀ b, b < 256 → 128 ≤ b → sbv b < 0 := by decide +kernel
def hv (B : Nat → Nat) (n p : Nat) : Int32 := if p < n then sbv (B p) else -1
theorem hv_eq {B : Nat → Nat} {n p c : Nat} (hB : ∀ i, i < n → B i < 256) (h1 : 1 ≤ c) (h2 : c < 128) : hv B n p = nI c ↔ chr B n p = c := by
  unfold hv chr
  by_cases h : p < n
  · rw [if_pos h, if_pos h]
    by_cases h3 : B p < 128
    · rw [sbv_lo _ h3]
      exact nI_eq (by omega) (by omega)
    · have h4 := sbv_hi _ (hB p h) (by omega)
      refine ⟨fun q => ?_, fun q => by omega⟩
      rw [q] at h4
      exact absurd h4 (nI_pos (by omega))
  · rw [if_neg h, if_neg h]
    refine ⟨fun q => ?_, fun q => by omega⟩
    have : nI c < 0 := by rw [← q]; decide
    exact absurd this (nI_pos (by omega))
theorem hv_cases {B : Nat → Nat} {n p : Nat} (hB : ∀ i, i < n → B i < 256) : (hv B n p < 0 ∧ (chr B n p = 0 ∨ 128 ≤ chr B n p)) ∨ (chr B n p < 128 ∧ hv B n p = nI (chr B n p)) := by
  unfold hv chr
  by_cases h : p < n
  · rw [if_pos h, if_pos h]
    by_cases h3 : B p < 128
    · exact Or.inr ⟨h3, sbv_lo _ h3⟩
    · exact Or.inl ⟨sbv_hi _ (hB p h) (by omega), Or.inr (by omega)⟩
  · rw [if_neg h, if_neg h]
    exact Or.inl ⟨by decide, Or.inl rfl⟩
theorem chr_256 {B : Nat → Nat} {n p : Nat} (hB : ∀ i, i < n → B i < 256) : chr B n p < 256 := by
  unfold chr
  split
  · exact hB _ (by assumption)
  · decide
theorem chr_ne {B : Nat → Nat} {n p : Nat} (h : chr B n p ≠ 0) : p < n := by
  unfold chr at h
  by_cases h1 : p < n
  · exact h1
  · rw [if_neg h1] at h; exact absurd rfl h
def dgt (c : Nat) : Bool := decide (48 ≤ c ∧ c ≤ 57)
def opL (k : Nat) : List Nat := match k with
  | 0 => [60, 61, 62]
  | 1 => [43, 45]
  | 2 => [42, 47, 37]
  | _ => [109, 110, 120, 121, 100, 122, 116, 99]
theorem idx_tab : ∀ k, k < 4 → ∀ c, c < 128 → ((jjJ0_indexOf k (nI c)).map fun r => decide (r < 0)) = some (!(opL k).contains c) := by decide +kernel
/-- the class's tape -/
def TS (x n : Nat) (B : Nat → Nat) (st : hk_St) : Prop :=
  hk_k st x = some (0, 0) ∧ hk_fI st 1 x = nI n ∧ hk_fR st 0 x = some (x + 1) ∧ hk_k st (x + 1) = some (101, 120) ∧ n ≤ 120 ∧ ∀ i, i < n → B i < 256 ∧ hk_aI st (x + 1) i = sbv (B i)
/-- a reader at the place p, its fault, how many are open -/
def RdS (x rd n : Nat) (B : Nat → Nat) (p : Nat) (fl : Int32) (o : Nat) (st : hk_St) : Prop :=
  TS x n B st ∧ hk_k st rd = some (6, 0) ∧ hk_fR st 603 rd = some x ∧ hk_fI st 600 rd = nI p ∧ hk_fI st 601 rd = fl ∧ hk_fI st 602 rd = nI o ∧ p ≤ n
/-- what reading can change -/
def FrR (rd : Nat) (st st' : hk_St) : Prop := Fr (fun f a => a = rd ∧ 600 ≤ f ∧ f ≤ 602) no2 no2 no1 no1 no1 st st'
def nodeI (f : Nat) : Prop := f = 800 ∨ f = 1100 ∨ f = 1200
def nodeR (f : Nat) : Prop := f = 900 ∨ f = 1000 ∨ f = 1201 ∨ f = 1202 ∨ f = 100
/-- nodes stay -/
def Nx (st st2 : hk_St) : Prop := hk_nx st ≤ hk_nx st2 ∧ (∀ a, a < hk_nx st → hk_k st2 a = hk_k st a) ∧ (∀ f a, a < hk_nx st → nodeI f → hk_fI st2 f a = hk_fI st f a) ∧ (∀ f a, a < hk_nx st → nodeR f → hk_fR st2 f a = hk_fR st f a)
theorem Nx.rf {st : hk_St} : Nx st st := ⟨Nat.le_refl _, fun _ _ => rfl, fun _ _ _ _ => rfl, fun _ _ _ _ => rfl⟩
theorem Nx.trans {st st1 st2 : hk_St} (h : Nx st st1) (k : Nx st1 st2) : Nx st st2 :=
  ⟨Nat.le_trans h.1 k.1, fun a ha => (k.2.1 a (Nat.lt_of_lt_of_le ha h.1)).trans (h.2.1 a ha), fun f a ha hf => (k.2.2.1 f a (Nat.lt_of_lt_of_le ha h.1) hf).trans (h.2.2.1 f a ha hf), fun f a ha hf => (k.2.2.2 f a (Nat.lt_of_lt_of_le ha h.1) hf).trans (h.2.2.2 f a ha hf)⟩
theorem Fr.nx {pI pL pR : Nat → Nat → Prop} {pA pB pO : Nat → Prop} {st st1 : hk_St} (h : Fr pI pL pR pA pB pO st st1) (h1 : ∀ f a, pI f a → ¬ nodeI f) (h2 : ∀ f a, pR f a → ¬ nodeR f) : Nx st st1 :=
  ⟨h.1, h.2.1, fun f a ha hf => h.2.2.1 f a ha (fun q => h1 f a q hf), fun f a ha hf => h.2.2.2.2.1 f a ha (fun q => h2 f a q hf)⟩
theorem FrR.nx {rd : Nat} {st st1 : hk_St} (h : FrR rd st st1) : Nx st st1 := Fr.nx h (fun f a q hf => by unfold nodeI at hf; omega) (fun _ _ q => q.elim)
def FcS (x : Nat) (st : hk_St) : Prop := hk_k st (x + 4) = some (1, 0) ∧ hk_fR st 100 (x + 4) = some (x + 5) ∧ hk_k st (x + 5) = some (100, 128)
theorem FcS.nx {x : Nat} {st st1 : hk_St} (h : FcS x st) (hw : Wp st) (k : Nx st st1) : FcS x st1 :=
  ⟨(k.2.1 _ (hw.lt h.1)).trans h.1, (k.2.2.2 _ _ (hw.lt h.1) (Or.inr (Or.inr (Or.inr (Or.inr rfl))))).trans h.2.1, (k.2.1 _ (hw.lt h.2.2)).trans h.2.2⟩
abbrev qF : Type := (Nat → Int32) → Int32
/-- the names alone -/
def nrm (N : Nat → Int32) (c : Nat) : Int32 := if (opL 3).contains c = true then N c else 0
/-- a node and what it answers -/
def NdE (x : Nat) (st : hk_St) (nd D : Nat) (f : qF) : Prop := nd < hk_nx st ∧ ∀ d, D ≤ d → ∀ st2, Nx st st2 → g_V d nd (x + 4) st2 = some (f (nrm (hk_aI st2 (x + 5))))
theorem NdE.nx {x nd D D' : Nat} {f : qF} {st st1 : hk_St} (h : NdE x st nd D f) (k : Nx st st1) (hD : D ≤ D') : NdE x st1 nd D' f :=
  ⟨Nat.lt_of_lt_of_le h.1 k.1, fun d hd st2 k2 => h.2 d (by omega) st2 (k.trans k2)⟩
/-- what a pair of two makes -/
def pv (c : Nat) (a b : Int32) : Int32 :=
  if c = 37 then (if b = 0 then 0 else if b = -1 then 0 else a - a / b * b)
  else if c = 38 then (if a = 0 then 0 else if b = 0 then 0 else 1)
  else if c = 42 then a * b
  else if c = 43 then a + b
  else if c = 45 then a - b
  else if c = 47 then (if b = 0 then 0 else if b = -1 then -a else a / b)
  else if c = 60 then (if b ≤ a then 0 else 1)
  else if c = 61 then (if a = b then 1 else 0)
  else if c = 62 then (if a ≤ b then 0 else 1)
  else (if a = 0 then (if b = 0 then 0 else 1) else 1)
section S2C
variable {x rd n p o : Nat} {B : Nat → Nat} {st : hk_St} {fl : Int32}
theorem RdS.hB (R : RdS x rd n B p fl o st) : ∀ i, i < n → B i < 256 := fun i hi => (R.1.2.2.2.2.2 i hi).1
theorem RdS.bf (R : RdS x rd n B p fl o st) : hk_bf [6] st rd = true := bf_k R.2.1
theorem c_here (R : RdS x rd n B p fl o st) : xReader_here rd st = some (hv B n p) := by
  obtain ⟨⟨T1, T2, T3, T4, T5, T6⟩, R1, R2, R3, R4, R5, R6⟩ := R
  simp only [xReader_here, gI_b (bf_k R1), gR_b (bf_k R1), R3, R2, hz_ob, hz_nn, gI_b (bf_k T1), gR_b (bf_k T1), T2, T3]
  by_cases h : p < n
  · rw [if_neg (nI_ge h (by omega)), lI_k (ty := 1) T4 (show p < 120 by omega) (by decide), hz_ob, (T6 p h).2, hv, if_pos h]
  · rw [if_pos (nI_le (by omega) (by omega)), hv, if_neg h]
theorem c_isOne (R : RdS x rd n B p fl o st) {k : Nat} (hk : k < 4) : xReader_isOne rd k st = some (if (opL k).contains (chr B n p) = true then (1 : Int32) else 0) := by
  have h0 : (opL k).contains 0 = false := by
    have : k = 0 ∨ k = 1 ∨ k = 2 ∨ k = 3 := by omega
    rcases this with rfl | rfl | rfl | rfl <;> decide
  have hh : ∀ c, 128 ≤ c → (opL k).contains c = false := by
    intro c hc
    have : k = 0 ∨ k = 1 ∨ k = 2 ∨ k = 3 := by omega
    rcases this with rfl | rfl | rfl | rfl <;> simp [opL] <;> omega
  simp only [xReader_isOne, c_here R, hz_ob, hz_gd, R.bf, if_true]
  rcases hv_cases R.hB (p := p) with ⟨h1, h2⟩ | ⟨h1, h2⟩
  · rw [if_pos h1]
    rcases h2 with h2 | h2
    · rw [h2, h0]; rfl
    · rw [hh _ h2]; rfl
  · rw [h2, if_neg (nI_pos (by omega))]
    have ht := idx_tab k hk _ h1
    cases he : jjJ0_indexOf k (nI (chr B n p)) with
    | none => rw [he] at ht; cases ht
    | some r =>
      rw [he] at ht
      simp only [Option.map_some, Option.some.injEq] at ht
      simp only [hz_ob]
      by_cases hr : r < 0
      · rw [if_pos hr]
        rw [decide_eq_true hr] at ht
        cases hc : (opL k).contains (chr B n p) with
        | true => rw [hc] at ht; cases ht
        | false => rfl
      · rw [if_neg hr]
        rw [decide_eq_false hr] at ht
        cases hc : (opL k).contains (chr B n p) with
        | false => rw [hc] at ht; cases ht
        | true => rfl
theorem RdS.at (R : RdS x rd n B p fl o st) {q : Nat} (hq : q ≤ n) (hne : rd ≠ x) : RdS x rd n B q fl o (hk_sfI st 600 rd (nI q)) := by
  obtain ⟨⟨T1, T2, T3, T4, T5, T6⟩, R1, R2, R3, R4, R5, R6⟩ := R
  refine ⟨⟨T1, ?_, T3, T4, T5, T6⟩, R1, R2, ?_, ?_, ?_, hq⟩
  · rw [fI_sfI, if_neg (fun q => absurd q.1 (by decide))]; exact T2
  · rw [fI_sfI, if_pos ⟨rfl, rfl⟩]
  · rw [fI_sfI, if_neg (fun q => absurd q.1 (by decide))]; exact R4
  · rw [fI_sfI, if_neg (fun q => absurd q.1 (by decide))]; exact R5
theorem RdS.fault (R : RdS x rd n B p fl o st) {v : Int32} : RdS x rd n B p v o (hk_sfI st 601 rd v) := by
  obtain ⟨⟨T1, T2, T3, T4, T5, T6⟩, R1, R2, R3, R4, R5, R6⟩ := R
  refine ⟨⟨T1, ?_, T3, T4, T5, T6⟩, R1, R2, ?_, ?_, ?_, R6⟩
  · rw [fI_sfI, if_neg (fun q => absurd q.1 (by decide))]; exact T2
  · rw [fI_sfI, if_neg (fun q => absurd q.1 (by decide))]; exact R3
  · rw [fI_sfI, if_pos ⟨rfl, rfl⟩]
  · rw [fI_sfI, if_neg (fun q => absurd q.1 (by decide))]; exact R5
theorem RdS.opn (R : RdS x rd n B p fl o st) {q : Nat} : RdS x rd n B p fl q (hk_sfI st 602 rd (nI q)) := by
  obtain ⟨⟨T1, T2, T3, T4, T5, T6⟩, R1, R2, R3, R4, R5, R6⟩ := R
  refine ⟨⟨T1, ?_, T3, T4, T5, T6⟩, R1, R2, ?_, ?_, ?_, R6⟩
  · rw [fI_sfI, if_neg (fun q => absurd q.1 (by decide))]; exact T2
  · rw [fI_sfI, if_neg (fun q => absurd q.1 (by decide))]; exact R3
  · rw [fI_sfI, if_neg (fun q => absurd q.1 (by decide))]; exact R4
  · rw [fI_sfI, if_pos ⟨rfl, rfl⟩]
theorem RdS.nn (R : RdS x rd n B p fl o st) : rd ≠ x := fun q => by
  have h1 := R.2.1
  rw [q, R.1.1] at h1
  cases h1
/-- reading through a new thing that is made -/
theorem RdS.mk (R : RdS x rd n B p fl o st) (hw : Wp st) {t len sl : Nat} : RdS x rd n B p fl o (hk_mk st t len sl) := by
  obtain ⟨⟨T1, T2, T3, T4, T5, T6⟩, R1, R2, R3, R4, R5, R6⟩ := R
  refine ⟨⟨?_, ?_, ?_, ?_, T5, fun i hi => ⟨(T6 i hi).1, ?_⟩⟩, ?_, ?_, ?_, ?_, ?_, R6⟩
  · rw [k_mk, if_neg (hw.nn T1)]; exact T1
  · rw [fI_mk, if_neg (hw.nn T1)]; exact T2
  · rw [fR_mk, if_neg (hw.nn T1)]; exact T3
  · rw [k_mk, if_neg (hw.nn T4)]; exact T4
  · rw [aI_mk, if_neg (hw.nn T4)]; exact (T6 i hi).2
  · rw [k_mk, if_neg (hw.nn R1)]; exact R1
  · rw [fR_mk, if_neg (hw.nn R1)]; exact R2
  · rw [fI_mk, if_neg (hw.nn R1)]; exact R3
  · rw [fI_mk, if_neg (hw.nn R1)]; exact R4
  · rw [fI_mk, if_neg (hw.nn R1)]; exact R5
theorem RdS.oI (R : RdS x rd n B p fl o st) {f a : Nat} {v : Int32} (hf : f = 800 ∨ f = 1100 ∨ f = 1200) : RdS x rd n B p fl o (hk_sfI st f a v) := by
  obtain ⟨⟨T1, T2, T3, T4, T5, T6⟩, R1, R2, R3, R4, R5, R6⟩ := R
  refine ⟨⟨T1, ?_, T3, T4, T5, T6⟩, R1, R2, ?_, ?_, ?_, R6⟩
  · rw [fI_sfI, if_neg (by omega)]; exact T2
  · rw [fI_sfI, if_neg (by omega)]; exact R3
  · rw [fI_sfI, if_neg (by omega)]; exact R4
  · rw [fI_sfI, if_neg (by omega)]; exact R5
theorem RdS.oR (R : RdS x rd n B p fl o st) {f a : Nat} {v : Option Nat} (hf : f = 900 ∨ f = 1000 ∨ f = 1201 ∨ f = 1202 ∨ f = 700 ∨ f = 701 ∨ f = 702) : RdS x rd n B p fl o (hk_sfR st f a v) := by
  obtain ⟨⟨T1, T2, T3, T4, T5, T6⟩, R1, R2, R3, R4, R5, R6⟩ := R
  refine ⟨⟨T1, T2, ?_, T4, T5, T6⟩, R1, ?_, R3, R4, R5, R6⟩
  · rw [fR_sfR, if_neg (by omega)]; exact T3
  · rw [fR_sfR, if_neg (by omega)]; exact R2
end S2C
