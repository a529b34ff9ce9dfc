set_option maxRecDepth 100000
/-! ===== STAGE 2: the class's Acts object as a state of its own ===== -/
/-- fields 206 .. 209, 212 (many, kept, seconds, most, isFirst) as 6 .. 9, 12; 210, 211 (running, scale) as 10, 11; arrays sort, length, held as 0, 1, 2; makes, slips, scales, rows as 0 .. 3; the head -/
abbrev hk_U : Type := (Nat → Int32) × (Nat → Int64) × (Nat → Nat → Int32) × (Nat → Nat → Int64) × Option Nat
def uI (u : hk_U) (f : Nat) : Int32 := u.1 f
def uL (u : hk_U) (f : Nat) : Int64 := u.2.1 f
def uA (u : hk_U) (j i : Nat) : Int32 := u.2.2.1 j i
def uB (u : hk_U) (j i : Nat) : Int64 := u.2.2.2.1 j i
def uH (u : hk_U) : Option Nat := u.2.2.2.2
def uI_ (u : hk_U) (f : Nat) (v : Int32) : hk_U := (fun g => if g = f then v else u.1 g, u.2)
def uL_ (u : hk_U) (f : Nat) (v : Int64) : hk_U := (u.1, fun g => if g = f then v else u.2.1 g, u.2.2)
def uA_ (u : hk_U) (j i : Nat) (v : Int32) : hk_U := (u.1, u.2.1, hk_u2 u.2.2.1 j i v, u.2.2.2)
def uB_ (u : hk_U) (j i : Nat) (v : Int64) : hk_U := (u.1, u.2.1, u.2.2.1, hk_u2 u.2.2.2.1 j i v, u.2.2.2.2)
def uH_ (u : hk_U) (h : Option Nat) : hk_U := (u.1, u.2.1, u.2.2.1, u.2.2.2.1, h)
def hk_aU (ac : Nat) (st : hk_St) (u : hk_U) : hk_St :=
  (st.1, fun f a => if a = ac ∧ 200 ≤ f ∧ f < 216 then u.1 (f - 200) else st.2.1 f a, fun f a => if a = ac ∧ 200 ≤ f ∧ f < 216 then u.2.1 (f - 200) else st.2.2.1 f a,
   fun f a => if f = 213 ∧ a = ac then u.2.2.2.2 else st.2.2.2.1 f a,
   fun a i => if ac < a ∧ a ≤ ac + 3 then u.2.2.1 (a - (ac + 1)) i else st.2.2.2.2.1 a i, fun a i => if ac + 3 < a ∧ a ≤ ac + 7 then u.2.2.2.1 (a - (ac + 4)) i else st.2.2.2.2.2.1 a i, st.2.2.2.2.2.2)
def hk_KA (ac : Nat) (st : hk_St) : Prop := hk_k st ac = some (2, 0) ∧ (∀ j, j < 3 → hk_k st (ac + (j + 1)) = some (100, 120)) ∧ (∀ j, j < 3 → hk_k st (ac + (j + 4)) = some (104, 120)) ∧ hk_k st (ac + 7) = some (104, 6) ∧
  (∀ j, j < 6 → hk_fR st (200 + j) ac = some (ac + (if j < 3 then j + 1 else j + 1))) ∧ hk_fR st 214 ac = some (ac + 7)
section S2A
variable {ac : Nat} {st : hk_St} {u : hk_U}
theorem hk_aU_k : hk_k (hk_aU ac st u) = hk_k st := rfl
theorem hk_aU_nx : hk_nx (hk_aU ac st u) = hk_nx st := rfl
theorem hk_aU_nc : hk_nc (hk_aU ac st u) = hk_nc st := rfl
theorem hk_aU_ns : hk_ns (hk_aU ac st u) = hk_ns st := rfl
theorem hk_KA.bf (K : hk_KA ac st) : hk_bf [2] (hk_aU ac st u) ac = true := by
  have : hk_k (hk_aU ac st u) ac = some (2, 0) := K.1
  simp [hk_bf, this]
theorem aU_gI (K : hk_KA ac st) (f : Nat) (hf : f < 16 := by decide) : hk_gI [2] (200 + f) (hk_aU ac st u) ac = some (uI u f) := by
  rw [hk_gI, if_pos K.bf]
  have h2 : ac = ac ∧ 200 ≤ 200 + f ∧ 200 + f < 216 := ⟨rfl, by omega, by omega⟩
  show some (if ac = ac ∧ 200 ≤ 200 + f ∧ 200 + f < 216 then _ else _) = _
  rw [if_pos h2, Nat.add_sub_cancel_left]; rfl
theorem aU_gL (K : hk_KA ac st) (f : Nat) (hf : f < 16 := by decide) : hk_gL [2] (200 + f) (hk_aU ac st u) ac = some (uL u f) := by
  rw [hk_gL, if_pos K.bf]
  have h2 : ac = ac ∧ 200 ≤ 200 + f ∧ 200 + f < 216 := ⟨rfl, by omega, by omega⟩
  show some (if ac = ac ∧ 200 ≤ 200 + f ∧ 200 + f < 216 then _ else _) = _
  rw [if_pos h2, Nat.add_sub_cancel_left]; rfl
theorem aU_gR (K : hk_KA ac st) {j : Nat} (hj : j < 6) : hk_gR [2] (200 + j) (hk_aU ac st u) ac = some (some (ac + (j + 1))) := by
  rw [hk_gR, if_pos K.bf]
  have h1 := K.2.2.2.2.1 j hj
  have h2 : ¬ 200 + j = 213 := by omega
  have h3 : hk_fR (hk_aU ac st u) (200 + j) ac = hk_fR st (200 + j) ac := by simp [hk_fR, hk_aU, h2]
  rw [h3, h1]
  split <;> rfl
theorem aU_gRr (K : hk_KA ac st) : hk_gR [2] 214 (hk_aU ac st u) ac = some (some (ac + 7)) := by
  rw [hk_gR, if_pos K.bf]
  exact congrArg some K.2.2.2.2.2
theorem aU_gH (K : hk_KA ac st) : hk_gR [2] 213 (hk_aU ac st u) ac = some (uH u) := by
  rw [hk_gR, if_pos K.bf]
  simp [hk_fR, hk_aU, uH]
theorem aU_pI (K : hk_KA ac st) (f : Nat) (v : Int32) (hf : f < 16 := by decide) : hk_pI [2] (200 + f) (hk_aU ac st u) ac v = some (hk_aU ac st (uI_ u f v)) := by
  rw [hk_pI, if_pos K.bf]
  unfold hk_sfI hk_aU uI_ hk_u2
  simp only [Option.some.injEq, Prod.mk.injEq, true_and, and_true]
  funext g a
  by_cases h1 : a = ac ∧ 200 ≤ g ∧ g < 216
  · rw [if_pos h1, if_pos h1]
    by_cases h3 : g = 200 + f
    · rw [if_pos ⟨h3, h1.1⟩, if_pos (by omega)]
    · rw [if_neg (fun q => h3 q.1), if_neg (by omega)]
  · rw [if_neg (fun q => h1 ⟨q.2, by omega, by omega⟩), if_neg h1, if_neg h1]
theorem aU_pL (K : hk_KA ac st) (f : Nat) (v : Int64) (hf : f < 16 := by decide) : hk_pL [2] (200 + f) (hk_aU ac st u) ac v = some (hk_aU ac st (uL_ u f v)) := by
  rw [hk_pL, if_pos K.bf]
  unfold hk_sfL hk_aU uL_ hk_u2
  simp only [Option.some.injEq, Prod.mk.injEq, true_and, and_true]
  funext g a
  by_cases h1 : a = ac ∧ 200 ≤ g ∧ g < 216
  · rw [if_pos h1, if_pos h1]
    by_cases h3 : g = 200 + f
    · rw [if_pos ⟨h3, h1.1⟩, if_pos (by omega)]
    · rw [if_neg (fun q => h3 q.1), if_neg (by omega)]
  · rw [if_neg (fun q => h1 ⟨q.2, by omega, by omega⟩), if_neg h1, if_neg h1]
theorem aU_pH (K : hk_KA ac st) (v : Option Nat) : hk_pR [2] 213 (hk_aU ac st u) ac v = some (hk_aU ac st (uH_ u v)) := by
  rw [hk_pR, if_pos K.bf]
  unfold hk_sfR hk_aU uH_ hk_u2
  simp only [Option.some.injEq, Prod.mk.injEq, true_and, and_true]
  funext g a
  by_cases h1 : g = 213 ∧ a = ac
  · simp [h1]
  · simp [h1]
theorem hk_in_nI {n N : Nat} (h : n < N) (hN : N < 2 ^ 31) : hk_in (nI n) N = true := by
  have h1 := nI_pos (n := n) (by omega)
  have h2 := nI_clamp (n := n) (by omega)
  simp [hk_in, h1, h2, h]
theorem aU_tI (K : hk_KA ac st) {j n : Nat} (hj : j < 3) (hn : n < 120) (v : Int32) : hk_tI 0 (hk_aU ac st u) (ac + (j + 1)) (nI n) v = some (hk_aU ac st (uA_ u j n v)) := by
  have hk : hk_k (hk_aU ac st u) (ac + (j + 1)) = some (100, 120) := K.2.1 j hj
  have hb : hk_ba 0 (hk_aU ac st u) (ac + (j + 1)) (nI n) = true := by simp [hk_ba, hk, hk_in_nI hn (by decide)]
  rw [hk_tI, if_pos hb, nI_clamp (by omega)]
  unfold hk_saI hk_aU uA_ hk_u2 hk_nar
  simp only [Option.some.injEq, Prod.mk.injEq, true_and, and_true]
  funext a i
  by_cases h1 : ac < a ∧ a ≤ ac + 3
  · by_cases h2 : a = ac + (j + 1)
    · subst h2
      have : ac + (j + 1) - (ac + 1) = j := by omega
      simp [h1, this]
    · have : ¬ a - (ac + 1) = j := by omega
      simp [h1, h2, this]
  · have : ¬ a = ac + (j + 1) := by omega
    simp [h1, this]
theorem aU_lI (K : hk_KA ac st) {j n : Nat} (hj : j < 3) (hn : n < 120) : hk_lI 0 (hk_aU ac st u) (ac + (j + 1)) (nI n) = some (uA u j n) := by
  have hk : hk_k (hk_aU ac st u) (ac + (j + 1)) = some (100, 120) := K.2.1 j hj
  have hb : hk_ba 0 (hk_aU ac st u) (ac + (j + 1)) (nI n) = true := by simp [hk_ba, hk, hk_in_nI hn (by decide)]
  rw [hk_lI, if_pos hb, nI_clamp (by omega)]
  have h1 : ac < ac + (j + 1) ∧ ac + (j + 1) ≤ ac + 3 := by omega
  have h2 : ac + (j + 1) - (ac + 1) = j := by omega
  simp [hk_aI, hk_aU, uA, h1, h2]
theorem aU_tL (K : hk_KA ac st) {j n : Nat} (hj : j < 3) (hn : n < 120) (v : Int64) : hk_tL (hk_aU ac st u) (ac + (j + 4)) (nI n) v = some (hk_aU ac st (uB_ u j n v)) := by
  have hk : hk_k (hk_aU ac st u) (ac + (j + 4)) = some (104, 120) := K.2.2.1 j hj
  have hb : hk_ba 4 (hk_aU ac st u) (ac + (j + 4)) (nI n) = true := by simp [hk_ba, hk, hk_in_nI hn (by decide)]
  rw [hk_tL, if_pos hb, nI_clamp (by omega)]
  unfold hk_saL hk_aU uB_ hk_u2
  simp only [Option.some.injEq, Prod.mk.injEq, true_and, and_true]
  funext a i
  by_cases h1 : ac + 3 < a ∧ a ≤ ac + 7
  · by_cases h2 : a = ac + (j + 4)
    · subst h2
      have : ac + (j + 4) - (ac + 4) = j := by omega
      simp [h1, this]
    · have : ¬ a - (ac + 4) = j := by omega
      simp [h1, h2, this]
  · have : ¬ a = ac + (j + 4) := by omega
    simp [h1, this]
theorem aU_lL (K : hk_KA ac st) {j n : Nat} (hj : j < 3) (hn : n < 120) : hk_lL (hk_aU ac st u) (ac + (j + 4)) (nI n) = some (uB u j n) := by
  have hk : hk_k (hk_aU ac st u) (ac + (j + 4)) = some (104, 120) := K.2.2.1 j hj
  have hb : hk_ba 4 (hk_aU ac st u) (ac + (j + 4)) (nI n) = true := by simp [hk_ba, hk, hk_in_nI hn (by decide)]
  rw [hk_lL, if_pos hb, nI_clamp (by omega)]
  have h1 : ac + 3 < ac + (j + 4) ∧ ac + (j + 4) ≤ ac + 7 := by omega
  have h2 : ac + (j + 4) - (ac + 4) = j := by omega
  simp [hk_aL, hk_aU, uB, h1, h2]
theorem aU_tLr (K : hk_KA ac st) {n : Nat} (hn : n < 6) (v : Int64) : hk_tL (hk_aU ac st u) (ac + 7) (nI n) v = some (hk_aU ac st (uB_ u 3 n v)) := by
  have hk : hk_k (hk_aU ac st u) (ac + 7) = some (104, 6) := K.2.2.2.1
  have hb : hk_ba 4 (hk_aU ac st u) (ac + 7) (nI n) = true := by simp [hk_ba, hk, hk_in_nI hn (by decide)]
  rw [hk_tL, if_pos hb, nI_clamp (by omega)]
  unfold hk_saL hk_aU uB_ hk_u2
  simp only [Option.some.injEq, Prod.mk.injEq, true_and, and_true]
  funext a i
  by_cases h1 : ac + 3 < a ∧ a ≤ ac + 7
  · by_cases h2 : a = ac + 7
    · subst h2
      have : ac + 7 - (ac + 4) = 3 := by omega
      simp [this]
    · have : ¬ a - (ac + 4) = 3 := by omega
      simp [h1, h2, this]
  · have : ¬ a = ac + 7 := by omega
    simp [h1, this]
theorem aU_lLr (K : hk_KA ac st) {n : Nat} (hn : n < 6) : hk_lL (hk_aU ac st u) (ac + 7) (nI n) = some (uB u 3 n) := by
  have hk : hk_k (hk_aU ac st u) (ac + 7) = some (104, 6) := K.2.2.2.1
  have hb : hk_ba 4 (hk_aU ac st u) (ac + 7) (nI n) = true := by simp [hk_ba, hk, hk_in_nI hn (by decide)]
  rw [hk_lL, if_pos hb, nI_clamp (by omega)]
  have h2 : ac + 7 - (ac + 4) = 3 := by omega
  simp [hk_aL, hk_aU, uB, h2]
-- reads over writes
theorem uI_I {w : hk_U} {f g : Nat} {x : Int32} : uI (uI_ w f x) g = if g = f then x else uI w g := rfl
theorem uI_L {w : hk_U} {f g : Nat} {x : Int64} : uI (uL_ w f x) g = uI w g := rfl
theorem uI_A {w : hk_U} {j i g : Nat} {x : Int32} : uI (uA_ w j i x) g = uI w g := rfl
theorem uI_B {w : hk_U} {j i g : Nat} {x : Int64} : uI (uB_ w j i x) g = uI w g := rfl
theorem uI_H {w : hk_U} {g : Nat} {x : Option Nat} : uI (uH_ w x) g = uI w g := rfl
theorem uL_I {w : hk_U} {f g : Nat} {x : Int32} : uL (uI_ w f x) g = uL w g := rfl
theorem uL_L {w : hk_U} {f g : Nat} {x : Int64} : uL (uL_ w f x) g = if g = f then x else uL w g := rfl
theorem uL_A {w : hk_U} {j i g : Nat} {x : Int32} : uL (uA_ w j i x) g = uL w g := rfl
theorem uL_B {w : hk_U} {j i g : Nat} {x : Int64} : uL (uB_ w j i x) g = uL w g := rfl
theorem uL_H {w : hk_U} {g : Nat} {x : Option Nat} : uL (uH_ w x) g = uL w g := rfl
theorem uH_I {w : hk_U} {f : Nat} {x : Int32} : uH (uI_ w f x) = uH w := rfl
theorem uH_L {w : hk_U} {f : Nat} {x : Int64} : uH (uL_ w f x) = uH w := rfl
theorem uH_A {w : hk_U} {j i : Nat} {x : Int32} : uH (uA_ w j i x) = uH w := rfl
theorem uH_B {w : hk_U} {j i : Nat} {x : Int64} : uH (uB_ w j i x) = uH w := rfl
theorem uH_H {w : hk_U} {x : Option Nat} : uH (uH_ w x) = x := rfl
theorem uA_I {w : hk_U} {f j i : Nat} {x : Int32} : uA (uI_ w f x) j i = uA w j i := rfl
theorem uA_L {w : hk_U} {f j i : Nat} {x : Int64} : uA (uL_ w f x) j i = uA w j i := rfl
theorem uA_A {w : hk_U} {j i j2 i2 : Nat} {x : Int32} : uA (uA_ w j i x) j2 i2 = if j2 = j ∧ i2 = i then x else uA w j2 i2 := rfl
theorem uA_B {w : hk_U} {j i j2 i2 : Nat} {x : Int64} : uA (uB_ w j i x) j2 i2 = uA w j2 i2 := rfl
theorem uA_H {w : hk_U} {j i : Nat} {x : Option Nat} : uA (uH_ w x) j i = uA w j i := rfl
theorem uB_I {w : hk_U} {f j i : Nat} {x : Int32} : uB (uI_ w f x) j i = uB w j i := rfl
theorem uB_L {w : hk_U} {f j i : Nat} {x : Int64} : uB (uL_ w f x) j i = uB w j i := rfl
theorem uB_A {w : hk_U} {j i j2 i2 : Nat} {x : Int32} : uB (uA_ w j i x) j2 i2 = uB w j2 i2 := rfl
theorem uB_B {w : hk_U} {j i j2 i2 : Nat} {x : Int64} : uB (uB_ w j i x) j2 i2 = if j2 = j ∧ i2 = i then x else uB w j2 i2 := rfl
theorem uB_H {w : hk_U} {j i : Nat} {x : Option Nat} : uB (uH_ w x) j i = uB w j i := rfl
/-- one more act, as Acts.act lays it -/
def uAct (u : hk_U) (n : Nat) (so : Int32) (v : Int64) (lo : Int32) (sl : Int64) (he : Int32) : hk_U :=
  uI_ (uI_ (uI_ (uA_ (uB_ (uB_ (uA_ (uB_ (uA_ u 0 n so) 0 n v) 1 n lo) 1 n sl) 2 n (uL u 11)) 2 n he) 8 (uI u 8 + lo)) 9 (j_max_i (uI u 9) he)) 6 (nI (n + 1))
theorem qx_act {n r : Nat} {so lo : Int32} {v sl : Int64} (K : hk_KA ac st) (hn : n < 120) (hm : uI u 6 = nI n) (hr : uL u 10 = lN r) (hr2 : r < 2 ^ 63) :
    xActs_act ac so v lo sl (hk_aU ac st u) = some (hk_aU ac st (uAct u n so v lo sl (uI u 7 + nI (nd r)))) := by
  have g6 := fun u => aU_gI (u := u) K 6
  have g7 := fun u => aU_gI (u := u) K 7
  have g8 := fun u => aU_gI (u := u) K 8
  have g9 := fun u => aU_gI (u := u) K 9
  have gA := fun u => aU_gL (u := u) K 10
  have gB := fun u => aU_gL (u := u) K 11
  have p6 := fun u => aU_pI (u := u) K 6
  have p8 := fun u => aU_pI (u := u) K 8
  have p9 := fun u => aU_pI (u := u) K 9
  have r0 := fun u => aU_gR (u := u) K (j := 0) (by decide)
  have r1 := fun u => aU_gR (u := u) K (j := 1) (by decide)
  have r2 := fun u => aU_gR (u := u) K (j := 2) (by decide)
  have r3 := fun u => aU_gR (u := u) K (j := 3) (by decide)
  have r4 := fun u => aU_gR (u := u) K (j := 4) (by decide)
  have r5 := fun u => aU_gR (u := u) K (j := 5) (by decide)
  have t0 := fun u => aU_tI (u := u) K (j := 0) (n := n) (by decide) hn
  have t1 := fun u => aU_tI (u := u) K (j := 1) (n := n) (by decide) hn
  have t2 := fun u => aU_tI (u := u) K (j := 2) (n := n) (by decide) hn
  have l2 := fun u => aU_lI (u := u) K (j := 2) (n := n) (by decide) hn
  have b0 := fun u => aU_tL (u := u) K (j := 0) (n := n) (by decide) hn
  have b1 := fun u => aU_tL (u := u) K (j := 1) (n := n) (by decide) hn
  have b2 := fun u => aU_tL (u := u) K (j := 2) (n := n) (by decide) hn
  simp only [Nat.add_zero, Nat.reduceAdd] at g6 g7 g8 g9 gA gB p6 p8 p9 r0 r1 r2 r3 r4 r5 t0 t1 t2 l2 b0 b1 b2
  have e7 : ∀ (w : hk_U) j i x, uA (uA_ w j i x) j i = x := fun _ _ _ _ => by simp [uA, uA_, hk_u2]
  have e8 : (8 : Nat) ≠ 9 := by decide
  by_cases h0 : r = 0
  · subst h0
    simp only [xActs_act, hk_nm, hk_nn, Option.bind_some, g6, g7, g8, g9, gA, gB, p6, p8, p9, r0, r1, r2, r3, r4, r5, t0, t1, t2, l2, b0, b1, b2, hm, hr, uI_A, uI_B, uL_A, uL_B, uA_I, uI_I, e7, if_true,
      Nat.reduceEqDiff, if_false, show lN 0 = (0 : Int64) from rfl, nI_1, nd_0]
    rfl
  · have hr3 : ¬ lN r = (0 : Int64) := fun q => h0 ((pk_lEQ hr2 (by decide)).mp q)
    simp only [xActs_act, hk_nm, hk_nn, Option.bind_some, g6, g7, g8, g9, gA, gB, p6, p8, p9, r0, r1, r2, r3, r4, r5, t0, t1, t2, l2, b0, b1, b2, hm, hr, uI_A, uI_B, uL_A, uL_B, uA_I, uI_I, e7, if_true,
      Nat.reduceEqDiff, if_false, hr3, ll_sizeOf hr2, ns1_pos h0, nI_1]
    rfl
end S2A
