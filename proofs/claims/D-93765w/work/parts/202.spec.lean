set_option maxRecDepth 100000
/-! ===== STAGE 2: acts laid one behind the other, as numbers ===== -/
/-- an act: sort, what it makes, length, slip, place, what is held -/
abbrev qA : Type := Nat × Nat × Nat × Nat × Nat × Nat
def aSo (r : qA) : Nat := r.1
def aV (r : qA) : Nat := r.2.1
def aLe (r : qA) : Nat := r.2.2.1
def aSl (r : qA) : Nat := r.2.2.2.1
def aPl (r : qA) : Nat := r.2.2.2.2.1
def aHe (r : qA) : Nat := r.2.2.2.2.2
/-- acts, kept, running, place, whether the next look is a first one -/
abbrev qS : Type := List qA × Nat × Nat × Nat × Bool
def sA (A : qS) : List qA := A.1
def sK (A : qS) : Nat := A.2.1
def sR (A : qS) : Nat := A.2.2.1
def sP (A : qS) : Nat := A.2.2.2.1
def sF (A : qS) : Bool := A.2.2.2.2
def sK_ (A : qS) (k : Nat) : qS := (A.1, k, A.2.2)
def sR_ (A : qS) (r : Nat) : qS := (A.1, A.2.1, r, A.2.2.2)
def sP_ (A : qS) (p : Nat) : qS := (A.1, A.2.1, A.2.2.1, p, A.2.2.2.2)
def sF_ (A : qS) (f : Bool) : qS := (A.1, A.2.1, A.2.2.1, A.2.2.2.1, f)
def qAct (so v le sl : Nat) (A : qS) : qS := (sA A ++ [(so, v, le, sl, sP A, sK A + nd (sR A))], A.2)
def qSecs : List qA → Nat
  | [] => 0
  | r :: l => aLe r + qSecs l
def qMost : List qA → Nat
  | [] => 0
  | r :: l => max (aHe r) (qMost l)
theorem qSecs_ap (r : qA) : ∀ l, qSecs (l ++ [r]) = qSecs l + aLe r := by
  intro l
  induction l with
  | nil => simp [qSecs]
  | cons a l ih => simp [qSecs, ih, Nat.add_assoc]
theorem qMost_ap (r : qA) : ∀ l, qMost (l ++ [r]) = max (qMost l) (aHe r) := by
  intro l
  induction l with
  | nil => simp [qMost]
  | cons a l ih => simp [qMost, ih, Nat.max_assoc]
theorem ap_get {α : Type} {l : List α} {x y : α} {i : Nat} (h : (l ++ [x])[i]? = some y) : (i < l.length ∧ l[i]? = some y) ∨ (i = l.length ∧ y = x) := by
  by_cases h1 : i < l.length
  · rw [List.getElem?_append_left h1] at h
    exact Or.inl ⟨h1, h⟩
  · rw [List.getElem?_append_right (by omega)] at h
    by_cases h2 : i = l.length
    · subst h2
      simp at h
      exact Or.inr ⟨rfl, h.symm⟩
    · have h3 : ([x] : List α).length ≤ i - l.length := by simp; omega
      rw [List.getElem?_eq_none h3] at h
      exact absurd h (by simp)
/-- a look, and an add but for the first one -/
def qLook (t : Nat → Nat) (x y w : Nat) (A : qS) : qS :=
  if sF A then sF_ (qAct 0 (x * y * w) (t 0) (min x y * w) (sR_ A (x * y * w))) false
  else qAct 1 (sR A + x * y * w) (t 1 * ns1 (sR A + x * y * w)) 0 (sR_ (qAct 0 (x * y * w) (t 0) (min x y * w) A) (sR A + x * y * w))
def qHold (t : Nat → Nat) (v size : Nat) (A : qS) : qS := qAct 2 v (t 2 * size) 0 (sK_ A (sK A + size))
def qBegin (A : qS) : qS := sF_ (sR_ A 0) true
/-- looks of a list of figures and units -/
def qLooks (t : Nat → Nat) : List (Nat × Nat × Nat) → qS → qS
  | [], A => A
  | p :: l, A => qLooks t l (qLook t p.1 p.2.1 p.2.2 A)
def qSum : List (Nat × Nat × Nat) → Nat
  | [] => 0
  | p :: l => p.1 * p.2.1 * p.2.2 + qSum l
def fg (v i : Nat) : Nat := v / 10 ^ i % 10
def lRow (x b i : Nat) : Nat → List (Nat × Nat × Nat)
  | 0 => []
  | j + 1 => (if fg b j = 0 then [] else [(x, fg b j, 10 ^ (i + j))]) ++ lRow x b i j
def lAll (a b : Nat) : Nat → List (Nat × Nat × Nat)
  | 0 => []
  | i + 1 => (if fg a i = 0 then [] else lRow (fg a i) b i (nd b)) ++ lAll a b i
def qLeft (t : Nat → Nat) (a b : Nat) (A : qS) : qS := qLooks t (lAll a b (nd a)) A
theorem fg_mod (b j : Nat) : b % 10 ^ (j + 1) = fg b j * 10 ^ j + b % 10 ^ j := by
  rw [fg, Nat.pow_succ, Nat.mod_mul, Nat.mul_comm (10 ^ j), Nat.add_comm]
theorem qSum_ap : ∀ l m, qSum (l ++ m) = qSum l + qSum m := by
  intro l m
  induction l with
  | nil => simp [qSum]
  | cons a l ih => simp [qSum, ih, Nat.add_assoc]
theorem lRow_sum (x b i : Nat) : ∀ j, qSum (lRow x b i j) = x * (b % 10 ^ j) * 10 ^ i := by
  intro j
  induction j with
  | zero => simp [lRow, qSum, Nat.mod_one]
  | succ j ih =>
    rw [lRow, qSum_ap, ih, fg_mod]
    by_cases h : fg b j = 0
    · rw [if_pos h, h]; simp [qSum]
    · rw [if_neg h]
      simp only [qSum, Nat.add_zero, Nat.mul_add, Nat.add_mul, Nat.pow_add]
      congr 1
      ac_rfl
theorem nd_mod (b : Nat) : b % 10 ^ nd b = b := Nat.mod_eq_of_lt (nd_lt _ _ (Nat.le_refl _))
theorem lAll_sum (a b : Nat) : ∀ i, qSum (lAll a b i) = a % 10 ^ i * b := by
  intro i
  induction i with
  | zero => simp [lAll, qSum, Nat.mod_one]
  | succ i ih =>
    rw [lAll, qSum_ap, ih, fg_mod]
    by_cases h : fg a i = 0
    · rw [if_pos h, h]; simp [qSum]
    · rw [if_neg h, lRow_sum, nd_mod, Nat.add_mul]
      congr 1
      ac_rfl
theorem lAll_sum1 (a b : Nat) : qSum (lAll a b (nd a)) = a * b := by rw [lAll_sum, nd_mod]
theorem lRow_len (x b i : Nat) : ∀ j, (lRow x b i j).length ≤ j := by
  intro j
  induction j with
  | zero => simp [lRow]
  | succ j ih => rw [lRow, List.length_append]; split <;> simp <;> omega
theorem lAll_len (a b : Nat) : ∀ i, (lAll a b i).length ≤ i * nd b := by
  intro i
  induction i with
  | zero => simp [lAll]
  | succ i ih =>
    rw [lAll, List.length_append, Nat.succ_mul]
    have := lRow_len (fg a i) b i (nd b)
    split
    · simp; omega
    · omega
-- what lies where
theorem qAct_A {so v le sl : Nat} {A : qS} : sA (qAct so v le sl A) = sA A ++ [(so, v, le, sl, sP A, sK A + nd (sR A))] := rfl
theorem qAct_K {so v le sl : Nat} {A : qS} : sK (qAct so v le sl A) = sK A := rfl
theorem qAct_R {so v le sl : Nat} {A : qS} : sR (qAct so v le sl A) = sR A := rfl
theorem qAct_P {so v le sl : Nat} {A : qS} : sP (qAct so v le sl A) = sP A := rfl
theorem qAct_F {so v le sl : Nat} {A : qS} : sF (qAct so v le sl A) = sF A := rfl
/-- sizes that no act passes -/
def qB (A : qS) : Prop := sK A ≤ 19 * (sA A).length ∧ qMost (sA A) ≤ 19 * ((sA A).length + 1) ∧ qSecs (sA A) ≤ 1900 * (sA A).length
theorem qAct_B {so v le sl : Nat} {A : qS} (hk : sK A ≤ 19 * ((sA A).length + 1)) (hm : qMost (sA A) ≤ 19 * ((sA A).length + 1)) (hs : qSecs (sA A) ≤ 1900 * (sA A).length)
    (hl : le ≤ 1900) (hr : sR A < 2 ^ 63) : qB (qAct so v le sl A) := by
  have := nd_63 hr
  unfold qB
  rw [qAct_A, qAct_K, qMost_ap, qSecs_ap, List.length_append, List.length_singleton]
  simp only [aHe, aLe]
  omega
/-- what was added up behind the last beginning -/
def sBs (A : qS) : Nat := if sF A then 0 else sR A
/-- room for n acts more, for N more -/
def qG (A : qS) (n N : Nat) : Prop := qB A ∧ sR A < 2 ^ 31 ∧ (sA A).length + n ≤ 120 ∧ sBs A + N < 2 ^ 31
theorem qG.le {A : qS} {n N n' N' : Nat} (G : qG A n N) (h : n' ≤ n) (h2 : N' ≤ N) : qG A n' N' := ⟨G.1, G.2.1, Nat.le_trans (Nat.add_le_add_left h _) G.2.2.1, Nat.lt_of_le_of_lt (Nat.add_le_add_left h2 _) G.2.2.2⟩
theorem ns1_63 {v : Nat} (hv : v < 2 ^ 63) : ns1 v ≤ 19 := by
  by_cases h : v = 0
  · subst h; simp [ns1, nd_0]
  · rw [ns1_pos h]; exact nd_63 hv
theorem ns1_le {v : Nat} (hv : v < 2 ^ 63) {n : Nat} (hn : n ≤ 100) : n * ns1 v ≤ 1900 := Nat.le_trans (Nat.mul_le_mul hn (ns1_63 hv)) (by decide)
theorem qLook_K {t : Nat → Nat} {x y w : Nat} {A : qS} : sK (qLook t x y w A) = sK A := by
  unfold qLook; split <;> rfl
theorem qLook_P {t : Nat → Nat} {x y w : Nat} {A : qS} : sP (qLook t x y w A) = sP A := by
  unfold qLook; split <;> rfl
theorem qLook_F {t : Nat → Nat} {x y w : Nat} {A : qS} : sF (qLook t x y w A) = false := by
  unfold qLook
  by_cases h : sF A = true
  · rw [if_pos h]; rfl
  · rw [if_neg h]; show sF A = false; simpa using h
theorem qLook_R {t : Nat → Nat} {x y w : Nat} {A : qS} : sR (qLook t x y w A) = sBs A + x * y * w := by
  unfold qLook sBs
  by_cases h : sF A = true
  · rw [if_pos h, if_pos h, Nat.zero_add]; rfl
  · rw [if_neg h, if_neg h]; rfl
theorem qLook_Bs {t : Nat → Nat} {x y w : Nat} {A : qS} : sBs (qLook t x y w A) = sBs A + x * y * w := by
  rw [sBs, qLook_F, if_neg (by decide), qLook_R]
theorem qLook_len {t : Nat → Nat} {x y w : Nat} {A : qS} : (sA (qLook t x y w A)).length ≤ (sA A).length + 2 := by
  unfold qLook
  by_cases h : sF A = true
  · rw [if_pos h]
    show (sA A ++ [_]).length ≤ _
    simp
  · rw [if_neg h]
    show ((sA A ++ [_]) ++ [_]).length ≤ _
    simp
theorem qLook_G {t : Nat → Nat} {x y w n N : Nat} {A : qS} (ht : ∀ i, t i ≤ 99) (G : qG A (n + 2) (x * y * w + N)) : qG (qLook t x y w A) n N := by
  obtain ⟨⟨B1, B2, B3⟩, hr, hn, hs⟩ := G
  have h0 := ht 0
  have hl := qLook_len (t := t) (x := x) (y := y) (w := w) (A := A)
  refine ⟨?_, ?_, ?_, ?_⟩
  · unfold qLook
    by_cases h : sF A = true
    · rw [if_pos h]
      have := qAct_B (so := 0) (v := x * y * w) (le := t 0) (sl := min x y * w) (A := sR_ A (x * y * w)) (by show sK A ≤ 19 * ((sA A).length + 1); omega) B2 B3 (by omega) (by show x * y * w < 2 ^ 63; omega)
      exact this
    · rw [if_neg h]
      rw [sBs, if_neg h] at hs
      have B' := qAct_B (so := 0) (v := x * y * w) (le := t 0) (sl := min x y * w) (A := A) (by omega) B2 B3 (by omega) (by omega)
      refine qAct_B (A := sR_ (qAct 0 (x * y * w) (t 0) (min x y * w) A) (sR A + x * y * w)) ?_ B'.2.1 B'.2.2 (ns1_le (by omega) (by have := ht 1; omega)) ?_
      · have := B'.1
        show sK (qAct 0 (x * y * w) (t 0) (min x y * w) A) ≤ 19 * ((sA (qAct 0 (x * y * w) (t 0) (min x y * w) A)).length + 1)
        omega
      · show sR A + x * y * w < 2 ^ 63
        omega
  · rw [qLook_R]; omega
  · omega
  · rw [qLook_Bs]; omega
theorem qLooks_ap {t : Nat → Nat} : ∀ l m A, qLooks t (l ++ m) A = qLooks t m (qLooks t l A) := by
  intro l
  induction l with
  | nil => intro m A; rfl
  | cons p l ih => intro m A; exact ih m _
theorem qLooks_G {t : Nat → Nat} {n N : Nat} (ht : ∀ i, t i ≤ 99) : ∀ l A, qG A (n + 2 * l.length) (qSum l + N) → qG (qLooks t l A) n N := by
  intro l
  induction l with
  | nil => intro A G; exact G.le (by simp) (by simp [qSum])
  | cons p l ih =>
    intro A G
    refine ih _ (qLook_G (n := n + 2 * l.length) (N := qSum l + N) ht (G.le (by simp; omega) (by simp [qSum]; omega)))
theorem qLooks_K {t : Nat → Nat} : ∀ l A, sK (qLooks t l A) = sK A := by
  intro l
  induction l with
  | nil => intro A; rfl
  | cons p l ih => intro A; rw [qLooks, ih, qLook_K]
theorem qLooks_P {t : Nat → Nat} : ∀ l A, sP (qLooks t l A) = sP A := by
  intro l
  induction l with
  | nil => intro A; rfl
  | cons p l ih => intro A; rw [qLooks, ih, qLook_P]
theorem qLooks_Bs {t : Nat → Nat} : ∀ l A, sBs (qLooks t l A) = sBs A + qSum l := by
  intro l
  induction l with
  | nil => intro A; rfl
  | cons p l ih => intro A; rw [qLooks, ih, qLook_Bs, qSum, Nat.add_assoc]
theorem qLooks_F {t : Nat → Nat} : ∀ l A, l ≠ [] → sF (qLooks t l A) = false := by
  intro l
  induction l with
  | nil => intro A h; exact absurd rfl h
  | cons p l ih =>
    intro A _
    by_cases h : l = []
    · subst h; exact qLook_F
    · exact ih _ h
/-- the counter's power: 0 behind the last one -/
def pw (n : Nat) : Nat := if n = 0 then 0 else 10 ^ (n - 1)
theorem pw_0 : pw 0 = 0 := rfl
theorem pw_s (n : Nat) : pw (n + 1) = 10 ^ n := by simp [pw]
theorem pw_div (n : Nat) : pw (n + 1) / 10 = pw n := by
  cases n with
  | zero => rfl
  | succ n => rw [pw_s, pw_s, Nat.pow_succ]; omega
theorem lL_eq0 {v : Nat} (hv : v < 2 ^ 63) : lN v = (0 : Int64) ↔ v = 0 := pk_lEQ hv (by decide)
theorem li_eqI {a b : Nat} (ha : a < 2 ^ 31) (hb : b < 2 ^ 31) : nI a = nI b ↔ a = b := by
  constructor
  · intro h
    have h1 := nI_toInt ha
    have h2 := nI_toInt hb
    rw [h] at h1
    omega
  · intro h; rw [h]
theorem li_eq0 {v : Nat} (hv : v < 2 ^ 31) : nI v = (0 : Int32) ↔ v = 0 := li_eqI hv (by decide)
-- left: what stands behind it
theorem lAll_ne {a b : Nat} (h : a * b ≠ 0) : lAll a b (nd a) ≠ [] := fun q => by
  have := lAll_sum1 a b
  rw [q] at this
  exact h this.symm
theorem qLeft_F {t : Nat → Nat} {a b : Nat} {A : qS} (h : a * b ≠ 0) : sF (qLeft t a b A) = false := qLooks_F _ _ (lAll_ne h)
theorem qLeft_K {t : Nat → Nat} {a b : Nat} {A : qS} : sK (qLeft t a b A) = sK A := qLooks_K _ _
theorem qLeft_P {t : Nat → Nat} {a b : Nat} {A : qS} : sP (qLeft t a b A) = sP A := qLooks_P _ _
theorem qLeft_R {t : Nat → Nat} {a b : Nat} {A : qS} (h : a * b ≠ 0) : sR (qLeft t a b A) = sBs A + a * b := by
  have h1 := qLooks_Bs (t := t) (lAll a b (nd a)) A
  rw [lAll_sum1] at h1
  have h2 := qLeft_F (t := t) (A := A) h
  rw [← h1, sBs]
  show sR (qLeft t a b A) = if sF (qLeft t a b A) = true then 0 else sR (qLeft t a b A)
  rw [h2]; rfl
theorem qLeft_G {t : Nat → Nat} {a b n N : Nat} {A : qS} (ht : ∀ i, t i ≤ 99) (G : qG A (n + 2 * (nd a * nd b)) (a * b + N)) : qG (qLeft t a b A) n N :=
  qLooks_G ht _ _ (G.le (by have := lAll_len a b (nd a); omega) (by rw [lAll_sum1]; exact Nat.le_refl _))
-- right
def qRows (t : Nat → Nat) (a b : Nat) : Nat → Nat → qS × List Nat → qS × List Nat
  | 0, _, s => s
  | m + 1, j, s => if fg b j = 0 then qRows t a b m (j + 1) s
    else qRows t a b m (j + 1) (qHold t (a * (fg b j * 10 ^ j)) (ns1 (a * (fg b j * 10 ^ j))) (qBegin (qLeft t a (fg b j * 10 ^ j) (qBegin s.1))), s.2 ++ [a * (fg b j * 10 ^ j)])
def qAdds (t : Nat → Nat) : List Nat → qS → qS
  | [], A => A
  | r :: l, A => qAdds t l (qAct 1 (sR A + r) (t 1 * ns1 (sR A + r)) 0 (sR_ (sK_ A (sK A - ns1 r)) (sR A + r)))
def qRight2 (t : Nat → Nat) (A : qS) : List Nat → qS
  | [] => A
  | [_] => A
  | r :: l => qAdds t l (sR_ (sK_ A (sK A - ns1 r)) r)
def qRight (t : Nat → Nat) (a b : Nat) (A : qS) : qS := qRight2 t (qRows t a b (nd b) 0 (A, [])).1 (qRows t a b (nd b) 0 (A, [])).2
-- crossed
def lCol (a b k : Nat) : Nat → List (Nat × Nat × Nat)
  | 0 => []
  | r + 1 => (if fg a (k - r) = 0 ∨ fg b r = 0 then [] else [(fg a (k - r), fg b r, 1)]) ++ lCol a b k r
def qCol (t : Nat → Nat) (A : qS) : qS := qHold t (sR A % 10) 1 (sR_ A (sR A / 10))
def qCols (t : Nat → Nat) (a b : Nat) : Nat → Nat → qS → qS
  | 0, _, A => A
  | r + 1, k, A => qCols t a b r (k + 1) (qCol t (qLooks t (lCol a b k (k + 1)) (sP_ A k)))
def qCrossed (t : Nat → Nat) (a b : Nat) (A : qS) : qS := qCols t a b (nd a + nd b - 1) 0 A
-- squared, split
def qSq (t : Nat → Nat) (s d : Nat) (A : qS) : qS := if d = 0 then A else qLeft t d d A
def qLast (t : Nat → Nat) (v z : Nat) (A : qS) : qS := qAct 1 v (t 1 * ns1 v) 0 (sR_ (sK_ A (sK A - z)) v)
def qSquared (t : Nat → Nat) (a b : Nat) (A : qS) : Bool × qS :=
  if (a + b) % 2 ≠ 0 then (false, A)
  else (true, qLast t (a * b) (ns1 ((a + b) / 2 * ((a + b) / 2))) (qSq t ((a + b) / 2) ((max a b - min a b) / 2)
    (qHold t ((a + b) / 2 * ((a + b) / 2)) (ns1 ((a + b) / 2 * ((a + b) / 2))) (qBegin (qLeft t ((a + b) / 2) ((a + b) / 2) A)))))
def qFind (b : Nat) : Nat → Nat
  | 0 => 0
  | p + 1 => if p = 0 then 0 else if b % (p + 1) = 0 ∧ b ≠ p + 1 then p + 1 else qFind b p
def qSplit (t : Nat → Nat) (a b : Nat) (A : qS) : Bool × qS :=
  if qFind b (t 3) = 0 then (false, A)
  else (true, qLeft t (a * qFind b (t 3)) (b / qFind b (t 3)) (qHold t (a * qFind b (t 3)) (ns1 (a * qFind b (t 3))) (qBegin (qLeft t a (qFind b (t 3)) A))))
def qS0 : qS := ([], 0, 0, 0, true)
def qLay (t : Nat → Nat) (kn : Bool) (way a b : Nat) : Bool × qS :=
  match way with
  | 0 => if kn then (true, qLook t a b 1 qS0) else (false, qS0)
  | 1 => (true, qLeft t a b qS0)
  | 2 => (true, qRight t a b qS0)
  | 3 => (true, qCrossed t a b qS0)
  | 4 => qSquared t a b qS0
  | 5 => qSplit t a b qS0
  | _ => (true, qRight t b a qS0)
theorem qBegin_G {A : qS} {n N N' : Nat} (G : qG A n N) (h : N' < 2 ^ 31) : qG (qBegin A) n N' := ⟨G.1, (by show 0 < 2 ^ 31; decide), G.2.2.1, (by show 0 + N' < 2 ^ 31; omega)⟩
theorem qHold_G {t : Nat → Nat} {v size n N : Nat} {A : qS} (ht : ∀ i, t i ≤ 99) (hz : size ≤ 19) (G : qG A (n + 1) N) : qG (qHold t v size A) n N := by
  obtain ⟨⟨B1, B2, B3⟩, hr, hn, hs⟩ := G
  refine ⟨?_, hr, ?_, hs⟩
  · refine qAct_B (A := sK_ A (sK A + size)) (by show sK A + size ≤ 19 * ((sA A).length + 1); omega) B2 B3 ?_ (by show sR A < 2 ^ 63; omega)
    exact Nat.le_trans (Nat.mul_le_mul (ht 2) hz) (by decide)
  · show (sA A ++ [_]).length + n ≤ 120
    simp; omega
theorem fg_10 (v j : Nat) : fg v j < 10 := Nat.mod_lt _ (by decide)
theorem fg_le (v j : Nat) : fg v j * 10 ^ j ≤ v := by
  have h1 := fg_mod v j
  have h2 : v % 10 ^ (j + 1) ≤ v := Nat.mod_le _ _
  omega
theorem nd_mono {a b : Nat} (h : a ≤ b) : nd a ≤ nd b := nd_bnd _ _ (Nat.lt_of_le_of_lt h (nd_lt _ _ (Nat.le_refl _)))
-- right: sums and room
def lS : List Nat → Nat
  | [] => 0
  | r :: l => r + lS l
def lZ : List Nat → Nat
  | [] => 0
  | r :: l => ns1 r + lZ l
theorem lS_ap (r : Nat) : ∀ l, lS (l ++ [r]) = lS l + r := by
  intro l
  induction l with
  | nil => simp [lS]
  | cons a l ih => simp [lS, ih, Nat.add_assoc]
theorem lZ_ap (r : Nat) : ∀ l, lZ (l ++ [r]) = lZ l + ns1 r := by
  intro l
  induction l with
  | nil => simp [lZ]
  | cons a l ih => simp [lZ, ih, Nat.add_assoc]
def rb : Nat → Nat → Nat
  | 0, _ => 3
  | m + 1, j => (8 * (j + 1) + 1) + rb m (j + 1)
theorem rb_le {m : Nat} (h : m ≤ 4) : rb m 0 ≤ 87 := by
  have : m = 0 ∨ m = 1 ∨ m = 2 ∨ m = 3 ∨ m = 4 := by omega
  rcases this with rfl | rfl | rfl | rfl | rfl <;> decide
theorem fg_nd (b j : Nat) : nd (fg b j * 10 ^ j) ≤ j + 1 := nd_bnd _ _ (by
  have h := fg_10 b j
  have h2 : 0 < 10 ^ j := Nat.pow_pos (by decide)
  rw [Nat.pow_succ, Nat.mul_comm (10 ^ j)]
  exact Nat.mul_lt_mul_of_pos_right h h2)
theorem rb_row {a b j m : Nat} (ha : nd a ≤ 4) : rb m (j + 1) + 1 + 2 * (nd a * nd (fg b j * 10 ^ j)) ≤ rb (m + 1) j := by
  have h1 := fg_nd b j
  have h2 := Nat.mul_le_mul ha h1
  rw [rb]; omega
/-- one row of right -/
def qRow (t : Nat → Nat) (a y : Nat) (A : qS) : qS := qHold t (a * y) (ns1 (a * y)) (qBegin (qLeft t a y (qBegin A)))
theorem qRow_G {t : Nat → Nat} {a y n N : Nat} {A : qS} (ht : ∀ i, t i ≤ 99) (hm : a * y < 2 ^ 31) (hN : N < 2 ^ 31) (G : qG A (n + 1 + 2 * (nd a * nd y)) 0) : qG (qRow t a y A) n N :=
  qHold_G ht (ns1_63 (by omega)) (qBegin_G (qLeft_G (N := 0) ht (qBegin_G G (by omega))) hN)
theorem qRow_K {t : Nat → Nat} {a y : Nat} {A : qS} : sK (qRow t a y A) = sK A + ns1 (a * y) := by
  show sK (qLeft t a y (qBegin A)) + ns1 (a * y) = _
  rw [qLeft_K]; rfl
theorem qRow_P {t : Nat → Nat} {a y : Nat} {A : qS} : sP (qRow t a y A) = sP A := by
  show sP (qLeft t a y (qBegin A)) = _
  rw [qLeft_P]; rfl
theorem qRows_G {t : Nat → Nat} {a b : Nat} (ht : ∀ i, t i ≤ 99) (ha : nd a ≤ 4) (hab : a * b < 2 ^ 31) : ∀ m j s, qG s.1 (rb m j) 0 → qG (qRows t a b m j s).1 3 0 := by
  intro m
  induction m with
  | zero => intro j s G; exact G
  | succ m ih =>
    intro j s G
    rw [qRows]
    split
    · exact ih _ _ (G.le (by rw [rb]; omega) (Nat.le_refl _))
    · refine ih _ _ (qRow_G ht ?_ (by omega) (G.le (rb_row ha) (Nat.le_refl _)))
      exact Nat.lt_of_le_of_lt (Nat.mul_le_mul_left a (fg_le b j)) hab
theorem qRows_K {t : Nat → Nat} {a b : Nat} : ∀ m j s, sK (qRows t a b m j s).1 + lZ s.2 = sK s.1 + lZ (qRows t a b m j s).2 := by
  intro m
  induction m with
  | zero => intro j s; rfl
  | succ m ih =>
    intro j s
    rw [qRows]
    split
    · exact ih _ _
    · have h := ih (j + 1) (qRow t a (fg b j * 10 ^ j) s.1, s.2 ++ [a * (fg b j * 10 ^ j)])
      simp only [qRow_K, lZ_ap] at h
      simp only [qRow] at h
      omega
theorem qRows_S {t : Nat → Nat} {a b : Nat} : ∀ m j s, lS (qRows t a b m j s).2 + a * (b % 10 ^ j) = lS s.2 + a * (b % 10 ^ (j + m)) := by
  intro m
  induction m with
  | zero => intro j s; rfl
  | succ m ih =>
    intro j s
    rw [qRows]
    have hb := fg_mod b j
    split
    · rename_i h0
      have h := ih (j + 1) s
      rw [h0, Nat.zero_mul, Nat.zero_add] at hb
      rw [hb, show j + 1 + m = j + (m + 1) by omega] at h
      exact h
    · have h := ih (j + 1) (qRow t a (fg b j * 10 ^ j) s.1, s.2 ++ [a * (fg b j * 10 ^ j)])
      rw [hb, Nat.mul_add, show j + 1 + m = j + (m + 1) by omega] at h
      simp only [lS_ap] at h
      simp only [qRow] at h
      omega
theorem qRows_len {t : Nat → Nat} {a b : Nat} : ∀ m j s, (qRows t a b m j s).2.length ≤ s.2.length + m := by
  intro m
  induction m with
  | zero => intro j s; exact Nat.le_refl _
  | succ m ih =>
    intro j s
    rw [qRows]
    split
    · exact Nat.le_trans (ih _ _) (by omega)
    · refine Nat.le_trans (ih _ _) ?_
      simp; omega
theorem nd_ge {b j : Nat} (h : j < nd b) : 10 ^ j ≤ b := by
  by_cases h1 : b < 10 ^ j
  · have := nd_bnd _ _ h1; omega
  · omega
