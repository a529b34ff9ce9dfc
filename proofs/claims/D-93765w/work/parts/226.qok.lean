set_option maxRecDepth 100000
/-! ===== STAGE 2: what acts can be ===== -/
def qOk (r : qA) : Prop := aSo r ≤ 2 ∧ aV r < 2 ^ 31 ∧ aSl r * 10 ^ aPl r < 2 ^ 31 ∧ (aSo r = 1 → aV r ≠ 0 ∧ 10 ^ (aPl r + (nd (aV r) - 1)) < 2 ^ 31) ∧ (aSo r ≠ 1 → aSo r = 0 ∨ aSl r = 0)
def qW (A : qS) : Prop := ∀ r, r ∈ sA A → qOk r
theorem qAct_W {so v le sl : Nat} {A : qS} (h : qW A) (hs : so ≤ 2) (hv : v < 2 ^ 31) (hl : sl * 10 ^ sP A < 2 ^ 31) (h1 : so = 1 → v ≠ 0 ∧ 10 ^ (sP A + (nd v - 1)) < 2 ^ 31) (h2 : so ≠ 1 → so = 0 ∨ sl = 0) : qW (qAct so v le sl A) := by
  intro r hr
  rw [qAct_A] at hr
  rcases List.mem_append.mp hr with q | q
  · exact h r q
  · rw [List.mem_singleton] at q
    subst q
    exact ⟨hs, hv, hl, h1, h2⟩
theorem p10_9 {v : Nat} (hv : v < 2 ^ 31) : 10 ^ (0 + (nd v - 1)) < 2 ^ 31 := by
  have := nd_31 hv
  refine Nat.lt_of_le_of_lt (Nat.pow_le_pow_right (by decide) (show 0 + (nd v - 1) ≤ 9 by omega)) (by decide)
theorem qLook_W {t : Nat → Nat} {x y w n N : Nat} {A : qS} (h : qW A) (G : qG A (n + 2) (x * y * w + N)) (hP : sP A = 0) (hz : x * y * w ≠ 0) : qW (qLook t x y w A) := by
  have hr := G.2.1
  have hs := G.2.2.2
  have hxy : min x y * w ≤ x * y * w := by
    have h0 : x ≠ 0 ∧ y ≠ 0 := by
      refine ⟨fun q => hz ?_, fun q => hz ?_⟩
      · rw [q]; simp
      · rw [q]; simp
    refine Nat.mul_le_mul_right _ ?_
    have : min x y ≤ x := Nat.min_le_left _ _
    exact Nat.le_trans this (Nat.le_mul_of_pos_right _ (Nat.pos_of_ne_zero h0.2))
  unfold qLook
  by_cases hF : sF A = true
  · rw [if_pos hF]
    exact qAct_W (A := sR_ A (x * y * w)) h (by decide) (by omega) (by show min x y * w * 10 ^ sP A < 2 ^ 31; rw [hP]; omega) (fun q => absurd q (by decide)) (fun _ => Or.inl rfl)
  · rw [if_neg hF]
    rw [sBs, if_neg hF] at hs
    refine qAct_W (A := sR_ (qAct 0 (x * y * w) (t 0) (min x y * w) A) (sR A + x * y * w)) (qAct_W h (by decide) (by omega) (by rw [hP]; omega) (fun q => absurd q (by decide)) (fun _ => Or.inl rfl)) (by decide) (by omega) (by rw [Nat.zero_mul]; decide) (fun _ => ⟨by omega, ?_⟩) (fun q => absurd rfl q)
    show 10 ^ (sP A + (nd (sR A + x * y * w) - 1)) < 2 ^ 31
    rw [hP]
    exact p10_9 (by omega)
def nzL (l : List (Nat × Nat × Nat)) : Prop := ∀ p, p ∈ l → p.1 * p.2.1 * p.2.2 ≠ 0
theorem qLooks_W {t : Nat → Nat} {n N : Nat} (ht : ∀ i, t i ≤ 99) : ∀ l A, qW A → qG A (n + 2 * l.length) (qSum l + N) → sP A = 0 → nzL l → qW (qLooks t l A) := by
  intro l
  induction l with
  | nil => intro A h _ _ _; exact h
  | cons p l ih =>
    intro A h G hP hz
    have G1 : qG A ((n + 2 * l.length) + 2) (p.1 * p.2.1 * p.2.2 + (qSum l + N)) := G.le (by simp; omega) (by simp [qSum]; omega)
    exact ih _ (qLook_W h G1 hP (hz p (by simp))) (qLook_G ht G1) (by rw [qLook_P]; exact hP) (fun q hq => hz q (by simp [hq]))
theorem lRow_nz {x b i : Nat} (hx : x ≠ 0) : ∀ j, nzL (lRow x b i j) := by
  intro j
  induction j with
  | zero => intro p hp; simp [lRow] at hp
  | succ j ih =>
    intro p hp
    rw [lRow] at hp
    rcases List.mem_append.mp hp with q | q
    · by_cases h : fg b j = 0
      · rw [if_pos h] at q; simp at q
      · rw [if_neg h, List.mem_singleton] at q
        subst q
        exact Nat.mul_ne_zero (Nat.mul_ne_zero hx h) (Nat.pos_iff_ne_zero.mp (Nat.pow_pos (by decide)))
    · exact ih p q
theorem lAll_nz {a b : Nat} : ∀ i, nzL (lAll a b i) := by
  intro i
  induction i with
  | zero => intro p hp; simp [lAll] at hp
  | succ i ih =>
    intro p hp
    rw [lAll] at hp
    rcases List.mem_append.mp hp with q | q
    · by_cases h : fg a i = 0
      · rw [if_pos h] at q; simp at q
      · rw [if_neg h] at q
        exact lRow_nz h _ p q
    · exact ih p q
theorem qLeft_W {t : Nat → Nat} {a b n N : Nat} {A : qS} (ht : ∀ i, t i ≤ 99) (h : qW A) (G : qG A (n + 2 * (nd a * nd b)) (a * b + N)) (hP : sP A = 0) : qW (qLeft t a b A) :=
  qLooks_W (n := n) (N := N) ht _ _ h (G.le (by have := lAll_len a b (nd a); omega) (by rw [lAll_sum1]; exact Nat.le_refl _)) hP (lAll_nz _)
theorem qHold_W {t : Nat → Nat} {v size : Nat} {A : qS} (h : qW A) (hv : v < 2 ^ 31) : qW (qHold t v size A) :=
  qAct_W (A := sK_ A (sK A + size)) h (by decide) hv (by rw [Nat.zero_mul]; decide) (fun q => absurd q (by decide)) (fun _ => Or.inr rfl)
theorem qRows_W {t : Nat → Nat} {a b : Nat} (ht : ∀ i, t i ≤ 99) (ha : nd a ≤ 4) (hab : a * b < 2 ^ 31) : ∀ m j s, qW s.1 → sP s.1 = 0 → qG s.1 (rb m j) 0 → qW (qRows t a b m j s).1 := by
  intro m
  induction m with
  | zero => intro j s h _ _; exact h
  | succ m ih =>
    intro j s h hP G
    rw [qRows]
    split
    · exact ih _ _ h hP (G.le (by rw [rb]; omega) (Nat.le_refl _))
    · have hm : a * (fg b j * 10 ^ j) < 2 ^ 31 := Nat.lt_of_le_of_lt (Nat.mul_le_mul_left a (fg_le b j)) hab
      have G0 : qG s.1 (rb m (j + 1) + 1 + 2 * (nd a * nd (fg b j * 10 ^ j))) 0 := G.le (rb_row ha) (Nat.le_refl _)
      have G1 := qBegin_G G0 (N' := a * (fg b j * 10 ^ j) + 0) (by omega)
      refine ih _ _ (qHold_W (A := qBegin (qLeft t a (fg b j * 10 ^ j) (qBegin s.1))) (qLeft_W (A := qBegin s.1) ht h G1 hP) hm) ?_ (qRow_G ht hm (by decide) G0)
      show sP (qLeft t a (fg b j * 10 ^ j) (qBegin s.1)) = 0
      rw [qLeft_P]; exact hP
theorem qRows_nz {t : Nat → Nat} {a b : Nat} (ha0 : a ≠ 0) : ∀ m j s, (∀ r, r ∈ s.2 → r ≠ 0) → ∀ r, r ∈ (qRows t a b m j s).2 → r ≠ 0 := by
  intro m
  induction m with
  | zero => intro j s h; exact h
  | succ m ih =>
    intro j s h
    rw [qRows]
    split
    · exact ih _ _ h
    · rename_i h0
      refine ih _ _ ?_
      intro r hr
      rcases List.mem_append.mp hr with q | q
      · exact h r q
      · rw [List.mem_singleton] at q
        subst q
        exact Nat.mul_ne_zero ha0 (Nat.mul_ne_zero h0 (Nat.pos_iff_ne_zero.mp (Nat.pow_pos (by decide))))
theorem qAdds_X {t : Nat → Nat} (ht : ∀ i, t i ≤ 99) : ∀ l A, qW A → qB A → sP A = 0 → (sA A).length + l.length ≤ 120 → sR A + lS l < 2 ^ 31 → (∀ r, r ∈ l → r ≠ 0) → qW (qAdds t l A) ∧ qB (qAdds t l A) ∧ (sA (qAdds t l A)).length ≤ 120 := by
  intro l
  induction l with
  | nil => intro A h B hP hl _ _; exact ⟨h, B, by show (sA A).length ≤ 120; simpa using hl⟩
  | cons r l ih =>
    intro A h B hP hl hs hz
    rw [lS] at hs
    have hr := hz r (by simp)
    rw [List.length_cons] at hl
    have hv : sR A + r < 2 ^ 31 := by omega
    refine ih (qAct 1 (sR A + r) (t 1 * ns1 (sR A + r)) 0 (sR_ (sK_ A (sK A - ns1 r)) (sR A + r))) ?_ ?_ hP ?_ (by show sR A + r + lS l < 2 ^ 31; omega) (fun q hq => hz q (by simp [hq]))
    · refine qAct_W (A := sR_ (sK_ A (sK A - ns1 r)) (sR A + r)) h (by decide) hv (by rw [Nat.zero_mul]; decide) (fun _ => ⟨by omega, ?_⟩) (fun q => absurd rfl q)
      show 10 ^ (sP A + _) < 2 ^ 31
      rw [hP]; exact p10_9 hv
    · exact qAct_B (by show sK A - ns1 r ≤ 19 * ((sA A).length + 1); have := B.1; omega) B.2.1 B.2.2 (ns1_le (by omega) (by have := ht 1; omega)) (by show sR A + r < 2 ^ 63; omega)
    · show (sA A ++ [_]).length + l.length ≤ 120
      simp; omega
theorem qS0_W : qW qS0 := fun r hr => by simp [qS0, sA] at hr
theorem qRight_X {t : Nat → Nat} {a b : Nat} (ht : ∀ i, t i ≤ 99) (ha : nd a ≤ 4) (hb : nd b ≤ 4) (ha0 : a ≠ 0) (hab : a * b < 2 ^ 31) : qW (qRight t a b qS0) ∧ qB (qRight t a b qS0) ∧ (sA (qRight t a b qS0)).length ≤ 120 := by
  have G0 : qG qS0 (rb (nd b) 0) 0 := ⟨⟨by decide, by decide, by decide⟩, by decide, by have := rb_le hb; show 0 + _ ≤ 120; omega, by decide⟩
  have hS := qRows_S (t := t) (a := a) (b := b) (nd b) 0 (qS0, [])
  have hL := qRows_len (t := t) (a := a) (b := b) (nd b) 0 (qS0, [])
  have hG := qRows_G ht ha hab (nd b) 0 (qS0, []) G0
  have hP := qRows_P (t := t) (a := a) (b := b) (nd b) 0 (qS0, [])
  have hW := qRows_W (t := t) ht ha hab (nd b) 0 (qS0, []) qS0_W rfl G0
  have hN := qRows_nz (t := t) (b := b) ha0 (nd b) 0 (qS0, []) (by simp)
  rw [Nat.zero_add, nd_mod] at hS
  rw [qRight]
  generalize qRows t a b (nd b) 0 (qS0, []) = q at hS hL hG hP hW hN ⊢
  obtain ⟨A, rs⟩ := q
  simp only [lS, Nat.pow_zero, Nat.mod_one, Nat.mul_zero, Nat.add_zero, Nat.zero_add, List.length_nil] at hS hL
  have hlen : (sA A).length + 3 ≤ 120 := hG.2.2.1
  rcases rs with _ | ⟨r, _ | ⟨r2, l⟩⟩
  · exact ⟨hW, hG.1, by show (sA A).length ≤ 120; omega⟩
  · exact ⟨hW, hG.1, by show (sA A).length ≤ 120; omega⟩
  · have hS2 : r + lS (r2 :: l) = a * b := hS
    simp only [List.length_cons] at hL
    refine qAdds_X ht (r2 :: l) (sR_ (sK_ A (sK A - ns1 r)) r) hW ⟨?_, hG.1.2.1, hG.1.2.2⟩ hP (by show (sA A).length + _ ≤ 120; simp; omega) (by show r + lS (r2 :: l) < 2 ^ 31; omega) (fun q hq => hN q (List.mem_cons_of_mem _ hq))
    show sK A - ns1 r ≤ 19 * (sA A).length
    have h1 : sK A ≤ 19 * (sA A).length := hG.1.1
    omega
-- crossed
theorem qLook_Wc {t : Nat → Nat} {x y : Nat} {A : qS} (h : qW A) (hx : 1 ≤ x ∧ x ≤ 9) (hy : 1 ≤ y ∧ y ≤ 9) (hP : sP A ≤ 6) (hs : sBs A + x * y * 1 < 1000) : qW (qLook t x y 1 A) := by
  have hp : 10 ^ sP A ≤ 10 ^ 6 := Nat.pow_le_pow_right (by decide) hP
  have hxy : x * y ≤ 81 := Nat.mul_le_mul hx.2 hy.2
  have hxy1 : 1 * 1 ≤ x * y := Nat.mul_le_mul hx.1 hy.1
  have hm : min x y * 1 * 10 ^ sP A < 2 ^ 31 := by
    have : min x y ≤ 9 := by omega
    have := Nat.mul_le_mul this hp
    rw [Nat.mul_one]
    omega
  unfold qLook
  by_cases hF : sF A = true
  · rw [if_pos hF]
    exact qAct_W (A := sR_ A (x * y * 1)) h (by decide) (by omega) hm (fun q => absurd q (by decide)) (fun _ => Or.inl rfl)
  · rw [if_neg hF]
    rw [sBs, if_neg hF] at hs
    refine qAct_W (A := sR_ (qAct 0 (x * y * 1) (t 0) (min x y * 1) A) (sR A + x * y * 1)) (qAct_W h (by decide) (by omega) hm (fun q => absurd q (by decide)) (fun _ => Or.inl rfl)) (by decide) (by omega) (by rw [Nat.zero_mul]; decide) (fun _ => ⟨by omega, ?_⟩) (fun q => absurd rfl q)
    show 10 ^ (sP A + (nd (sR A + x * y * 1) - 1)) < 2 ^ 31
    have hn := nd_bnd 3 (sR A + x * y * 1) (by omega)
    exact Nat.lt_of_le_of_lt (Nat.pow_le_pow_right (by decide) (show sP A + (nd (sR A + x * y * 1) - 1) ≤ 8 by omega)) (by decide)
def c9L (l : List (Nat × Nat × Nat)) : Prop := ∀ p, p ∈ l → (1 ≤ p.1 ∧ p.1 ≤ 9) ∧ (1 ≤ p.2.1 ∧ p.2.1 ≤ 9) ∧ p.2.2 = 1
theorem qLooks_Wc {t : Nat → Nat} : ∀ l A, qW A → sP A ≤ 6 → c9L l → sBs A + qSum l < 1000 → qW (qLooks t l A) := by
  intro l
  induction l with
  | nil => intro A h _ _ _; exact h
  | cons p l ih =>
    intro A h hP hc hs
    rw [qSum] at hs
    obtain ⟨h1, h2, h3⟩ := hc p (by simp)
    refine ih _ ?_ (by rw [qLook_P]; exact hP) (fun q hq => hc q (by simp [hq])) (by rw [qLook_Bs]; omega)
    rw [h3]
    rw [h3] at hs
    exact qLook_Wc h h1 h2 hP (by omega)
theorem lCol_c9 {a b k : Nat} : ∀ r, c9L (lCol a b k r) := by
  intro r
  induction r with
  | zero => intro p hp; simp [lCol] at hp
  | succ r ih =>
    intro p hp
    rw [lCol] at hp
    rcases List.mem_append.mp hp with q | q
    · by_cases h : fg a (k - r) = 0 ∨ fg b r = 0
      · rw [if_pos h] at q; simp at q
      · rw [if_neg h, List.mem_singleton] at q
        subst q
        have h1 := fg_10 a (k - r)
        have h2 := fg_10 b r
        show (1 ≤ fg a (k - r) ∧ fg a (k - r) ≤ 9) ∧ (1 ≤ fg b r ∧ fg b r ≤ 9) ∧ 1 = 1
        omega
    · exact ih p q
theorem qCols_X {t : Nat → Nat} {a b : Nat} (ht : ∀ i, t i ≤ 99) (ha : nd a ≤ 4) (hb : nd b ≤ 4) : ∀ r k A, k + r = nd a + nd b - 1 → qW A → qG A (9 * r) 500 → sR A ≤ 99 → qW (qCols t a b r k A) ∧ qB (qCols t a b r k A) ∧ (sA (qCols t a b r k A)).length ≤ 120 := by
  intro r
  induction r with
  | zero => intro k A _ h G _; exact ⟨h, G.1, by have := G.2.2.1; exact this⟩
  | succ r ih =>
    intro k A hk h G hs
    rw [qCols]
    have hl : (lCol a b k (k + 1)).length ≤ 4 := Nat.le_trans (lCol_len (k + 1) (Nat.le_refl _)) (by omega)
    have hsum := lCol_sum (a := a) (b := b) (k := k) (k + 1)
    have hbs : sBs (sP_ A k) ≤ sR A := by show (if sF A = true then 0 else sR A) ≤ sR A; split <;> omega
    have G1 : qG (sP_ A k) (9 * r + 1 + 2 * (lCol a b k (k + 1)).length) (qSum (lCol a b k (k + 1)) + 0) := qG.le (A := sP_ A k) (n := 9 * (r + 1)) (N := 500) G (by omega) (by omega)
    have G2 := qLooks_G ht _ _ G1
    have hR2 := qLooks_Rle (t := t) (lCol a b k (k + 1)) (sP_ A k)
    have hR3 : sR (sP_ A k) = sR A := rfl
    have W2 : qW (qLooks t (lCol a b k (k + 1)) (sP_ A k)) := qLooks_Wc _ (sP_ A k) h (by show k ≤ 6; omega) (lCol_c9 _) (by omega)
    have G3 : qG (qCol t (qLooks t (lCol a b k (k + 1)) (sP_ A k))) (9 * r) 0 := qCol_G ht (G2.le (by omega) (Nat.le_refl _))
    refine ih (k + 1) (qCol t (qLooks t (lCol a b k (k + 1)) (sP_ A k))) (by omega) ?_ ⟨G3.1, G3.2.1, G3.2.2.1, ?_⟩ ?_
    · exact qHold_W (A := sR_ _ _) W2 (by omega)
    · show (if sF (qLooks t (lCol a b k (k + 1)) (sP_ A k)) = true then 0 else sR (qLooks t (lCol a b k (k + 1)) (sP_ A k)) / 10) + 500 < 2 ^ 31
      split <;> omega
    · show sR (qLooks t (lCol a b k (k + 1)) (sP_ A k)) / 10 ≤ 99
      omega
/-- every way's acts -/
theorem qLay_X {t : Nat → Nat} {kn : Bool} {w a b : Nat} (ht : ∀ i, t i ≤ 99) (ha : nd a ≤ 4) (hb : nd b ≤ 4) (ha0 : a ≠ 0) (hb0 : b ≠ 0) : qW (qLay t kn w a b).2 ∧ qB (qLay t kn w a b).2 ∧ (sA (qLay t kn w a b).2).length ≤ 120 := by
  have ha4 : a < 10 ^ 4 := nd_lt _ _ ha
  have hb4 : b < 10 ^ 4 := nd_lt _ _ hb
  have hab : a * b < 10 ^ 8 := by
    have := Nat.mul_lt_mul'' ha4 hb4
    simpa using this
  have hab0 : a * b ≠ 0 := Nat.mul_ne_zero ha0 hb0
  have m1 : nd a * nd b ≤ 4 * 4 := Nat.mul_le_mul ha hb
  have B0 : qB qS0 := ⟨by decide, by decide, by decide⟩
  have z : ∀ A n N, qW A → qG A n N → qW A ∧ qB A ∧ (sA A).length ≤ 120 := fun A n N h G => ⟨h, G.1, by have := G.2.2.1; omega⟩
  have G8 : qG qS0 120 (10 ^ 9) := ⟨B0, by decide, by decide, by decide⟩
  unfold qLay
  split
  · split
    · have G : qG qS0 (0 + 2) (a * b * 1 + 0) := G8.le (by decide) (by omega)
      exact z _ 0 0 (qLook_W qS0_W G rfl (by rw [Nat.mul_one]; exact hab0)) (qLook_G ht G)
    · exact ⟨qS0_W, B0, by decide⟩
  · have G : qG qS0 (0 + 2 * (nd a * nd b)) (a * b + 0) := G8.le (by omega) (by omega)
    exact z _ 0 0 (qLeft_W ht qS0_W G rfl) (qLeft_G ht G)
  · exact qRight_X ht ha hb ha0 (by omega)
  · exact qCols_X ht ha hb _ 0 qS0 (by omega) qS0_W (G8.le (by omega) (by omega)) (by decide)
  · rw [qSquared]
    split
    · exact ⟨qS0_W, B0, by decide⟩
    · rename_i h2
      have hs : (a + b) / 2 < 10 ^ 4 := by omega
      have hs0 : (a + b) / 2 ≠ 0 := by omega
      have hd4 : (max a b - min a b) / 2 < 10 ^ 4 := by omega
      have hns := nd_bnd 4 _ hs
      have hnd := nd_bnd 4 _ hd4
      have hss : (a + b) / 2 * ((a + b) / 2) < 10 ^ 8 := by
        have := Nat.mul_lt_mul'' hs hs
        simpa using this
      have hdd : (max a b - min a b) / 2 * ((max a b - min a b) / 2) < 10 ^ 8 := by
        have := Nat.mul_lt_mul'' hd4 hd4
        simpa using this
      dsimp only
      generalize (a + b) / 2 = w at *
      generalize (max a b - min a b) / 2 = d at *
      have m1 : nd w * nd w ≤ 4 * 4 := Nat.mul_le_mul hns hns
      have m2 : nd d * nd d ≤ 4 * 4 := Nat.mul_le_mul hnd hnd
      have G0 : qG qS0 (34 + 2 * (nd w * nd w)) (w * w + 0) := G8.le (by omega) (by omega)
      have W1 := qLeft_W ht qS0_W G0 rfl
      have G1 := qLeft_G ht G0
      have hz := ns1_63 (show w * w < 2 ^ 63 by omega)
      have W2 : qW (qHold t (w * w) (ns1 (w * w)) (qBegin (qLeft t w w qS0))) := qHold_W (A := qBegin (qLeft t w w qS0)) W1 (by omega)
      have G2 : qG (qHold t (w * w) (ns1 (w * w)) (qBegin (qLeft t w w qS0))) 33 (10 ^ 9) := qHold_G ht hz (n := 33) (qBegin_G G1 (by decide))
      have hP2 : sP (qHold t (w * w) (ns1 (w * w)) (qBegin (qLeft t w w qS0))) = 0 := by show sP (qLeft t w w qS0) = 0; rw [qLeft_P]; rfl
      generalize qHold t (w * w) (ns1 (w * w)) (qBegin (qLeft t w w qS0)) = A at W2 G2 hP2 ⊢
      have h3 : qW (qSq t w d A) ∧ qG (qSq t w d A) 1 0 ∧ sP (qSq t w d A) = 0 := by
        rw [qSq]
        split
        · exact ⟨W2, G2.le (by decide) (by decide), hP2⟩
        · have G2' : qG A (1 + 2 * (nd d * nd d)) (d * d + 0) := G2.le (by omega) (by omega)
          exact ⟨qLeft_W ht W2 G2' hP2, qLeft_G ht G2', by rw [qLeft_P]; exact hP2⟩
      obtain ⟨W3, G3, hP3⟩ := h3
      refine ⟨qAct_W (A := sR_ (sK_ (qSq t w d A) _) (a * b)) W3 (by decide) (by omega) (by rw [Nat.zero_mul]; decide) (fun _ => ⟨hab0, ?_⟩) (fun q => absurd rfl q), ?_, ?_⟩
      · show 10 ^ (sP (qSq t w d A) + _) < 2 ^ 31
        rw [hP3]; exact p10_9 (by omega)
      · exact qAct_B (by show sK (qSq t w d A) - _ ≤ 19 * ((sA (qSq t w d A)).length + 1); have := G3.1.1; omega) G3.1.2.1 G3.1.2.2 (ns1_le (by omega) (by have := ht 1; omega)) (by show a * b < 2 ^ 63; omega)
      · show (sA (qSq t w d A) ++ [_]).length ≤ 120
        have := G3.2.2.1
        simp; omega
  · rw [qSplit]
    split
    · exact ⟨qS0_W, B0, by decide⟩
    · rename_i hf
      dsimp only
      obtain ⟨f1, f2, f3⟩ := qFind_is b (t 3) hf
      have f4 := qFind_le b (t 3)
      have ht3 := ht 3
      generalize qFind b (t 3) = q at *
      have hbq : b / q * q = b := Nat.div_mul_cancel (Nat.dvd_of_mod_eq_zero f2)
      have haq : a * q < 10 ^ 6 := by
        have := Nat.mul_lt_mul'' ha4 (show q < 10 ^ 2 by omega)
        simpa using this
      have hbq5 : b / q < 5000 := by
        have h1 : b / q ≤ b / 2 := Nat.div_le_div_left f1 (by decide)
        omega
      have hprod : a * q * (b / q) = a * b := by rw [Nat.mul_assoc, Nat.mul_comm q, hbq]
      have n1 := nd_bnd 2 q (by omega)
      have n2 := nd_bnd 6 _ haq
      have n3 := nd_bnd 4 (b / q) (by omega)
      have m1 : nd a * nd q ≤ 4 * 2 := Nat.mul_le_mul ha n1
      have m2 : nd (a * q) * nd (b / q) ≤ 6 * 4 := Nat.mul_le_mul n2 n3
      have G0 : qG qS0 (49 + 2 * (nd a * nd q)) (a * q + 0) := G8.le (by omega) (by omega)
      have W1 := qLeft_W ht qS0_W G0 rfl
      have G1 := qLeft_G ht G0
      have hz := ns1_63 (show a * q < 2 ^ 63 by omega)
      have W2 : qW (qHold t (a * q) (ns1 (a * q)) (qBegin (qLeft t a q qS0))) := qHold_W (A := qBegin (qLeft t a q qS0)) W1 (by omega)
      have G2 : qG (qHold t (a * q) (ns1 (a * q)) (qBegin (qLeft t a q qS0))) 48 (10 ^ 9) := qHold_G ht hz (n := 48) (qBegin_G G1 (by decide))
      have hP2 : sP (qHold t (a * q) (ns1 (a * q)) (qBegin (qLeft t a q qS0))) = 0 := by show sP (qLeft t a q qS0) = 0; rw [qLeft_P]; rfl
      have G3 : qG (qHold t (a * q) (ns1 (a * q)) (qBegin (qLeft t a q qS0))) (0 + 2 * (nd (a * q) * nd (b / q))) (a * q * (b / q) + 0) := G2.le (by omega) (by rw [hprod]; omega)
      exact z _ 0 0 (qLeft_W ht W2 G3 hP2) (qLeft_G ht G3)
  · exact qRight_X ht hb ha hb0 (by rw [Nat.mul_comm]; omega)
