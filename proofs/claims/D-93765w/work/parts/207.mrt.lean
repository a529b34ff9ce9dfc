set_option maxRecDepth 100000
/-! ===== STAGE 2: the reference's right ===== -/
section S2Q1
variable {s0 s : hk_Ms} {A : qS} {h : Nat} {t : Nat → Nat} {g : Nat → Int32}
theorem qRows_P {a b : Nat} : ∀ m j q, sP (qRows t a b m j q).1 = sP q.1 := by
  intro m
  induction m with
  | zero => intro j q; rfl
  | succ m ih =>
    intro j q
    rw [qRows]
    split
    · exact ih _ _
    · rw [ih]; exact qRow_P
theorem qm_right {a b : Nat} (H : HM s0 h t) (ht : ∀ i, t i ≤ 99) (ha : nd a ≤ 4) (hb : nd b ≤ 4) (ha0 : a ≠ 0) (hab : a * b < 2 ^ 31) (R : RM s0 s qS0 h t g) :
    ∃ s' g', m_goRight (nI a) (nI b) s = some s' ∧ RM s0 s' (qRight t a b qS0) h t g' := by
  have G0 : qG qS0 (rb (nd b) 0) 0 := ⟨⟨by decide, by decide, by decide⟩, by decide, by have := rb_le hb; show 0 + _ ≤ 120; omega, by decide⟩
  obtain ⟨s1, g1, E1, R1, hg1⟩ := qm_rows (e0 := fun (v4 : Int32) (s5 : hk_Ms) =>
    if (2 : Int32) ≤ v4 then
      (hm_lI s5 17 4 (0 : Int32)).bind fun x19 =>
      hk_nm (hm_sI s5 29 x19) fun s20 =>
      (m_digits (hm_I s20 29)).bind fun x21 =>
      hk_nm (hm_sI s20 28 ((hm_I s20 28) - x21)) fun s22 =>
      m_goRight_L98 (nI a) (nI b) v4 (fun (s26 : hk_Ms) =>
        some s26) hk_F (1 : Int32) s22
    else
    some s5) H ht ha hb ha0 hab (nd b) hk_F 0 s g (qS0, []) (pw_F (by omega)) (by omega) (by simp) R rfl rfl (by simp) G0
  have hS := qRows_S (t := t) (a := a) (b := b) (nd b) 0 (qS0, [])
  have hK := qRows_K (t := t) (a := a) (b := b) (nd b) 0 (qS0, [])
  have hL := qRows_len (t := t) (a := a) (b := b) (nd b) 0 (qS0, [])
  have hG := qRows_G ht ha hab (nd b) 0 (qS0, []) G0
  have hP := qRows_P (t := t) (a := a) (b := b) (nd b) 0 (qS0, [])
  rw [Nat.zero_add, nd_mod] at hS
  simp only [List.length_nil, nI_0] at E1
  unfold m_goRight
  rw [E1, qRight]
  clear E1
  generalize qRows t a b (nd b) 0 (qS0, []) = q at hS hK hL hG hP R1 hg1 ⊢
  obtain ⟨A, rs⟩ := q
  simp only [lS, lZ, Nat.pow_zero, Nat.mod_one, Nat.mul_zero, Nat.add_zero, Nat.zero_add, List.length_nil] at hS hK hL
  rcases rs with _ | ⟨r, _ | ⟨r2, l⟩⟩
  · skip
    refine ⟨s1, g1, ?_, R1⟩
    simp only [List.length_nil]
    rw [if_neg (by decide)]
  · skip
    refine ⟨s1, g1, ?_, R1⟩
    simp only [List.length_singleton]
    rw [if_neg (by decide)]
  · skip
    have h2 : (2 : Int32) ≤ nI (r :: r2 :: l).length := by
      rw [← nI2]; exact nI_le (by simp) (by simp only [List.length_cons] at hL ⊢; omega)
    simp only [lS, lZ] at hS hK
    obtain ⟨hr0, hrz⟩ := hg1 0 r rfl
    have hr0 : hm_A s1 17 0 = nI r := by rw [R1.2.2.2.2.2.2.1]; exact hr0
    have hr31 : r < 2 ^ 31 := by omega
    have hKA : sK A = ns1 r + (ns1 r2 + lZ l) := by have : sK qS0 = 0 := rfl; omega
    have R2 : RM s0 (hm_sI (hm_sI s1 29 (nI r)) 28 (nI (sK A - ns1 r))) (sR_ (sK_ A (sK A - ns1 r)) r) h t g1 := by
      obtain ⟨RS, R1, R2, R3, R4, R5, RG, RX⟩ := R1
      exact ⟨(RS.sI rfl).sI rfl, R1, rfl, rfl, R4, R5, RG, RX⟩
    simp only [List.length_cons] at hL
    have hG' : qG A 3 0 := hG
    obtain ⟨⟨B1, B2, B3⟩, C1, C2, C3⟩ := hG'
    have G2 : qG (sR_ (sK_ A (sK A - ns1 r)) r) (r2 :: l).length 0 := by
      refine ⟨⟨?_, B2, B3⟩, ?_, ?_, ?_⟩
      · show sK A - ns1 r ≤ 19 * (sA A).length; omega
      · show r < 2 ^ 31; omega
      · show (sA A).length + _ ≤ 120; simp; omega
      · show (if sF A = true then 0 else r) + 0 < 2 ^ 31
        split <;> omega
    obtain ⟨s3, E3, R3⟩ := qm_adds (p1 := nI a) (p2 := nI b) (n := (r :: r2 :: l).length) (e0 := fun s => some s) H ht (by simp; omega) (r2 :: l) hk_F 1 _ _ (pw_F (by simp; omega)) (by simp; omega) R2 hP hrz
      (fun i r' hi => by rw [Nat.add_comm]; exact hg1 (i + 1) r' (by simpa using hi)) G2 (by show r + lS (r2 :: l) < 2 ^ 31; rw [lS]; omega) (by show lZ (r2 :: l) ≤ sK A - ns1 r; rw [lZ]; omega)
    rw [nI1] at E3
    have l17 : hm_lI s1 17 4 (0 : Int32) = some (nI r) := by rw [← nI_0, hml (by decide) (by decide), hr0]
    refine ⟨s3, g1, ?_, R3⟩
    simp only [h2, if_true, hz_ob, l17, hz_nm, hmI_sI, Nat.reduceEqDiff, if_false, ll_digits hr31, R1.2.2.1, ← ns1_pos hrz, pk_sub (show ns1 r ≤ sK A by omega), E3]
end S2Q1
