set_option maxRecDepth 100000
/-! ===== STAGE 2: the choice: operands ===== -/
theorem nI_ex (v : Int32) : ∃ k, v = nI k := ⟨v.toBitVec.toNat, Int32.toBitVec_inj.mp (by show _ = BitVec.ofNat 32 v.toBitVec.toNat; simp)⟩
section S2K
variable {x rd n o : Nat} {B : Nat → Nat} {st : hk_St}
theorem c_opens {p : Nat} (R : RdS x rd n B p (-1) o st) (ho : o ≤ 6) (hp : p < n) : (o = 6 ∧ xReader_opens rd st = some (0, st)) ∨ (o < 6 ∧ xReader_opens rd st = some (1, hk_sfI (hk_sfI st 602 rd (nI (o + 1))) 600 rd (nI (p + 1))) ∧ RdS x rd n B (p + 1) (-1) (o + 1) (hk_sfI (hk_sfI st 602 rd (nI (o + 1))) 600 rd (nI (p + 1)))) := by
  have hn := R.1.2.2.2.2.1
  by_cases h : o = 6
  · refine Or.inl ⟨h, ?_⟩
    simp only [xReader_opens, gI_b R.bf, R.2.2.2.2.2.1, hz_ob, h, show nI 6 = (6 : Int32) from rfl, if_true]
  · have R1 : RdS x rd n B p (-1) (o + 1) (hk_sfI st 602 rd (nI (o + 1))) := R.opn
    have n6 : ¬ nI o = (6 : Int32) := fun q => h ((nI_eq (b := 6) (by omega) (by decide)).mp q)
    refine Or.inr ⟨by omega, ?_, R1.at (by omega) R.nn⟩
    simp only [xReader_opens, gI_b R.bf, pI_b R.bf, R.2.2.2.2.2.1, hz_ob, n6, if_false, nI_1, gI_b R1.bf, pI_b R1.bf, R1.2.2.2.1]
theorem nameOf_y {c : Nat} (h : (opL 3).contains c = true) : m_nameOf (nI c) = nI (nmx c) ∧ nmx c < 8 ∧ 1 ≤ c ∧ c < 128 ∧ c ≠ 33 ∧ c ≠ 45 ∧ c ≠ 40 := by
  have hc : c = 109 ∨ c = 110 ∨ c = 120 ∨ c = 121 ∨ c = 100 ∨ c = 122 ∨ c = 116 ∨ c = 99 := by simpa [opL] using h
  rcases hc with rfl | rfl | rfl | rfl | rfl | rfl | rfl | rfl <;> decide
theorem nameOf_n {c : Nat} (h : (opL 3).contains c = false) (h256 : c < 256) : m_nameOf (nI c) = -1 := by
  have hc : c ≠ 109 ∧ c ≠ 110 ∧ c ≠ 120 ∧ c ≠ 121 ∧ c ≠ 100 ∧ c ≠ 122 ∧ c ≠ 116 ∧ c ≠ 99 := by simpa [opL] using h
  have e : ∀ k : Nat, k < 256 → c ≠ k → ¬ nI c = nI k := fun k hk hne q => hne ((nI_eq (by omega) (by omega)).mp q)
  unfold m_nameOf
  rw [if_neg (show ¬ nI c = (99 : Int32) from e 99 (by decide) (by omega)), if_neg (show ¬ nI c = (100 : Int32) from e 100 (by decide) (by omega)), if_neg (show ¬ nI c = (109 : Int32) from e 109 (by decide) (by omega)), if_neg (show ¬ nI c = (110 : Int32) from e 110 (by decide) (by omega)), if_neg (show ¬ nI c = (116 : Int32) from e 116 (by decide) (by omega)), if_neg (show ¬ nI c = (120 : Int32) from e 120 (by decide) (by omega)), if_neg (show ¬ nI c = (121 : Int32) from e 121 (by decide) (by omega)), if_neg (show ¬ nI c = (122 : Int32) from e 122 (by decide) (by omega))]
/-- behind an operand within: the reference's end of it (c: the sign) -/
theorem opd_K {d : Nat} (hope : LvK x d 5) (hei : LvK x d 0) : LvK x (d + 1) 5 := by
  intro rd n B p o st R hfc hw ho hd
  show ∃ st' r, xReader_operand (g_R d 5) (g_R d 0) rd st = some (r, st') ∧ OutK x rd n B p o st (m_one (g_P d 0) (g_P d 5)) st' r
  have hn := R.1.2.2.2.2.1
  have hp := R.2.2.2.2.2.2
  have hB := R.hB
  have h256 := chr_256 hB (p := p)
  cases hnm : (opL 3).contains (chr B n p) with
  | true =>
    obtain ⟨q1, q2, q3, q4, q5, q6, q7⟩ := nameOf_y hnm
    have hlt : p < n := chr_ne (B := B) (n := n) (p := p) (by omega)
    have he : hv B n p = nI (chr B n p) := (hv_eq hB q3 q4).mpr rfl
    have R1 : RdS x rd n B (p + 1) (-1) o (hk_sfI st 600 rd (nI (p + 1))) := R.at (by omega) R.nn
    have fr1 : FrR rd st (hk_sfI st 600 rd (nI (p + 1))) := FrR.at
    have fc1 := hfc.nx hw fr1.nx
    have hw1 : Wp (hk_sfI st 600 rd (nI (p + 1))) := hw
    have hw2 : Wp (hk_mk (hk_sfI st 600 rd (nI (p + 1))) 8 0 1) := Wp.mk hw1
    have k8 : hk_k (hk_mk (hk_sfI st 600 rd (nI (p + 1))) 8 0 1) (hk_nx (hk_sfI st 600 rd (nI (p + 1)))) = some (8, 0) := by rw [k_mk, if_pos rfl]
    have R2 : RdS x rd n B (p + 1) (-1) o (hk_sfI (hk_mk (hk_sfI st 600 rd (nI (p + 1))) 8 0 1) 800 (hk_nx (hk_sfI st 600 rd (nI (p + 1)))) (nI (chr B n p))) := (R1.mk hw1).oI (Or.inl rfl)
    have fr2 : FrN (hk_sfI st 600 rd (nI (p + 1))) (hk_sfI (hk_mk (hk_sfI st 600 rd (nI (p + 1))) 8 0 1) 800 (hk_nx (hk_sfI st 600 rd (nI (p + 1)))) (nI (chr B n p))) := FrN.wI FrN.mk0
    have hN := NdE_name fc1 hw1 q4 hnm
    refine ⟨_, some (hk_nx (hk_sfI st 600 rd (nI (p + 1)))), ?_, p + 1, by omega, by omega, Fr.trans fr1 fr2.r, hw2, ?_, ?_, Or.inl ⟨fun N => N (chr B n p), _, by omega, R2, rfl, hN.nx Nx.rf (by omega), fun s0 s S P => ?_⟩⟩
    · simp only [xReader_operand, hz_nm, c_here R, hz_ob, hz_gd, R.bf, if_true, c_isOne R (show 3 < 4 by decide), hnm, show ¬ (1 : Int32) = 0 by decide, if_false, gI_b R.bf, pI_b R.bf, R.2.2.2.1, nI_1, xName_init, xNode_init, pI_b (bf_k k8), he]
    · show hk_nc st + 1 ≤ _; omega
    · show hk_ns st + 1 ≤ _; omega
    · have e : ∀ k : Nat, k < 256 → chr B n p ≠ k → ¬ nI (chr B n p) = nI k := fun k hk hne q => hne ((nI_eq (by omega) (by omega)).mp q)
      refine ⟨_, ?_, P.at⟩
      simp only [m_one, hz_nm, P.2.2.2.2.1, show (-1 : Int32) < 0 by decide, if_true, m_byte S P hp, hz_ob, show ¬ nI (chr B n p) = (33 : Int32) from e 33 (by decide) q5, show ¬ nI (chr B n p) = (45 : Int32) from e 45 (by decide) q6,
        show ¬ nI (chr B n p) = (40 : Int32) from e 40 (by decide) q7, if_false, q1, nI_pos (show nmx (chr B n p) < 2 ^ 31 by omega), P.2.2.2.1, nI_1, hml q2 (show 8 < 2 ^ 31 by decide), hmA_sI, P.2.1, Nm, hnm]
  | false =>
    have hnO := nameOf_n hnm h256
    by_cases hs : chr B n p = 33 ∨ chr B n p = 45
    · have hlt : p < n := chr_ne (B := B) (n := n) (p := p) (by omega)
      have he : hv B n p = nI (chr B n p) := (hv_eq hB (by omega) (by omega)).mpr rfl
      -- the class up to the operand within
      have hC : xReader_operand (g_R d 5) (g_R d 0) rd st = (xReader_opens rd st).bind fun q6 => if q6.1 = 0 then (xReader_wrong rd q6.2).bind fun q24 => hk_gd (hk_bf [6] q6.2 rd) (some (q24.1, q24.2))
          else (g_R d 5 rd q6.2).bind fun q9 => hk_gd (hk_bf [6] q6.2 rd) ((hk_gI [6] 602 q9.2 rd).bind fun x11 => (hk_pI [6] 602 q9.2 rd (x11 - (1 : Int32))).bind fun s12 => (hk_gI [6] 601 s12 rd).bind fun x13 =>
            if x13 < 0 then (if nI (chr B n p) = (33 : Int32) then (hk_nn q9.1 fun a22 => (xDenied_init (hk_nx s12) a22 (hk_mk s12 9 0 1)).bind fun s23 => some (some (hk_nx s12), s23))
              else (hk_nn q9.1 fun a18 => (xTurned_init (hk_nx s12) a18 (hk_mk s12 10 0 1)).bind fun s19 => some (some (hk_nx s12), s19))) else some (none, s12)) := by
        simp only [xReader_operand, hz_nm, c_here R, hz_ob, hz_gd, R.bf, if_true, c_isOne R (show 3 < 4 by decide), hnm, Bool.false_eq_true, if_false, he]
        rcases hs with h | h
        · simp only [h, show nI 33 = (33 : Int32) from rfl, if_true]
        · simp only [h, show nI 45 = (45 : Int32) from rfl, show ¬ (45 : Int32) = 33 by decide, if_false, if_true]
      -- the reference up to there
      have hM : ∀ s0 s, BSm n B s0 → Pm s0 s p (-1) o → m_one (g_P d 0) (g_P d 5) s = if nI o = (6 : Int32) then (m_wrong s).bind fun q23 => some (q23.1, q23.2)
          else (g_P d 5 (hm_sI (hm_sI s 14 (nI (o + 1))) 11 (nI (p + 1)))).bind fun q21 => if nI (chr B n p) = (45 : Int32) then some (-q21.1, hm_sI q21.2 14 (hm_I q21.2 14 - (1 : Int32))) else if q21.1 = 0 then some ((1 : Int32), hm_sI q21.2 14 (hm_I q21.2 14 - (1 : Int32))) else some ((0 : Int32), hm_sI q21.2 14 (hm_I q21.2 14 - (1 : Int32))) := by
        intro s0 s S P
        simp only [m_one, hz_nm, P.2.2.2.2.1, show (-1 : Int32) < 0 by decide, if_true, m_byte S P hp, hz_ob]
        rcases hs with h | h
        · simp only [h, show nI 33 = (33 : Int32) from rfl, if_true, P.2.2.2.2.2, nI_1, hmI_sI, Nat.reduceEqDiff, if_false, P.2.2.2.1, show ¬ (33 : Int32) = 40 by decide, show ¬ (33 : Int32) = 45 by decide]
        · simp only [h, show nI 45 = (45 : Int32) from rfl, show ¬ (45 : Int32) = 33 by decide, if_false, if_true, P.2.2.2.2.2, nI_1, hmI_sI, Nat.reduceEqDiff, P.2.2.2.1, show ¬ (45 : Int32) = 40 by decide]
      rw [hC]
      rcases c_opens R ho hlt with ⟨h6, hop⟩ | ⟨h6, hop, R1⟩
      · refine ⟨hk_sfI st 601 rd (nI p), none, ?_, p, Nat.le_refl _, hp, FrR.flt Fr.rf, hw, (by show hk_nc st ≤ _; omega), (by show hk_ns st ≤ _; omega), Or.inr ⟨p, o, hp, R.fault, fun s0 s S P => ?_⟩⟩
        · simp only [hop, hz_ob, if_true, c_wrong R, hz_gd, R.bf]
        · obtain ⟨s', h1, h2⟩ := m_wrong1 (B := B) (n := n) P hp
          refine ⟨0, s', ?_, h2⟩
          rw [hM s0 s S P, h6]
          simp only [show nI 6 = (6 : Int32) from rfl, if_true, h1, hz_ob]
      · have fr1 : FrR rd st (hk_sfI (hk_sfI st 602 rd (nI (o + 1))) 600 rd (nI (p + 1))) := Fr.sfI (FrR.opn Fr.rf) (fun _ => ⟨rfl, by decide, by decide⟩)
        have n6 : ¬ nI o = (6 : Int32) := fun q => by have := (nI_eq (b := 6) (by omega) (by decide)).mp q; omega
        obtain ⟨st2, r2, E2, p2, a1, a2, fr2, hw2, b1, b2, hO⟩ := hope rd n B (p + 1) (o + 1) _ R1 (hfc.nx hw fr1.nx) hw (by omega) (by omega)
        have c1 : hk_nc (hk_sfI (hk_sfI st 602 rd (nI (o + 1))) 600 rd (nI (p + 1))) = hk_nc st := rfl
        have c2 : hk_ns (hk_sfI (hk_sfI st 602 rd (nI (o + 1))) 600 rd (nI (p + 1))) = hk_ns st := rfl
        have fr12 : FrR rd st st2 := Fr.trans fr1 fr2
        rcases hO with ⟨f, nd, hlt2, R2, hr2, hN2, hMM⟩ | ⟨q, o', hq, R2, hMM⟩
        · subst hr2
          have R3 : RdS x rd n B p2 (-1) o (hk_sfI st2 602 rd (nI o)) := R2.opn
          have fr3 : FrR rd st (hk_sfI st2 602 rd (nI o)) := FrR.opn fr12
          have hw3 : Wp (hk_sfI st2 602 rd (nI o)) := hw2
          have hN3 : NdE x (hk_sfI st2 602 rd (nI o)) nd (p2 - (p + 1)) f := hN2.nx (FrR.nx (FrR.opn Fr.rf)) (Nat.le_refl _)
          have hsub : nI (o + 1) - (1 : Int32) = nI o := nI_pred o
          have hMr : ∀ s0 s, BSm n B s0 → Pm s0 s p (-1) o → ∃ s', m_one (g_P d 0) (g_P d 5) s = some (if chr B n p = 33 then (if f (Nm s0) = 0 then 1 else 0) else -f (Nm s0), s') ∧ Pm s0 s' p2 (-1) o := by
            intro s0 s S P
            obtain ⟨s2, h2, P2⟩ := hMM s0 _ S (P.opn (v := o + 1)).at
            refine ⟨hm_sI s2 14 (nI o), ?_, P2.opn⟩
            rw [hM s0 s S P, if_neg n6, h2, hz_ob]
            simp only [P2.2.2.2.2.2, hsub]
            rcases hs with h | h
            · simp only [h, show ¬ nI 33 = (45 : Int32) by decide, if_false, if_true]
              split <;> rfl
            · simp only [h, show nI 45 = (45 : Int32) from rfl, if_true, show ¬ 45 = 33 by decide, if_false]
          by_cases h33 : chr B n p = 33
          · have k9 : hk_k (hk_mk (hk_sfI st2 602 rd (nI o)) 9 0 1) (hk_nx (hk_sfI st2 602 rd (nI o))) = some (9, 0) := by rw [k_mk, if_pos rfl]
            have fr4 : FrN (hk_sfI st2 602 rd (nI o)) (hk_sfR (hk_mk (hk_sfI st2 602 rd (nI o)) 9 0 1) 900 (hk_nx (hk_sfI st2 602 rd (nI o))) (some nd)) := FrN.wR FrN.mk0
            refine ⟨_, some (hk_nx (hk_sfI st2 602 rd (nI o))), ?_, p2, by omega, a2, Fr.trans fr3 fr4.r, (Wp.mk (t := 9) (len := 0) (sl := 1) hw3), ?_, ?_, Or.inl ⟨fun N => if f N = 0 then 1 else 0, _, by omega, (R3.mk hw3).oR (Or.inl rfl), rfl, (NdE_denied hN3).nx Nx.rf (by omega), fun s0 s S P => ?_⟩⟩
            · simp only [hop, hz_ob, show ¬ (1 : Int32) = 0 by decide, if_false, E2, hz_gd, R1.bf, if_true, gI_b R2.bf, pI_b R2.bf, R2.2.2.2.2.2.1, hsub, gI_b R3.bf, R3.2.2.2.2.1, show (-1 : Int32) < 0 by decide, h33, show nI 33 = (33 : Int32) from rfl, hz_nn, xDenied_init, xNode_init, pR_b (bf_k k9)]
            · show hk_nc st2 + 1 ≤ _; omega
            · show hk_ns st2 + 1 ≤ _; omega
            · obtain ⟨s', h1, h2⟩ := hMr s0 s S P
              rw [if_pos h33] at h1
              exact ⟨s', h1, h2⟩
          · have k9 : hk_k (hk_mk (hk_sfI st2 602 rd (nI o)) 10 0 1) (hk_nx (hk_sfI st2 602 rd (nI o))) = some (10, 0) := by rw [k_mk, if_pos rfl]
            have h45 : chr B n p = 45 := by omega
            have fr4 : FrN (hk_sfI st2 602 rd (nI o)) (hk_sfR (hk_mk (hk_sfI st2 602 rd (nI o)) 10 0 1) 1000 (hk_nx (hk_sfI st2 602 rd (nI o))) (some nd)) := FrN.wR FrN.mk0
            refine ⟨_, some (hk_nx (hk_sfI st2 602 rd (nI o))), ?_, p2, by omega, a2, Fr.trans fr3 fr4.r, (Wp.mk (t := 10) (len := 0) (sl := 1) hw3), ?_, ?_, Or.inl ⟨fun N => -f N, _, by omega, (R3.mk hw3).oR (Or.inr (Or.inl rfl)), rfl, (NdE_turned hN3).nx Nx.rf (by omega), fun s0 s S P => ?_⟩⟩
            · simp only [hop, hz_ob, show ¬ (1 : Int32) = 0 by decide, if_false, E2, hz_gd, R1.bf, if_true, gI_b R2.bf, pI_b R2.bf, R2.2.2.2.2.2.1, hsub, gI_b R3.bf, R3.2.2.2.2.1, show (-1 : Int32) < 0 by decide, h45, show ¬ nI 45 = (33 : Int32) by decide, hz_nn, xTurned_init, xNode_init, pR_b (bf_k k9)]
            · show hk_nc st2 + 1 ≤ _; omega
            · show hk_ns st2 + 1 ≤ _; omega
            · obtain ⟨s', h1, h2⟩ := hMr s0 s S P
              rw [if_neg h33] at h1
              exact ⟨s', h1, h2⟩
        · obtain ⟨o2, ho2⟩ := nI_ex (nI o' - (1 : Int32))
          have R3 : RdS x rd n B p2 (nI q) o2 (hk_sfI st2 602 rd (nI o2)) := R2.opn
          refine ⟨hk_sfI st2 602 rd (nI o2), none, ?_, p2, by omega, a2, FrR.opn fr12, hw2, (by show hk_nc st2 ≤ _; omega), (by show hk_ns st2 ≤ _; omega), Or.inr ⟨q, o2, hq, R3, fun s0 s S P => ?_⟩⟩
          · simp only [hop, hz_ob, show ¬ (1 : Int32) = 0 by decide, if_false, E2, hz_gd, R1.bf, if_true, gI_b R2.bf, pI_b R2.bf, R2.2.2.2.2.2.1, ho2, gI_b R3.bf, R3.2.2.2.2.1, nI_pos (show q < 2 ^ 31 by omega)]
          · obtain ⟨v, s2, h2, P2⟩ := hMM s0 _ S (P.opn (v := o + 1)).at
            obtain ⟨o3, ho3⟩ := nI_ex (hm_I s2 14 - (1 : Int32))
            have P3 : RFm n B s0 (hm_sI s2 14 (nI o3)) q := by
              obtain ⟨p, fl, o, P, r⟩ := P2
              exact ⟨p, fl, o3, P.opn, r⟩
            rw [hM s0 s S P, if_neg n6, h2, hz_ob]
            simp only [ho3]
            split
            · exact ⟨_, _, rfl, P3⟩
            · split
              · exact ⟨_, _, rfl, P3⟩
              · exact ⟨_, _, rfl, P3⟩
    · by_cases h40 : chr B n p = 40
      · have hlt : p < n := chr_ne (B := B) (n := n) (p := p) (by omega)
        have he : hv B n p = (40 : Int32) := (hv_eq hB (c := 40) (by omega) (by omega)).mpr h40
        have hC : xReader_operand (g_R d 5) (g_R d 0) rd st = (xReader_opens rd st).bind fun q57 => if q57.1 = 0 then (xReader_wrong rd q57.2).bind fun q73 => hk_gd (hk_bf [6] q57.2 rd) (some (q73.1, q73.2))
            else (g_R d 0 rd q57.2).bind fun q60 => hk_gd (hk_bf [6] q57.2 rd) ((hk_gI [6] 601 q60.2 rd).bind fun x62 => if x62 < 0 then (xReader_here rd q60.2).bind fun x64 => hk_gd (hk_bf [6] q60.2 rd) (if x64 = (41 : Int32) then
                (hk_gI [6] 600 q60.2 rd).bind fun x67 => (hk_pI [6] 600 q60.2 rd (x67 + (1 : Int32))).bind fun s68 => (hk_gI [6] 602 s68 rd).bind fun x69 => (hk_pI [6] 602 s68 rd (x69 - (1 : Int32))).bind fun s70 => some (q60.1, s70)
                else (xReader_wrong rd q60.2).bind fun q71 => hk_gd (hk_bf [6] q60.2 rd) (some (q71.1, q71.2))) else some (none, q60.2)) := by
          simp only [xReader_operand, hz_nm, c_here R, hz_ob, hz_gd, R.bf, if_true, c_isOne R (show 3 < 4 by decide), hnm, Bool.false_eq_true, if_false, he, show ¬ (40 : Int32) = 33 by decide, show ¬ (40 : Int32) = 45 by decide]
        have hM : ∀ s0 s, BSm n B s0 → Pm s0 s p (-1) o → m_one (g_P d 0) (g_P d 5) s = if nI o = (6 : Int32) then (m_wrong s).bind fun q23 => some (q23.1, q23.2)
            else (g_P d 0 (hm_sI (hm_sI s 14 (nI (o + 1))) 11 (nI (p + 1)))).bind fun q22 => (m_takes (41 : Int32) q22.2).bind fun q12 => if q12.1 = 0 then (m_wrong q12.2).bind fun q14 => some (q14.1, q14.2)
              else some (q22.1, hm_sI q12.2 14 (hm_I q12.2 14 - (1 : Int32))) := by
          intro s0 s S P
          simp only [m_one, hz_nm, P.2.2.2.2.1, show (-1 : Int32) < 0 by decide, if_true, m_byte S P hp, hz_ob, h40, show nI 40 = (40 : Int32) from rfl, show ¬ (40 : Int32) = 33 by decide, show ¬ (40 : Int32) = 45 by decide, if_false, P.2.2.2.2.2, nI_1, hmI_sI, Nat.reduceEqDiff, P.2.2.2.1]
        rw [hC]
        rcases c_opens R ho hlt with ⟨h6, hop⟩ | ⟨h6, hop, R1⟩
        · refine ⟨hk_sfI st 601 rd (nI p), none, ?_, p, Nat.le_refl _, hp, FrR.flt Fr.rf, hw, (by show hk_nc st ≤ _; omega), (by show hk_ns st ≤ _; omega), Or.inr ⟨p, o, hp, R.fault, fun s0 s S P => ?_⟩⟩
          · simp only [hop, hz_ob, if_true, c_wrong R, hz_gd, R.bf]
          · obtain ⟨s', h1, h2⟩ := m_wrong1 (B := B) (n := n) P hp
            refine ⟨0, s', ?_, h2⟩
            rw [hM s0 s S P, h6]
            simp only [show nI 6 = (6 : Int32) from rfl, if_true, h1, hz_ob]
        · have fr1 : FrR rd st (hk_sfI (hk_sfI st 602 rd (nI (o + 1))) 600 rd (nI (p + 1))) := Fr.sfI (FrR.opn Fr.rf) (fun _ => ⟨rfl, by decide, by decide⟩)
          have n6 : ¬ nI o = (6 : Int32) := fun q => by have := (nI_eq (b := 6) (by omega) (by decide)).mp q; omega
          obtain ⟨st2, r2, E2, p2, a1, a2, fr2, hw2, b1, b2, hO⟩ := hei rd n B (p + 1) (o + 1) _ R1 (hfc.nx hw fr1.nx) hw (by omega) (by omega)
          have c1 : hk_nc (hk_sfI (hk_sfI st 602 rd (nI (o + 1))) 600 rd (nI (p + 1))) = hk_nc st := rfl
          have c2 : hk_ns (hk_sfI (hk_sfI st 602 rd (nI (o + 1))) 600 rd (nI (p + 1))) = hk_ns st := rfl
          have fr12 : FrR rd st st2 := Fr.trans fr1 fr2
          have hsub : nI (o + 1) - (1 : Int32) = nI o := nI_pred o
          rcases hO with ⟨f, nd, hlt2, R2, hr2, hN2, hMM⟩ | ⟨q, o', hq, R2, hMM⟩
          · subst hr2
            have hy := hv_eq hB (p := p2) (c := 41) (by decide) (by decide)
            by_cases h41 : chr B n p2 = 41
            · have hlt3 : p2 < n := chr_ne (B := B) (n := n) (p := p2) (by omega)
              have he2 : hv B n p2 = (41 : Int32) := hy.mpr h41
              have R3 : RdS x rd n B (p2 + 1) (-1) (o + 1) (hk_sfI st2 600 rd (nI (p2 + 1))) := R2.at (by omega) R2.nn
              have R4 : RdS x rd n B (p2 + 1) (-1) o (hk_sfI (hk_sfI st2 600 rd (nI (p2 + 1))) 602 rd (nI o)) := R3.opn
              have fr3 : FrR rd st2 (hk_sfI (hk_sfI st2 600 rd (nI (p2 + 1))) 602 rd (nI o)) := FrR.opn FrR.at
              refine ⟨_, some nd, ?_, p2 + 1, by omega, by omega, Fr.trans fr12 fr3, hw2, (by show hk_nc st2 ≤ _; omega), (by show hk_ns st2 ≤ _; omega), Or.inl ⟨f, nd, by omega, R4, rfl, hN2.nx fr3.nx (by omega), fun s0 s S P => ?_⟩⟩
              · simp only [hop, hz_ob, show ¬ (1 : Int32) = 0 by decide, if_false, E2, hz_gd, R1.bf, if_true, gI_b R2.bf, pI_b R2.bf, R2.2.2.2.2.1, R2.2.2.2.1, show (-1 : Int32) < 0 by decide, c_here R2, R2.bf, he2, nI_1, gI_b R3.bf, pI_b R3.bf, R3.2.2.2.2.2.1, hsub]
              · obtain ⟨s2, h2, P2⟩ := hMM s0 _ S (P.opn (v := o + 1)).at
                refine ⟨_, ?_, P2.at.opn (v := o)⟩
                rw [hM s0 s S P, if_neg n6, h2, hz_ob, show (41 : Int32) = nI 41 from rfl, m_take_y S P2 a2 h41]
                simp only [hz_ob, show ¬ (1 : Int32) = 0 by decide, hmI_sI, Nat.reduceEqDiff, if_false, P2.2.2.2.2.2, hsub]
            · have hne : ¬ hv B n p2 = (41 : Int32) := fun q => h41 (hy.mp q)
              refine ⟨hk_sfI st2 601 rd (nI p2), none, ?_, p2, by omega, a2, FrR.flt fr12, hw2, (by show hk_nc st2 ≤ _; omega), (by show hk_ns st2 ≤ _; omega), Or.inr ⟨p2, o + 1, a2, R2.fault, fun s0 s S P => ?_⟩⟩
              · simp only [hop, hz_ob, show ¬ (1 : Int32) = 0 by decide, if_false, E2, hz_gd, R1.bf, if_true, gI_b R2.bf, R2.2.2.2.2.1, show (-1 : Int32) < 0 by decide, c_here R2, R2.bf, hne, c_wrong R2]
              · obtain ⟨s2, h2, P2⟩ := hMM s0 _ S (P.opn (v := o + 1)).at
                obtain ⟨s3, h3, h4⟩ := m_wrong1 (B := B) (n := n) P2 a2
                refine ⟨0, s3, ?_, h4⟩
                rw [hM s0 s S P, if_neg n6, h2, hz_ob, show (41 : Int32) = nI 41 from rfl, m_take_n S P2 a2 (by decide) hB h41, hz_ob, if_pos rfl, h3, hz_ob]
          · refine ⟨st2, none, ?_, p2, by omega, a2, fr12, hw2, by omega, by omega, Or.inr ⟨q, o', hq, R2, fun s0 s S P => ?_⟩⟩
            · simp only [hop, hz_ob, show ¬ (1 : Int32) = 0 by decide, if_false, E2, hz_gd, R1.bf, if_true, gI_b R2.bf, R2.2.2.2.2.1, nI_pos (show q < 2 ^ 31 by omega)]
            · obtain ⟨v, s2, h2, P2⟩ := hMM s0 _ S (P.opn (v := o + 1)).at
              obtain ⟨s3, h3, P3⟩ := P2.wrong hn
              refine ⟨0, s3, ?_, P3⟩
              rw [hM s0 s S P, if_neg n6, h2, hz_ob, show (41 : Int32) = nI 41 from rfl, P2.take S hB (by decide) (by decide), hz_ob, if_pos rfl, h3, hz_ob]
      · -- figures
        have m33 : chr B n p ≠ 33 := by omega
        have m45 : chr B n p ≠ 45 := by omega
        have e1 : ¬ hv B n p = (33 : Int32) := fun q => m33 ((hv_eq hB (c := 33) (by decide) (by decide)).mp q)
        have e2 : ¬ hv B n p = (45 : Int32) := fun q => m45 ((hv_eq hB (c := 45) (by decide) (by decide)).mp q)
        have e3 : ¬ hv B n p = (40 : Int32) := fun q => h40 ((hv_eq hB (c := 40) (by decide) (by decide)).mp q)
        obtain ⟨k', v', p', st1, i1, i2, i3, i4, i5, i6, R1, fr1, hw1, c1, c2, iC⟩ := digits_K (rcC1 := g_R d 5) (rcC2 := g_R d 0) (rcM1 := g_P d 0) (rcM2 := g_P d 5)
          (eC := fun (v37 : Int32) (v38 : Int32) (s39 : hk_St) =>
          if v37 = 0 then
            (xReader_wrong rd s39).bind fun q2 => hk_gd (hk_bf [6] s39 rd) (some (q2.1, q2.2))
          else
          (xReader_here rd s39).bind fun x51 =>
          hk_gd (hk_bf [6] s39 rd) <|
          if (x_in x51 (48 : Int32) (57 : Int32)) = 0 then
            (xLeaf_init (hk_nx s39) v38 (hk_mk s39 11 0 1)).bind fun s56 =>
            some (some (hk_nx s39), s56)
          else
          (xReader_wrong rd s39).bind fun q2 => hk_gd (hk_bf [6] s39 rd) (some (q2.1, q2.2)))
          (eM := fun (v34 : Int32) (v35 : Int32) (s36 : hk_Ms) =>
          if v35 = 0 then
            (m_wrong  s36).bind fun q47 =>
          some (q47.1, q47.2)
          else
          some (v34, s36)) 4 hk_F 0 0 p st (pw_F (by decide)) rfl R hw
        have hC : xReader_operand (g_R d 5) (g_R d 0) rd st = xReader_operand_L179 (g_R d 5) (g_R d 0) rd (fun (v37 : Int32) (v38 : Int32) (s39 : hk_St) =>
            if v37 = 0 then
              (xReader_wrong rd s39).bind fun q2 => hk_gd (hk_bf [6] s39 rd) (some (q2.1, q2.2))
            else
            (xReader_here rd s39).bind fun x51 =>
            hk_gd (hk_bf [6] s39 rd) <|
            if (x_in x51 (48 : Int32) (57 : Int32)) = 0 then
              (xLeaf_init (hk_nx s39) v38 (hk_mk s39 11 0 1)).bind fun s56 =>
              some (some (hk_nx s39), s56)
            else
            (xReader_wrong rd s39).bind fun q2 => hk_gd (hk_bf [6] s39 rd) (some (q2.1, q2.2))) hk_F (nI 0) 0 st := by
            unfold xReader_operand
            simp only [hz_nm]
            rw [c_here R, hz_ob, hz_gd, if_pos R.bf, c_isOne R (by decide), hz_ob, hz_gd, if_pos R.bf, hnm, if_pos (show (if false = true then (1 : Int32) else 0) = 0 from rfl), if_neg e1, if_neg e2, if_neg e3, nI_0]
        have hM : ∀ s0 s, BSm n B s0 → Pm s0 s p (-1) o → ∃ s', Pm s0 s' p' (-1) o ∧ m_one (g_P d 0) (g_P d 5) s = (if nI k' = 0 then (m_wrong s').bind fun q47 => some (q47.1, q47.2) else some (v', s')) := by
          intro s0 s S P
          obtain ⟨s', h1, P1⟩ := iC s0 s S P
          have e : ∀ k : Nat, k < 256 → chr B n p ≠ k → ¬ nI (chr B n p) = nI k := fun k hk hne q => hne ((nI_eq (by omega) (by omega)).mp q)
          refine ⟨s', P1, ?_⟩
          rw [← h1]
          unfold m_one
          simp only [hz_nm]
          rw [P.2.2.2.2.1, if_pos (by decide), m_byte S P hp, hz_ob, if_neg (show ¬ nI (chr B n p) = (33 : Int32) from e 33 (by decide) m33), if_neg (show ¬ nI (chr B n p) = (45 : Int32) from e 45 (by decide) m45),
            if_neg (show ¬ nI (chr B n p) = (40 : Int32) from e 40 (by decide) h40), hnO, if_pos (by decide), nI_0]
        rw [hC, i6]
        by_cases hk0 : k' = 0
        · subst hk0
          have hpp : p' = p := by omega
          subst hpp
          refine ⟨hk_sfI st1 601 rd (nI p'), none, ?_, p', Nat.le_refl _, hp, FrR.flt fr1, hw1, (by show hk_nc st1 ≤ _; omega), (by show hk_ns st1 ≤ _; omega), Or.inr ⟨p', o, hp, R1.fault, fun s0 s S P => ?_⟩⟩
          · simp only [show nI 0 = (0 : Int32) from rfl, if_true, c_wrong R1, hz_ob, hz_gd, R1.bf]
          · obtain ⟨s1, P1, h1⟩ := hM s0 s S P
            obtain ⟨s2, h2, h3⟩ := m_wrong1 (B := B) (n := n) P1 hp
            refine ⟨0, s2, ?_, h3⟩
            rw [h1, if_pos (show nI 0 = (0 : Int32) from rfl), h2, hz_ob]
        · have nk : ¬ nI k' = (0 : Int32) := fun q => hk0 ((nI_eq (b := 0) (by omega) (by decide)).mp q)
          have hp' := R1.2.2.2.2.2.2
          cases hdg : dgt (chr B n p') with
          | true =>
            refine ⟨hk_sfI st1 601 rd (nI p'), none, ?_, p', by omega, hp', FrR.flt fr1, hw1, (by show hk_nc st1 ≤ _; omega), (by show hk_ns st1 ≤ _; omega), Or.inr ⟨p', o, hp', R1.fault, fun s0 s S P => ?_⟩⟩
            · simp only [nk, if_false, c_here R1, hz_ob, hz_gd, R1.bf, if_true, c_dig hB, hdg, show ¬ (1 : Int32) = 0 by decide, c_wrong R1]
            · obtain ⟨s1, P1, h1⟩ := hM s0 s S P
              exact ⟨v', s1, by rw [h1, if_neg nk], p', -1, o, P1, hp', hp', Or.inr ⟨rfl, rfl, hdg⟩⟩
          | false =>
            have k11 : hk_k (hk_mk st1 11 0 1) (hk_nx st1) = some (11, 0) := by rw [k_mk, if_pos rfl]
            have fr2 : FrN st1 (hk_sfI (hk_mk st1 11 0 1) 1100 (hk_nx st1) v') := FrN.wI FrN.mk0
            refine ⟨hk_sfI (hk_mk st1 11 0 1) 1100 (hk_nx st1) v', some (hk_nx st1), ?_, p', by omega, hp', Fr.trans fr1 fr2.r, (Wp.mk (t := 11) (len := 0) (sl := 1) hw1), (by show hk_nc st1 + 1 ≤ _; omega), (by show hk_ns st1 + 1 ≤ _; omega),
              Or.inl ⟨fun _ => v', hk_nx st1, by omega, (R1.mk hw1).oI (Or.inr (Or.inl rfl)), rfl, NdE_leaf.nx Nx.rf (by omega), fun s0 s S P => ?_⟩⟩
            · simp only [nk, if_false, c_here R1, hz_ob, hz_gd, R1.bf, if_true, c_dig hB, hdg, Bool.false_eq_true, xLeaf_init, xNode_init, pI_b (bf_k k11)]
            · obtain ⟨s1, P1, h1⟩ := hM s0 s S P
              exact ⟨s1, by rw [h1, if_neg nk], P1⟩
/-- all levels -/
theorem all_K (x : Nat) : ∀ d, LvK x d 0 ∧ LvK x d 1 ∧ LvK x d 2 ∧ LvK x d 3 ∧ LvK x d 4 ∧ LvK x d 5 := by
  intro d
  induction d with
  | zero => refine ⟨?_, ?_, ?_, ?_, ?_, ?_⟩ <;> (intro rd n B p o st _ _ _ _ hd; omega)
  | succ d ih =>
    obtain ⟨h0, h1, h2, h3, h4, h5⟩ := ih
    exact ⟨or_K h1, and_K h2, cmp_K h3, sum_K h4, prod_K h5, opd_K h5 h0⟩
end S2K
