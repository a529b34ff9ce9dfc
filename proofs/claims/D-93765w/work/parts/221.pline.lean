set_option maxRecDepth 100000
/-! ===== STAGE 2: the choice: lines ===== -/
abbrev qLn1 : Type := Option qF × qF
def lnH (ln : qLn1) (N : Nat → Int32) : Bool := match ln.1 with
  | none => true
  | some h => decide (h N ≠ 0)
def qGv : List qLn1 → (Nat → Int32) → Int32
  | [], _ => 0
  | ln :: l, N => if lnH ln N = true then ln.2 N else qGv l N
def qGh : List qLn1 → (Nat → Int32) → Bool
  | [], _ => false
  | ln :: l, N => lnH ln N || qGh l N
theorem qGh_ap (ln : qLn1) (N : Nat → Int32) : ∀ l, qGh (l ++ [ln]) N = (qGh l N || lnH ln N) := by
  intro l
  induction l with
  | nil => simp [qGh]
  | cons a l ih => simp [qGh, ih, Bool.or_assoc]
theorem qGv_ap (ln : qLn1) (N : Nat → Int32) : ∀ l, qGv (l ++ [ln]) N = if qGh l N = true then qGv l N else if lnH ln N = true then ln.2 N else 0 := by
  intro l
  induction l with
  | nil => simp [qGv, qGh]
  | cons a l ih =>
    simp only [List.cons_append, qGv, qGh, ih]
    by_cases h : lnH a N = true
    · simp [h]
    · simp [h]
/-- a line of the class -/
def LnE (x : Nat) (st : hk_St) (a : Nat) (ln : qLn1) : Prop := (match ln.1 with
  | none => hk_fR st 700 a = none
  | some h => ∃ nd, hk_fR st 700 a = some nd ∧ NdE x st nd 120 h) ∧ ∃ nd, hk_fR st 701 a = some nd ∧ NdE x st nd 120 ln.2
/-- given, gives behind a line -/
def stp (ln : qLn1) (N : Nat → Int32) (g v : Int32) : Int32 × Int32 := if lnH ln N = true ∧ g = 0 then (1, ln.2 N) else (g, v)
section S2Q
variable {x rd n : Nat} {B : Nat → Nat} {st : hk_St}
theorem Nx.oR {f a : Nat} {v : Option Nat} (hf : ¬ nodeR f) : Nx st (hk_sfR st f a v) := ⟨Nat.le_refl _, fun _ _ => rfl, fun _ _ _ _ => rfl, fun g c _ hg => by rw [fR_sfR, if_neg (fun q => hf (by rw [← q.1]; exact hg))]⟩
theorem nr700 : ¬ nodeR 700 := by unfold nodeR; omega
theorem nr701 : ¬ nodeR 701 := by unfold nodeR; omega
theorem nr702 : ¬ nodeR 702 := by unfold nodeR; omega
theorem line_K {p : Nat} {p1 p2 : Int32} {e0 : Int32 → hk_Ms → Option (Int32 × hk_Ms)} {rc : Int32 → Int32 → Int32 → hk_Ms → Option (Int32 × hk_Ms)} (R : RdS x rd n B p (-1) 0 st) (hfc : FcS x st) (hw : Wp st) :
    ∃ st' p', xReader_line rd st = some (some (hk_nx st), st') ∧ p ≤ p' ∧ p' ≤ n ∧ FrR rd st st' ∧ Wp st' ∧ hk_nc st' ≤ hk_nc st + 1 + (p' - p) ∧ hk_ns st' ≤ hk_ns st + 3 + 3 * (p' - p) ∧ hk_k st' (hk_nx st) = some (7, 0) ∧ hk_fR st' 702 (hk_nx st) = none ∧ hk_nx st < hk_nx st' ∧
     ((∃ ln, RdS x rd n B p' (-1) 0 st' ∧ LnE x st' (hk_nx st) ln ∧ ∀ s0 s g v, BSm n B s0 → Pm s0 s p (-1) 0 → ∃ s', m_workOut_L33b p1 p2 e0 rc g v 1 s = ((m_takes (59 : Int32) s').bind fun q15 => rc (stp ln (Nm s0) g v).1 (stp ln (Nm s0) g v).2 q15.1 q15.2) ∧ Pm s0 s' p' (-1) 0) ∨
      (∃ q o', q ≤ n ∧ RdS x rd n B p' (nI q) o' st' ∧ ∀ s0 s g v, BSm n B s0 → Pm s0 s p (-1) 0 → ∃ g' v' s', m_workOut_L33b p1 p2 e0 rc g v 1 s = ((m_takes (59 : Int32) s').bind fun q15 => rc g' v' q15.1 q15.2) ∧ RFm n B s0 s' q)) := by
  have hn := R.1.2.2.2.2.1
  have hB := R.hB
  have hLv := (all_K x 60).1
  have R1 : RdS x rd n B p (-1) 0 (hk_mk st 7 0 3) := R.mk hw
  have fr1 : FrR rd st (hk_mk st 7 0 3) := FrN.r FrN.mk0
  have fc1 := hfc.nx hw fr1.nx
  have hw1 : Wp (hk_mk st 7 0 3) := Wp.mk hw
  have k7 : hk_k (hk_mk st 7 0 3) (hk_nx st) = some (7, 0) := by rw [k_mk, if_pos rfl]
  have n7 : hk_fR (hk_mk st 7 0 3) 702 (hk_nx st) = none := by rw [fR_mk, if_pos rfl]
  have n70 : hk_fR (hk_mk st 7 0 3) 700 (hk_nx st) = none := by rw [fR_mk, if_pos rfl]
  have hlt1 : hk_nx st < hk_nx (hk_mk st 7 0 3) := Nat.lt_succ_self _
  have g1 : hk_nc (hk_mk st 7 0 3) = hk_nc st + 1 := rfl
  have g2 : hk_ns (hk_mk st 7 0 3) = hk_ns st + 3 := rfl
  obtain ⟨st2, r2, E2, p2', a1, a2, fr2, hw2, b1, b2, hO⟩ := hLv rd n B p 0 _ R1 fc1 hw1 (by decide) (by decide)
  have k72 : hk_k st2 (hk_nx st) = some (7, 0) := (fr2.2.1 _ hlt1).trans k7
  have n72 : hk_fR st2 702 (hk_nx st) = none := (fr2.2.2.2.2.1 _ _ hlt1 (fun q => q)).trans n7
  have n702 : hk_fR st2 700 (hk_nx st) = none := (fr2.2.2.2.2.1 _ _ hlt1 (fun q => q)).trans n70
  have fr12 : FrR rd st st2 := Fr.trans fr1 fr2
  have hlt2 : hk_nx st < hk_nx st2 := Nat.lt_of_lt_of_le hlt1 fr2.1
  -- 701 written
  have w1 : hk_pR [7] 701 st2 (hk_nx st) r2 = some (hk_sfR st2 701 (hk_nx st) r2) := pR_b (bf_k k72)
  have fr3 : FrR rd st (hk_sfR st2 701 (hk_nx st) r2) := Fr.sfR fr12 (fun q => absurd q (Nat.lt_irrefl _))
  rcases hO with ⟨f, nd, hlt, R2, hr2, hN2, hM2⟩ | ⟨q, o', hq, R2, hM2⟩
  · subst hr2
    have R3 : RdS x rd n B p2' (-1) 0 (hk_sfR st2 701 (hk_nx st) (some nd)) := R2.oR (by omega)
    by_cases h63 : chr B n p2' = 63
    · have hlt3 : p2' < n := chr_ne (B := B) (n := n) (p := p2') (by omega)
      have he : hv B n p2' = (63 : Int32) := (hv_eq hB (c := 63) (by decide) (by decide)).mpr h63
      have k73 : hk_k (hk_sfR st2 701 (hk_nx st) (some nd)) (hk_nx st) = some (7, 0) := k72
      have R4 : RdS x rd n B (p2' + 1) (-1) 0 (hk_sfI (hk_sfR st2 701 (hk_nx st) (some nd)) 600 rd (nI (p2' + 1))) := R3.at (by omega) R3.nn
      have k74 : hk_k (hk_sfI (hk_sfR st2 701 (hk_nx st) (some nd)) 600 rd (nI (p2' + 1))) (hk_nx st) = some (7, 0) := k72
      have v701 : hk_fR (hk_sfI (hk_sfR st2 701 (hk_nx st) (some nd)) 600 rd (nI (p2' + 1))) 701 (hk_nx st) = some nd := by rw [fR_sfI, fR_sfR, if_pos ⟨rfl, rfl⟩]
      have R5 : RdS x rd n B (p2' + 1) (-1) 0 (hk_sfR (hk_sfI (hk_sfR st2 701 (hk_nx st) (some nd)) 600 rd (nI (p2' + 1))) 700 (hk_nx st) (some nd)) := R4.oR (by omega)
      have fr4 : FrR rd st (hk_sfI (hk_sfR st2 701 (hk_nx st) (some nd)) 600 rd (nI (p2' + 1))) := Fr.sfI fr3 (fun _ => ⟨rfl, by decide, by decide⟩)
      have fr5 : FrR rd st (hk_sfR (hk_sfI (hk_sfR st2 701 (hk_nx st) (some nd)) 600 rd (nI (p2' + 1))) 700 (hk_nx st) (some nd)) := Fr.sfR fr4 (fun q => absurd q (Nat.lt_irrefl _))
      have hw5 : Wp (hk_sfR (hk_sfI (hk_sfR st2 701 (hk_nx st) (some nd)) 600 rd (nI (p2' + 1))) 700 (hk_nx st) (some nd)) := hw2
      have fc5 := hfc.nx hw fr5.nx
      have x25 : Nx st2 (hk_sfR (hk_sfI (hk_sfR st2 701 (hk_nx st) (some nd)) 600 rd (nI (p2' + 1))) 700 (hk_nx st) (some nd)) := ((Nx.oR nr701).trans (FrR.nx (rd := rd) FrR.at)).trans (Nx.oR nr700)
      have v700 : hk_fR (hk_sfR (hk_sfI (hk_sfR st2 701 (hk_nx st) (some nd)) 600 rd (nI (p2' + 1))) 700 (hk_nx st) (some nd)) 700 (hk_nx st) = some nd := by rw [fR_sfR, if_pos ⟨rfl, rfl⟩]
      have v702 : hk_fR (hk_sfR (hk_sfI (hk_sfR st2 701 (hk_nx st) (some nd)) 600 rd (nI (p2' + 1))) 700 (hk_nx st) (some nd)) 702 (hk_nx st) = none := by
        rw [fR_sfR, if_neg (fun q => absurd q.1 (by decide)), fR_sfI, fR_sfR, if_neg (fun q => absurd q.1 (by decide))]; exact n72
      have k75 : hk_k (hk_sfR (hk_sfI (hk_sfR st2 701 (hk_nx st) (some nd)) 600 rd (nI (p2' + 1))) 700 (hk_nx st) (some nd)) (hk_nx st) = some (7, 0) := k72
      have c5 : hk_nc (hk_sfR (hk_sfI (hk_sfR st2 701 (hk_nx st) (some nd)) 600 rd (nI (p2' + 1))) 700 (hk_nx st) (some nd)) = hk_nc st2 := rfl
      have c5s : hk_ns (hk_sfR (hk_sfI (hk_sfR st2 701 (hk_nx st) (some nd)) 600 rd (nI (p2' + 1))) 700 (hk_nx st) (some nd)) = hk_ns st2 := rfl
      have hlt5 : hk_nx st < hk_nx (hk_sfR (hk_sfI (hk_sfR st2 701 (hk_nx st) (some nd)) 600 rd (nI (p2' + 1))) 700 (hk_nx st) (some nd)) := hlt2
      have E1 : ∀ r6 st6, g_R 60 0 rd (hk_sfR (hk_sfI (hk_sfR st2 701 (hk_nx st) (some nd)) 600 rd (nI (p2' + 1))) 700 (hk_nx st) (some nd)) = some (r6, st6) → hk_k st6 (hk_nx st) = some (7, 0) → xReader_line rd st = some (some (hk_nx st), hk_sfR st6 701 (hk_nx st) r6) := by
        intro r6 st6 h6 k6
        simp only [xReader_line, hz_nm, xLine_init, hz_ob, E2, hz_gd, R1.bf, if_true, w1, gI_b R3.bf, R3.2.2.2.2.1, nlem1, if_false, c_here R3, R3.bf, he, R3.2.2.2.1, pI_b R3.bf, nI_1, gR_b (bf_k k74), v701, pR_b (bf_k k74), h6, R5.bf, pR_b (bf_k k6)]
      generalize hk_sfR (hk_sfI (hk_sfR st2 701 (hk_nx st) (some nd)) 600 rd (nI (p2' + 1))) 700 (hk_nx st) (some nd) = st5 at *
      obtain ⟨st6, r6, E6, p6, d1, d2, fr6, hw6, e1, e2, hO6⟩ := hLv rd n B (p2' + 1) 0 _ R5 fc5 hw5 (by decide) (by decide)
      have k76 : hk_k st6 (hk_nx st) = some (7, 0) := (fr6.2.1 _ hlt5).trans k75
      have v706 : hk_fR st6 700 (hk_nx st) = some nd := (fr6.2.2.2.2.1 _ _ hlt5 (fun q => q)).trans v700
      have v726 : hk_fR st6 702 (hk_nx st) = none := (fr6.2.2.2.2.1 _ _ hlt5 (fun q => q)).trans v702
      have fr7 : FrR rd st (hk_sfR st6 701 (hk_nx st) r6) := Fr.sfR (Fr.trans fr5 fr6) (fun q => absurd q (Nat.lt_irrefl _))
      have hMq : ∀ s0 s g v, BSm n B s0 → Pm s0 s p (-1) 0 → ∃ s2, Pm s0 s2 (p2' + 1) (-1) 0 ∧ m_workOut_L33b p1 p2 e0 rc g v 1 s = (g_P 60 0 s2).bind fun q28 => (if (0 : Int32) ≤ hm_I q28.2 13 then (m_takes (59 : Int32) q28.2).bind fun q15 => rc g v q15.1 q15.2 else
            if f (Nm s0) = 0 then (m_takes (59 : Int32) q28.2).bind fun q15 => rc g v q15.1 q15.2 else if g = 0 then (m_takes (59 : Int32) q28.2).bind fun q15 => rc 1 q28.1 q15.1 q15.2 else (m_takes (59 : Int32) q28.2).bind fun q15 => rc g v q15.1 q15.2) := by
        intro s0 s g v S P
        obtain ⟨s2, h2, P2⟩ := hM2 s0 s S P
        refine ⟨_, P2.at, ?_⟩
        simp only [m_workOut_L33b, hz_nm, show ¬ (1 : Int32) = 0 by decide, if_false, h2, hz_ob, show m_takes (63 : Int32) s2 = some (1, hm_sI s2 11 (nI (p2' + 1))) from m_take_y S P2 a2 h63]
        by_cases hf : f (Nm s0) = 0
        · simp only [hf, if_true]
        · simp only [hf, if_false, show ¬ (1 : Int32) = 0 by decide]
      rcases hO6 with ⟨h, nd6, hlt6, R6, hr6, hN6, hM6⟩ | ⟨q, o', hq, R6, hM6⟩
      · subst hr6
        refine ⟨_, p6, E1 _ _ E6 k76, by omega, d2, fr7, hw6, (by show hk_nc st6 ≤ _; omega), (by show hk_ns st6 ≤ _; omega), k76, ?_, Nat.lt_of_lt_of_le hlt5 fr6.1, Or.inl ⟨(some f, h), R6.oR (by omega), ⟨⟨nd, ?_, ?_⟩, nd6, ?_, ?_⟩, fun s0 s g v S P => ?_⟩⟩
        · rw [fR_sfR, if_neg (fun q => absurd q.1 (by decide))]; exact v726
        · rw [fR_sfR, if_neg (fun q => absurd q.1 (by decide))]; exact v706
        · exact hN2.nx ((x25.trans fr6.nx).trans (Nx.oR nr701)) (by omega)
        · rw [fR_sfR, if_pos ⟨rfl, rfl⟩]
        · exact hN6.nx (Nx.oR nr701) (by omega)
        · obtain ⟨s2, P2, h2⟩ := hMq s0 s g v S P
          obtain ⟨s6, h6, P6⟩ := hM6 s0 s2 S P2
          refine ⟨s6, ?_, P6⟩
          rw [h2, h6, hz_ob]
          simp only [P6.2.2.2.2.1, nlem1, if_false, stp, lnH]
          by_cases hf : f (Nm s0) = 0
          · simp only [hf, if_true, ne_eq, not_true_eq_false, decide_false, Bool.false_eq_true, false_and, if_false]
          · simp only [hf, if_false, ne_eq, not_false_eq_true, decide_true, true_and]
            by_cases hg : g = 0
            · simp only [hg, if_true]
            · simp only [hg, if_false]
      · refine ⟨_, p6, E1 _ _ E6 k76, by omega, d2, fr7, hw6, (by show hk_nc st6 ≤ _; omega), (by show hk_ns st6 ≤ _; omega), k76, ?_, Nat.lt_of_lt_of_le hlt5 fr6.1, Or.inr ⟨q, o', hq, R6.oR (by omega), fun s0 s g v S P => ?_⟩⟩
        · rw [fR_sfR, if_neg (fun q => absurd q.1 (by decide))]; exact v726
        · obtain ⟨s2, P2, h2⟩ := hMq s0 s g v S P
          obtain ⟨w, s6, h6, P6⟩ := hM6 s0 s2 S P2
          rw [h2, h6, hz_ob]
          split
          · exact ⟨g, v, s6, rfl, P6⟩
          · split
            · exact ⟨g, v, s6, rfl, P6⟩
            · split
              · exact ⟨1, w, s6, rfl, P6⟩
              · exact ⟨g, v, s6, rfl, P6⟩
    · have hne : ¬ hv B n p2' = (63 : Int32) := fun q => h63 ((hv_eq hB (c := 63) (by decide) (by decide)).mp q)
      refine ⟨hk_sfR st2 701 (hk_nx st) (some nd), p2', ?_, a1, a2, fr3, hw2, (by show hk_nc st2 ≤ _; omega), (by show hk_ns st2 ≤ _; omega), k72, ?_, hlt2, Or.inl ⟨(none, f), R3, ⟨?_, nd, ?_, ?_⟩, fun s0 s g v S P => ?_⟩⟩
      · simp only [xReader_line, hz_nm, xLine_init, hz_ob, E2, hz_gd, R1.bf, if_true, w1, gI_b R3.bf, R3.2.2.2.2.1, nlem1, if_false, c_here R3, R3.bf, hne]
      · rw [fR_sfR, if_neg (fun q => absurd q.1 (by decide))]; exact n72
      · show hk_fR (hk_sfR st2 701 (hk_nx st) (some nd)) 700 (hk_nx st) = none
        rw [fR_sfR, if_neg (fun q => absurd q.1 (by decide))]; exact n702
      · rw [fR_sfR, if_pos ⟨rfl, rfl⟩]
      · exact hN2.nx (Nx.oR nr701) (by omega)
      · obtain ⟨s2, h2, P2⟩ := hM2 s0 s S P
        refine ⟨s2, ?_, P2⟩
        simp only [m_workOut_L33b, hz_nm, show ¬ (1 : Int32) = 0 by decide, if_false, h2, hz_ob, show m_takes (63 : Int32) s2 = some (0, s2) from m_take_n S P2 a2 (by decide) hB h63, if_true, P2.2.2.2.2.1, nlem1, stp, lnH, true_and]
        by_cases hg : g = 0
        · simp only [hg, if_true]
        · simp only [hg, if_false]
  · refine ⟨hk_sfR st2 701 (hk_nx st) r2, p2', ?_, a1, a2, fr3, hw2, (by show hk_nc st2 ≤ _; omega), (by show hk_ns st2 ≤ _; omega), k72, ?_, hlt2, Or.inr ⟨q, o', hq, R2.oR (by omega), fun s0 s g v S P => ?_⟩⟩
    · have R3 : RdS x rd n B p2' (nI q) o' (hk_sfR st2 701 (hk_nx st) r2) := R2.oR (by omega)
      simp only [xReader_line, hz_nm, xLine_init, hz_ob, E2, hz_gd, R1.bf, if_true, w1, gI_b R3.bf, R3.2.2.2.2.1, nI_pos' (show q < 2 ^ 31 by omega)]
    · rw [fR_sfR, if_neg (fun q => absurd q.1 (by decide))]; exact n72
    · obtain ⟨w, s2, h2, P2⟩ := hM2 s0 s S P
      have ht : m_takes (63 : Int32) s2 = some (0, s2) := P2.take S hB (by decide) (by decide)
      by_cases h13 : (0 : Int32) ≤ hm_I s2 13
      · refine ⟨g, v, s2, ?_, P2⟩
        simp only [m_workOut_L33b, hz_nm, show ¬ (1 : Int32) = 0 by decide, if_false, h2, hz_ob, ht, if_true, h13]
      · by_cases hg : g = 0
        · refine ⟨1, w, s2, ?_, P2⟩
          simp only [m_workOut_L33b, hz_nm, show ¬ (1 : Int32) = 0 by decide, if_false, h2, hz_ob, ht, if_true, h13, hg]
        · refine ⟨g, v, s2, ?_, P2⟩
          simp only [m_workOut_L33b, hz_nm, show ¬ (1 : Int32) = 0 by decide, if_false, h2, hz_ob, ht, if_true, h13, hg]
end S2Q
