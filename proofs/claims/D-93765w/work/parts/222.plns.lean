set_option maxRecDepth 100000
/-! ===== STAGE 2: the choice: all lines ===== -/
theorem qGv_0 (N : Nat → Int32) : ∀ l, qGh l N = false → qGv l N = 0 := by
  intro l
  induction l with
  | nil => intro _; rfl
  | cons a l ih =>
    intro h
    simp only [qGh, Bool.or_eq_false_iff] at h
    rw [qGv, if_neg (by rw [h.1]; decide)]
    exact ih h.2
def gI (L : List qLn1) (N : Nat → Int32) : Int32 := if qGh L N = true then 1 else 0
theorem stp_ap (ln : qLn1) (N : Nat → Int32) (L : List qLn1) : stp ln N (gI L N) (qGv L N) = (gI (L ++ [ln]) N, qGv (L ++ [ln]) N) := by
  unfold stp gI
  rw [qGh_ap, qGv_ap]
  cases h1 : qGh L N with
  | true => simp
  | false =>
    have h0 := qGv_0 N L h1
    by_cases h2 : lnH ln N = true
    · simp [h2]
    · have h3 : lnH ln N = false := by simpa using h2
      simp [h3, h0]
/-- the class's lines: their places, what they are -/
def LCh (x : Nat) (st : hk_St) (as : List Nat) (L : List qLn1) : Prop :=
  as.length = L.length ∧ (∀ (i a : Nat), as[i]? = some a → a < hk_nx st ∧ hk_k st a = some (7, 0) ∧ hk_fR st 702 a = as[i + 1]?) ∧ ∀ (i a : Nat) (ln : qLn1), as[i]? = some a → L[i]? = some ln → LnE x st a ln
theorem LnE.nx {x a : Nat} {st st1 : hk_St} {ln : qLn1} (h : LnE x st a ln) (k : Nx st st1) (h0 : hk_fR st1 700 a = hk_fR st 700 a) (h1 : hk_fR st1 701 a = hk_fR st 701 a) : LnE x st1 a ln := by
  obtain ⟨t, g⟩ := ln
  obtain ⟨ha, nd, hb, hc⟩ := h
  refine ⟨?_, nd, h1.trans hb, hc.nx k (Nat.le_refl _)⟩
  cases t with
  | none => exact h0.trans ha
  | some f =>
    obtain ⟨nd2, hd, he⟩ := ha
    exact ⟨nd2, h0.trans hd, he.nx k (Nat.le_refl _)⟩
section S2R
variable {x rd n : Nat} {B : Nat → Nat} {st : hk_St}
theorem lines_L {p1 p2 : Int32} {v3 : Option Nat} {eC : hk_St → Option (Option Nat × hk_St)} {eM : Int32 → hk_Ms → Option (Int32 × hk_Ms)} {st0 : hk_St} (hx : rd ≠ x) :
    ∀ m F p st as L last, n - p ≤ m → m + 2 < F → RdS x rd n B p (-1) 0 st → FcS x st → Wp st → FrR rd st0 st → LCh x st as L → as[as.length - 1]? = some last → hk_nx st0 ≤ last → (∀ i, as[i]? = some last → i + 1 = as.length) →
    ∃ st' p', xReader_lines_L7 rd v3 eC (F + 1) (some last) st = eC st' ∧ FrR rd st0 st' ∧ Wp st' ∧ hk_nc st' ≤ hk_nc st + (p' - p) ∧ hk_ns st' ≤ hk_ns st + 3 * (p' - p) ∧ p ≤ p' ∧ p' ≤ n ∧
     ((∃ as' L', RdS x rd n B p' (-1) 0 st' ∧ LCh x st' as' L' ∧ as'[0]? = as[0]? ∧ L'.length + p ≤ L.length + p' ∧ ∀ s0 s, BSm n B s0 → Pm s0 s p (-1) 0 → ∃ s', ((m_takes (59 : Int32) s).bind fun q15 => m_workOut_L33 p1 p2 eM F (gI L (Nm s0)) (qGv L (Nm s0)) q15.1 q15.2) = eM (qGv L' (Nm s0)) s' ∧ Pm s0 s' p' (-1) 0) ∨
      (∃ q o', q ≤ n ∧ RdS x rd n B p' (nI q) o' st' ∧ ∀ s0 s, BSm n B s0 → Pm s0 s p (-1) 0 → ∃ v s', ((m_takes (59 : Int32) s).bind fun q15 => m_workOut_L33 p1 p2 eM F (gI L (Nm s0)) (qGv L (Nm s0)) q15.1 q15.2) = eM v s' ∧ RFm n B s0 s' q)) := by
  intro m
  induction m with
  | zero =>
    intro F p st as L last hm hF R hfc hw fr C hlast hb hd
    obtain ⟨F, rfl⟩ : ∃ g, F = g + 1 := ⟨F - 1, by omega⟩
    have hp := R.2.2.2.2.2.2
    have h59 : chr B n p ≠ 59 := fun q => by
      have := chr_ne (B := B) (n := n) (p := p) (by omega)
      omega
    have hne : ¬ hv B n p = (59 : Int32) := fun q => h59 ((hv_eq R.hB (c := 59) (by decide) (by decide)).mp q)
    refine ⟨st, p, ?_, fr, hw, by omega, by omega, Nat.le_refl _, hp, Or.inl ⟨as, L, R, C, rfl, Nat.le_refl _, fun s0 s S P => ⟨s, ?_, P⟩⟩⟩
    · show xReader_lines_L7b _ _ _ _ _ _ = _
      simp only [xReader_lines_L7b, gI_b R.bf, R.2.2.2.2.1, hz_ob, nlem1, if_false, c_here R, hz_gd, R.bf, if_true, hne]
    · rw [show m_takes (59 : Int32) s = some (0, s) from m_take_n S P hp (by decide) R.hB h59, hz_ob]
      show m_workOut_L33b _ _ _ _ _ _ _ _ = _
      simp only [m_workOut_L33b, hz_nm, if_true]
  | succ m ih =>
    intro F p st as L last hm hF R hfc hw fr C hlast hb hd
    obtain ⟨F, rfl⟩ : ∃ g, F = g + 1 := ⟨F - 1, by omega⟩
    have hp := R.2.2.2.2.2.2
    have hn := R.1.2.2.2.2.1
    by_cases h59 : chr B n p = 59
    · have hlt : p < n := chr_ne (B := B) (n := n) (p := p) (by omega)
      have he : hv B n p = (59 : Int32) := (hv_eq R.hB (c := 59) (by decide) (by decide)).mpr h59
      have R1 : RdS x rd n B (p + 1) (-1) 0 (hk_sfI st 600 rd (nI (p + 1))) := R.at (by omega) hx
      have fr1 : FrR rd st (hk_sfI st 600 rd (nI (p + 1))) := FrR.at
      have fc1 := hfc.nx hw fr1.nx
      have hw1 : Wp (hk_sfI st 600 rd (nI (p + 1))) := hw
      obtain ⟨st2, p2', E2, a1, a2, fr2, hw2, b1, b2, k7, n7, hlt2, hO⟩ := line_K (p1 := p1) (p2 := p2) (e0 := eM) (rc := m_workOut_L33 p1 p2 eM F) R1 fc1 hw1
      have enx : hk_nx (hk_sfI st 600 rd (nI (p + 1))) = hk_nx st := rfl
      have c1 : hk_nc (hk_sfI st 600 rd (nI (p + 1))) = hk_nc st := rfl
      have c2 : hk_ns (hk_sfI st 600 rd (nI (p + 1))) = hk_ns st := rfl
      rw [enx] at E2 k7 n7 hlt2
      obtain ⟨hl1, hl2, -⟩ := C.2.1 _ _ hlast
      have fr12 : FrR rd st st2 := Fr.trans fr1 fr2
      have k72 : hk_k st2 last = some (7, 0) := (fr12.2.1 _ hl1).trans hl2
      have fr3 : FrR rd st0 (hk_sfR st2 702 last (some (hk_nx st))) := Fr.sfR (Fr.trans fr fr12) (fun q => by omega)
      have r702 : hk_fR (hk_sfR st2 702 last (some (hk_nx st))) 702 last = some (hk_nx st) := by rw [fR_sfR, if_pos ⟨rfl, rfl⟩]
      have k73 : hk_k (hk_sfR st2 702 last (some (hk_nx st))) last = some (7, 0) := k72
      have hC : xReader_lines_L7 rd v3 eC (F + 1 + 1) (some last) st = xReader_lines_L7 rd v3 eC (F + 1) (some (hk_nx st)) (hk_sfR st2 702 last (some (hk_nx st))) := by
        show xReader_lines_L7b _ _ _ _ _ _ = _
        simp only [xReader_lines_L7b, gI_b R.bf, pI_b R.bf, R.2.2.2.2.1, R.2.2.2.1, hz_ob, nlem1, if_false, c_here R, hz_gd, R.bf, if_true, he, nI_1, E2, R1.bf, hz_nn, pR_b (bf_k k72), gR_b (bf_k k73), r702]
      have hM1 : ∀ s0 s, BSm n B s0 → Pm s0 s p (-1) 0 → ((m_takes (59 : Int32) s).bind fun q15 => m_workOut_L33 p1 p2 eM (F + 1) (gI L (Nm s0)) (qGv L (Nm s0)) q15.1 q15.2) = m_workOut_L33b p1 p2 eM (m_workOut_L33 p1 p2 eM F) (gI L (Nm s0)) (qGv L (Nm s0)) 1 (hm_sI s 11 (nI (p + 1))) := by
        intro s0 s S P
        rw [show m_takes (59 : Int32) s = some (1, hm_sI s 11 (nI (p + 1))) from m_take_y S P hp h59, hz_ob]
        rfl
      rw [hC]
      rcases hO with ⟨ln, R2, hln, hM⟩ | ⟨q, o', hq, R2, hM⟩
      · have R3 : RdS x rd n B p2' (-1) 0 (hk_sfR st2 702 last (some (hk_nx st))) := R2.oR (by omega)
        have hlen : 0 < as.length := by
          cases as with
          | nil => simp at hlast
          | cons => simp
        have x23 : Nx st2 (hk_sfR st2 702 last (some (hk_nx st))) := Nx.oR nr702
        have C3 : LCh x (hk_sfR st2 702 last (some (hk_nx st))) (as ++ [hk_nx st]) (L ++ [ln]) := by
          refine ⟨by simp [C.1], ?_, ?_⟩
          · intro i a hi
            rcases ap_get hi with ⟨h1, h2⟩ | ⟨h1, h2⟩
            · obtain ⟨q1, q2, q3⟩ := C.2.1 i a h2
              refine ⟨Nat.lt_of_lt_of_le q1 fr12.1, (fr12.2.1 _ q1).trans q2, ?_⟩
              rw [fR_sfR]
              by_cases ha : a = last
              · subst ha
                have hi2 := hd i h2
                rw [if_pos ⟨rfl, rfl⟩, List.getElem?_append_right (by omega)]
                have : i + 1 - as.length = 0 := by omega
                rw [this]; rfl
              · rw [if_neg (fun q => ha q.2), fr12.2.2.2.2.1 _ _ q1 (fun q => q), q3]
                have hi2 : i + 1 < as.length := by
                  by_cases hh : i + 1 < as.length
                  · exact hh
                  · have : i = as.length - 1 := by omega
                    rw [this, hlast] at h2
                    exact absurd (Option.some.inj h2).symm ha
                rw [List.getElem?_append_left hi2]
            · subst h1 h2
              refine ⟨hlt2, k7, ?_⟩
              have hne : ¬ hk_nx st = last := by omega
              rw [fR_sfR, if_neg (fun q => hne q.2), n7, List.getElem?_eq_none (by simp)]
          · intro i a l2 hi hl
            rcases ap_get hi with ⟨h1, h2⟩ | ⟨h1, h2⟩
            · rw [List.getElem?_append_left (by rw [← C.1]; exact h1)] at hl
              obtain ⟨q1, q2, q3⟩ := C.2.1 i a h2
              refine (C.2.2 i a l2 h2 hl).nx (fr12.nx.trans x23) ?_ ?_
              · rw [fR_sfR, if_neg (fun q => absurd q.1 (by decide))]; exact fr12.2.2.2.2.1 _ _ q1 (fun q => q)
              · rw [fR_sfR, if_neg (fun q => absurd q.1 (by decide))]; exact fr12.2.2.2.2.1 _ _ q1 (fun q => q)
            · subst h1 h2
              rw [List.getElem?_append_right (by rw [C.1]; exact Nat.le_refl _), C.1, Nat.sub_self] at hl
              cases hl
              refine hln.nx x23 ?_ ?_
              · rw [fR_sfR, if_neg (fun q => absurd q.1 (by decide))]
              · rw [fR_sfR, if_neg (fun q => absurd q.1 (by decide))]
        have c3 : hk_nc (hk_sfR st2 702 last (some (hk_nx st))) = hk_nc st2 := rfl
        have c3s : hk_ns (hk_sfR st2 702 last (some (hk_nx st))) = hk_ns st2 := rfl
        have hw3 : Wp (hk_sfR st2 702 last (some (hk_nx st))) := hw2
        obtain ⟨st4, p4, E4, fr4, hw4, d1, d2, d3, d4, hO4⟩ := ih F p2' _ (as ++ [hk_nx st]) (L ++ [ln]) (hk_nx st) (by omega) (by omega) R3 (hfc.nx hw (fr12.nx.trans x23)) hw3 fr3 C3 (by simp) fr.1 (by
          intro i hi
          rcases ap_get hi with ⟨h1, h2⟩ | ⟨h1, h2⟩
          · have := (C.2.1 _ _ h2).1
            omega
          · simp [h1])
        refine ⟨st4, p4, E4, fr4, hw4, by omega, by omega, by omega, d4, ?_⟩
        rcases hO4 with ⟨as', L', R4, C4, e0, hLn, hM4⟩ | ⟨q, o', hq, R4, hM4⟩
        · refine Or.inl ⟨as', L', R4, C4, ?_, ?_, fun s0 s S P => ?_⟩
          · rw [e0, List.getElem?_append_left hlen]
          · rw [List.length_append, List.length_singleton] at hLn; omega
          · obtain ⟨s2, h2, P2⟩ := hM s0 _ (gI L (Nm s0)) (qGv L (Nm s0)) S P.at
            obtain ⟨s4, h4, P4⟩ := hM4 s0 s2 S P2
            refine ⟨s4, ?_, P4⟩
            rw [hM1 s0 s S P, h2, stp_ap]
            exact h4
        · refine Or.inr ⟨q, o', hq, R4, fun s0 s S P => ?_⟩
          obtain ⟨s2, h2, P2⟩ := hM s0 _ (gI L (Nm s0)) (qGv L (Nm s0)) S P.at
          obtain ⟨v, s4, h4, P4⟩ := hM4 s0 s2 S P2
          refine ⟨v, s4, ?_, P4⟩
          rw [hM1 s0 s S P, h2, stp_ap]
          exact h4
      · have R3 : RdS x rd n B p2' (nI q) o' (hk_sfR st2 702 last (some (hk_nx st))) := R2.oR (by omega)
        obtain ⟨F, rfl⟩ : ∃ g, F = g + 1 := ⟨F - 1, by omega⟩
        refine ⟨hk_sfR st2 702 last (some (hk_nx st)), p2', ?_, fr3, hw2, (by show hk_nc st2 ≤ _; omega), (by show hk_ns st2 ≤ _; omega), by omega, a2, Or.inr ⟨q, o', hq, R3, fun s0 s S P => ?_⟩⟩
        · show xReader_lines_L7b _ _ _ _ _ _ = _
          simp only [xReader_lines_L7b, gI_b R3.bf, R3.2.2.2.2.1, hz_ob, nI_pos' (show q < 2 ^ 31 by omega), if_true]
        · obtain ⟨g', v', s2, h2, P2⟩ := hM s0 _ (gI L (Nm s0)) (qGv L (Nm s0)) S P.at
          refine ⟨v', s2, ?_, P2⟩
          rw [hM1 s0 s S P, h2, show m_takes (59 : Int32) s2 = some (0, s2) from P2.take S R.hB (by decide) (by decide), hz_ob]
          show m_workOut_L33b _ _ _ _ _ _ _ _ = _
          simp only [m_workOut_L33b, hz_nm, if_true]
    · have hne : ¬ hv B n p = (59 : Int32) := fun q => h59 ((hv_eq R.hB (c := 59) (by decide) (by decide)).mp q)
      refine ⟨st, p, ?_, fr, hw, by omega, by omega, Nat.le_refl _, hp, Or.inl ⟨as, L, R, C, rfl, Nat.le_refl _, fun s0 s S P => ⟨s, ?_, P⟩⟩⟩
      · show xReader_lines_L7b _ _ _ _ _ _ = _
        simp only [xReader_lines_L7b, gI_b R.bf, R.2.2.2.2.1, hz_ob, nlem1, if_false, c_here R, hz_gd, R.bf, if_true, hne]
      · rw [show m_takes (59 : Int32) s = some (0, s) from m_take_n S P hp (by decide) R.hB h59, hz_ob]
        show m_workOut_L33b _ _ _ _ _ _ _ _ = _
        simp only [m_workOut_L33b, hz_nm, if_true]
/-- the end of workOut -/
def eMW (v10 : Int32) (s11 : hk_Ms) : Option (Int32 × hk_Ms) :=
  if (0 : Int32) ≤ (hm_I s11 13) then some (v10, s11) else if (hm_I s11 12) ≤ (hm_I s11 11) then some (v10, s11) else (m_wrong s11).bind fun q36 => some (q36.1, q36.2)
/-- the end of lines -/
def eCL (rd a : Nat) (s6 : hk_St) : Option (Option Nat × hk_St) :=
  (hk_gI [6] 601 s6 rd).bind fun x19 =>
  if 0 ≤ x19 then
    some (some a, s6)
  else
  (hk_gI [6] 600 s6 rd).bind fun x21 =>
  (hk_gR [6] 603 s6 rd).bind fun x22 =>
  hk_nn x22 fun a23 =>
  (hk_gI [0] 1 s6 a23).bind fun x24 =>
  if x24 ≤ x21 then
    some (some a, s6)
  else
  (hk_gI [6] 600 s6 rd).bind fun x26 =>
  (hk_pI [6] 601 s6 rd x26).bind fun s27 =>
  some (some a, s27)
theorem eCL_f {a p q o : Nat} (R : RdS x rd n B p (nI q) o st) (hq : q ≤ n) : eCL rd a st = some (some a, st) := by
  have hn := R.1.2.2.2.2.1
  simp only [eCL, gI_b R.bf, R.2.2.2.2.1, hz_ob, nI_pos' (show q < 2 ^ 31 by omega), if_true]
theorem lines_K {p1 p2 : Int32} (R : RdS x rd n B 0 (-1) 0 st) (hfc : FcS x st) (hw : Wp st) :
    ∃ st' r o', xReader_lines rd st = some (r, st') ∧ FrR rd st st' ∧ Wp st' ∧ hk_nc st' ≤ hk_nc st + 130 ∧ hk_ns st' ≤ hk_ns st + 400 ∧
     ((∃ as L, RdS x rd n B n (-1) o' st' ∧ LCh x st' as L ∧ as[0]? = r ∧ r ≠ none ∧ L.length ≤ 200 ∧ ∀ s0 s, BSm n B s0 → Pm s0 s 0 (-1) 0 → ∃ s', m_workOut_L33 p1 p2 eMW hk_F 0 0 1 s = some (qGv L (Nm s0), s') ∧ Pm s0 s' n (-1) 0) ∨
      (∃ q p', q ≤ n ∧ RdS x rd n B p' (nI q) o' st' ∧ ∀ s0 s, BSm n B s0 → Pm s0 s 0 (-1) 0 → ∃ v s' p o, m_workOut_L33 p1 p2 eMW hk_F 0 0 1 s = some (v, s') ∧ Pm s0 s' p (nI q) o)) := by
  have hn := R.1.2.2.2.2.1
  obtain ⟨F, hF⟩ : ∃ F, hk_F = F + 1 := ⟨hk_F - 1, by have := hk_F_big; omega⟩
  have hFb : 500 < F := by have := hk_F_big; omega
  obtain ⟨st1, p1', E1, a1, a2, fr1, hw1, b1, b2, k7, n7, hlt, hO⟩ := line_K (p1 := p1) (p2 := p2) (e0 := eMW) (rc := m_workOut_L33 p1 p2 eMW F) R hfc hw
  rw [hF]
  -- the reference's end
  have hend : ∀ s0 s q, BSm n B s0 → RFm n B s0 s q → ∀ v, ∃ w s' p o, eMW v s = some (w, s') ∧ Pm s0 s' p (nI q) o := by
    intro s0 s q S Q v
    obtain ⟨p, fl, o, P, hp, hq, h | ⟨h1, h2, h3⟩⟩ := Q
    · subst h
      exact ⟨v, s, p, o, by simp only [eMW, P.2.2.2.2.1, nI_pos' (show q < 2 ^ 31 by omega), if_true], P⟩
    · subst h1 h2
      have hlt : p < n := chr_ne (B := B) (n := n) (p := p) (by simp [dgt] at h3; omega)
      have h12 : hm_I s 12 = nI n := by rw [P.1 12 (by decide) (by decide) (by decide)]; exact S.2.1
      refine ⟨0, hm_sI s 13 (nI p), p, o, ?_, P.fault⟩
      simp only [eMW, P.2.2.2.2.1, nlem1, if_false, h12, P.2.2.2.1, nI_ge hlt (show n < 2 ^ 31 by omega), m_wrong, hz_nm, hz_ob]
  have hLines : xReader_lines rd st = xReader_lines_L7 rd (some (hk_nx st)) (eCL rd (hk_nx st)) (F + 1) (some (hk_nx st)) st1 := by
    simp only [xReader_lines, E1, hz_ob, hz_gd, R.bf, if_true, hF]
    rfl
  rw [hLines]
  have hML : ∀ s, m_workOut_L33 p1 p2 eMW (F + 1) 0 0 1 s = m_workOut_L33b p1 p2 eMW (m_workOut_L33 p1 p2 eMW F) 0 0 1 s := fun _ => rfl
  rcases hO with ⟨ln, R1, hln, hM⟩ | ⟨q, o', hq, R1, hM⟩
  · have C1 : LCh x st1 [hk_nx st] [ln] := by
      refine ⟨rfl, ?_, ?_⟩
      · intro i a hi
        have : i = 0 := by
          cases i with
          | zero => rfl
          | succ i => simp at hi
        subst this
        simp at hi
        subst hi
        exact ⟨hlt, k7, by rw [n7]; rfl⟩
      · intro i a l2 hi hl
        have : i = 0 := by
          cases i with
          | zero => rfl
          | succ i => simp at hi
        subst this
        simp at hi hl
        subst hi hl
        exact hln
    obtain ⟨st2, p2', E2, fr2, hw2, d1, d2, d3, d4, hO2⟩ := lines_L (p1 := p1) (p2 := p2) (v3 := some (hk_nx st)) (eM := eMW) (st0 := st) (eC := eCL rd (hk_nx st)) R.nn 120 F p1' st1 [hk_nx st] [ln] (hk_nx st) (by omega) (by omega) R1 (hfc.nx hw fr1.nx) hw1 fr1 C1 rfl (Nat.le_refl _) (by
        intro i hi
        cases i with
        | zero => rfl
        | succ i => simp at hi)
    rw [E2]
    have hM1 : ∀ s0 s, BSm n B s0 → Pm s0 s 0 (-1) 0 → ∃ s', m_workOut_L33 p1 p2 eMW (F + 1) 0 0 1 s = ((m_takes (59 : Int32) s').bind fun q15 => m_workOut_L33 p1 p2 eMW F (gI [ln] (Nm s0)) (qGv [ln] (Nm s0)) q15.1 q15.2) ∧ Pm s0 s' p1' (-1) 0 := by
      intro s0 s S P
      obtain ⟨s', h, P'⟩ := hM s0 s 0 0 S P
      refine ⟨s', ?_, P'⟩
      rw [hML, h]
      have := stp_ap ln (Nm s0) []
      rw [show gI [] (Nm s0) = 0 from rfl, show qGv [] (Nm s0) = 0 from rfl] at this
      rw [this]
      rfl
    rcases hO2 with ⟨as', L', R2, C2, e0, hLn, hM2⟩ | ⟨q, o', hq, R2, hM2⟩
    · have T1 := R2.1.1
      by_cases hpn : p2' = n
      · subst hpn
        refine ⟨st2, some (hk_nx st), 0, ?_, fr2, hw2, by omega, by omega, Or.inl ⟨as', L', R2, C2, by rw [e0]; rfl, by simp, by rw [List.length_singleton] at hLn; omega, fun s0 s S P => ?_⟩⟩
        · simp only [eCL, gI_b R2.bf, R2.2.2.2.2.1, hz_ob, nlem1, if_false, R2.2.2.2.1, gR_b R2.bf, R2.2.2.1, hz_nn, gI_b (bf_k T1), R2.1.2.1, Int32.le_refl, if_true]
        · obtain ⟨s1, h1, P1⟩ := hM1 s0 s S P
          obtain ⟨s2, h2, P2⟩ := hM2 s0 s1 S P1
          refine ⟨s2, ?_, P2⟩
          have h12 : hm_I s2 12 = nI p2' := by rw [P2.1 12 (by decide) (by decide) (by decide)]; exact S.2.1
          rw [h1, h2]
          simp only [eMW, P2.2.2.2.2.1, nlem1, if_false, h12, P2.2.2.2.1, Int32.le_refl, if_true]
      · have hlt2 : p2' < n := by omega
        refine ⟨hk_sfI st2 601 rd (nI p2'), some (hk_nx st), 0, ?_, FrR.flt fr2, hw2, (by show hk_nc st2 ≤ _; omega), (by show hk_ns st2 ≤ _; omega), Or.inr ⟨p2', p2', by omega, R2.fault, fun s0 s S P => ?_⟩⟩
        · simp only [eCL, gI_b R2.bf, pI_b R2.bf, R2.2.2.2.2.1, hz_ob, nlem1, if_false, R2.2.2.2.1, gR_b R2.bf, R2.2.2.1, hz_nn, gI_b (bf_k T1), R2.1.2.1, nI_ge hlt2 (show n < 2 ^ 31 by omega)]
        · obtain ⟨s1, h1, P1⟩ := hM1 s0 s S P
          obtain ⟨s2, h2, P2⟩ := hM2 s0 s1 S P1
          have h12 : hm_I s2 12 = nI n := by rw [P2.1 12 (by decide) (by decide) (by decide)]; exact S.2.1
          refine ⟨0, hm_sI s2 13 (nI p2'), p2', 0, ?_, P2.fault⟩
          rw [h1, h2]
          simp only [eMW, P2.2.2.2.2.1, nlem1, if_false, h12, P2.2.2.2.1, nI_ge hlt2 (show n < 2 ^ 31 by omega), m_wrong, hz_nm, hz_ob]
    · refine ⟨st2, some (hk_nx st), o', eCL_f R2 hq, fr2, hw2, by omega, by omega, Or.inr ⟨q, p2', hq, R2, fun s0 s S P => ?_⟩⟩
      obtain ⟨s1, h1, P1⟩ := hM1 s0 s S P
      obtain ⟨v, s2, h2, P2⟩ := hM2 s0 s1 S P1
      obtain ⟨w, s3, p3, o3, h3, P3⟩ := hend s0 s2 q S P2 v
      exact ⟨w, s3, p3, o3, by rw [h1, h2, h3], P3⟩
  · refine ⟨st1, some (hk_nx st), o', ?_, fr1, hw1, by omega, by omega, Or.inr ⟨q, p1', hq, R1, fun s0 s S P => ?_⟩⟩
    · show xReader_lines_L7b _ _ _ _ _ _ = _
      simp only [xReader_lines_L7b, gI_b R1.bf, R1.2.2.2.2.1, hz_ob, nI_pos' (show q < 2 ^ 31 by omega), if_true]
      exact eCL_f R1 hq
    · obtain ⟨g', v', s1, h1, P1⟩ := hM s0 s 0 0 S P
      obtain ⟨w, s3, p3, o3, h3, P3⟩ := hend s0 s1 q S P1 v'
      refine ⟨w, s3, p3, o3, ?_, P3⟩
      obtain ⟨F, rfl⟩ : ∃ g, F = g + 1 := ⟨F - 1, by omega⟩
      rw [hML, h1, show m_takes (59 : Int32) s1 = some (0, s1) from P1.take S R.hB (by decide) (by decide), hz_ob]
      show m_workOut_L33b _ _ _ _ _ _ _ _ = _
      simp only [m_workOut_L33b, hz_nm, if_true]
      exact h3
end S2R
