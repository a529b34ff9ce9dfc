set_option maxRecDepth 100000
/-! ===== STAGE 2: the choice: loops of operands ===== -/
section S2G
variable {x rd n : Nat} {B : Nat → Nat} {st : hk_St}
/-- what a part of the reading leaves: in the class (st', r), in the reference (sub); base: where it began (p, o, st) -/
def OutK (x rd n : Nat) (B : Nat → Nat) (p o : Nat) (st : hk_St) (sub : hk_Ms → Option (Int32 × hk_Ms)) (st' : hk_St) (r : Option Nat) : Prop :=
  ∃ p', p ≤ p' ∧ p' ≤ n ∧ FrR rd st st' ∧ Wp st' ∧ hk_nc st' ≤ hk_nc st + (p' - p) ∧ hk_ns st' ≤ hk_ns st + 3 * (p' - p) ∧
   ((∃ f nd, p < p' ∧ RdS x rd n B p' (-1) o st' ∧ r = some nd ∧ NdE x st' nd (p' - p) f ∧ ∀ s0 s, BSm n B s0 → Pm s0 s p (-1) o → ∃ s', sub s = some (f (Nm s0), s') ∧ Pm s0 s' p' (-1) o) ∨
    (∃ q o', q ≤ n ∧ RdS x rd n B p' (nI q) o' st' ∧ ∀ s0 s, BSm n B s0 → Pm s0 s p (-1) o → ∃ v s', sub s = some (v, s') ∧ RFm n B s0 s' q))
/-- the level w at the depth d -/
def LvK (x : Nat) (d w : Nat) : Prop := ∀ rd n B p o st, RdS x rd n B p (-1) o st → FcS x st → Wp st → o ≤ 6 → (6 - w) + 6 * (6 - o) ≤ d →
  ∃ st' r, g_R d w rd st = some (r, st') ∧ OutK x rd n B p o st (g_P d w) st' r
/-- a pair of two, joined -/
theorem c_joined {p o c l r D E : Nat} {f g : qF} (R : RdS x rd n B p (-1) o st) (hw : Wp st) (hc : opC c) (h : NdE x st l D f) (k : NdE x st r E g) :
    xReader_joined rd (nI c) (some l) (some r) st = some (some (hk_nx st), mkP st c l r) ∧ RdS x rd n B p (-1) o (mkP st c l r) := by
  have k12 : hk_k (hk_mk st 12 0 3) (hk_nx st) = some (12, 0) := by rw [k_mk, if_pos rfl]
  refine ⟨?_, (((R.mk hw).oI (Or.inr (Or.inr rfl))).oR (Or.inr (Or.inr (Or.inl rfl)))).oR (Or.inr (Or.inr (Or.inr (Or.inl rfl))))⟩
  simp only [xReader_joined, gI_b R.bf, R.2.2.2.2.1, hz_ob, show (-1 : Int32) < 0 by decide, if_true, hz_nm, hz_nn, xPair_init, xNode_init, pI_b (st := hk_mk st 12 0 3) (bf_k k12),
    pR_b (st := hk_sfI (hk_mk st 12 0 3) 1200 (hk_nx st) (nI c)) (bf_k k12), pR_b (st := hk_sfR (hk_sfI (hk_mk st 12 0 3) 1200 (hk_nx st) (nI c)) 1201 (hk_nx st) (some l)) (bf_k k12), mkP]
theorem c_joined_f {p o q : Nat} {c : Int32} {l r : Option Nat} (R : RdS x rd n B p (nI q) o st) (hq : q ≤ n) : xReader_joined rd c l r st = some (none, st) := by
  have hn := R.1.2.2.2.2.1
  simp only [xReader_joined, gI_b R.bf, R.2.2.2.2.1, hz_ob, nI_pos (show q < 2 ^ 31 by omega), if_false]
theorem loop_K {CL : Nat → Option Nat → hk_St → Option (Option Nat × hk_St)} {ML : Nat → Int32 → hk_Ms → Option (Int32 × hk_Ms)} {subC : Nat → hk_St → Option (Option Nat × hk_St)} {subM : hk_Ms → Option (Int32 × hk_Ms)} {isop : Nat → Bool} {o : Nat}
    (hop : ∀ c, isop c = true → opC c)
    (hC1 : ∀ F st v p, RdS x rd n B p (-1) o st → isop (chr B n p) = false → CL (F + 1) v st = some (v, st))
    (hC2 : ∀ F st v p, RdS x rd n B p (-1) o st → isop (chr B n p) = true → CL (F + 1) v st = (subC rd (hk_sfI st 600 rd (nI (p + 1)))).bind fun q => (xReader_joined rd (nI (chr B n p)) v q.1 q.2).bind fun q2 => hk_gd (hk_bf [6] q.2 rd) (CL F q2.1 q2.2))
    (hC3 : ∀ F st v p q o', RdS x rd n B p (nI q) o' st → q ≤ n → CL (F + 1) v st = some (v, st))
    (hM1 : ∀ F s0 s v p, BSm n B s0 → Pm s0 s p (-1) o → p ≤ n → isop (chr B n p) = false → ML (F + 1) v s = some (v, s))
    (hM2 : ∀ F s0 s v p, BSm n B s0 → Pm s0 s p (-1) o → p ≤ n → isop (chr B n p) = true → ML (F + 1) v s = (subM (hm_sI s 11 (nI (p + 1)))).bind fun q => ML F (pv (chr B n p) v q.1) q.2)
    (hM3 : ∀ F s0 s v q, BSm n B s0 → RFm n B s0 s q → ML (F + 1) v s = some (v, s))
    (hsub : ∀ p st, RdS x rd n B p (-1) o st → FcS x st → Wp st → ∃ st' r, subC rd st = some (r, st') ∧ OutK x rd n B p o st subM st' r) (hx : rd ≠ x) :
    ∀ m F p0 p1 st nd f, n - p1 ≤ m → m + 1 < F → p0 < p1 → RdS x rd n B p1 (-1) o st → FcS x st → Wp st → NdE x st nd (p1 - p0) f →
    ∃ st' r p', CL F (some nd) st = some (r, st') ∧ p1 ≤ p' ∧ p' ≤ n ∧ FrR rd st st' ∧ Wp st' ∧ hk_nc st' ≤ hk_nc st + (p' - p1) ∧ hk_ns st' ≤ hk_ns st + 3 * (p' - p1) ∧
     ((∃ f' nd', RdS x rd n B p' (-1) o st' ∧ r = some nd' ∧ NdE x st' nd' (p' - p0) f' ∧ ∀ s0 s, BSm n B s0 → Pm s0 s p1 (-1) o → ∃ s', ML F (f (Nm s0)) s = some (f' (Nm s0), s') ∧ Pm s0 s' p' (-1) o) ∨
      (∃ q o', q ≤ n ∧ RdS x rd n B p' (nI q) o' st' ∧ ∀ s0 s, BSm n B s0 → Pm s0 s p1 (-1) o → ∃ v s', ML F (f (Nm s0)) s = some (v, s') ∧ RFm n B s0 s' q)) := by
  intro m
  induction m with
  | zero =>
    intro F p0 p1 st nd f hm hF h01 R hfc hw hN
    obtain ⟨F, rfl⟩ : ∃ g, F = g + 1 := ⟨F - 1, by omega⟩
    have hp1 := R.2.2.2.2.2.2
    have hno : isop (chr B n p1) = false := by
      cases h : isop (chr B n p1) with
      | false => rfl
      | true =>
        have h0 := hop _ h
        have : p1 < n := chr_ne (B := B) (n := n) (p := p1) (by unfold opC at h0; omega)
        omega
    refine ⟨st, some nd, p1, hC1 F st _ p1 R hno, Nat.le_refl _, hp1, Fr.rf, hw, by omega, by omega, Or.inl ⟨f, nd, R, rfl, hN, fun s0 s S P => ⟨s, hM1 F s0 s _ p1 S P hp1 hno, P⟩⟩⟩
  | succ m ih =>
    intro F p0 p1 st nd f hm hF h01 R hfc hw hN
    obtain ⟨F, rfl⟩ : ∃ g, F = g + 1 := ⟨F - 1, by omega⟩
    have hp1 := R.2.2.2.2.2.2
    cases ho : isop (chr B n p1) with
    | false => exact ⟨st, some nd, p1, hC1 F st _ p1 R ho, Nat.le_refl _, hp1, Fr.rf, hw, by omega, by omega, Or.inl ⟨f, nd, R, rfl, hN, fun s0 s S P => ⟨s, hM1 F s0 s _ p1 S P hp1 ho, P⟩⟩⟩
    | true =>
      have hc := hop _ ho
      have hlt : p1 < n := chr_ne (B := B) (n := n) (p := p1) (by unfold opC at hc; omega)
      have R1 : RdS x rd n B (p1 + 1) (-1) o (hk_sfI st 600 rd (nI (p1 + 1))) := R.at (by omega) hx
      have fr1 : FrR rd st (hk_sfI st 600 rd (nI (p1 + 1))) := by
        have h : FrR rd st st := Fr.rf
        exact Fr.sfI h (fun _ => ⟨rfl, by decide, by decide⟩)
      have fc1 : FcS x (hk_sfI st 600 rd (nI (p1 + 1))) := hfc.nx hw fr1.nx
      obtain ⟨st2, r2, E2, p2, a1, a2, fr2, hw2, b1, b2, hO⟩ := hsub (p1 + 1) _ R1 fc1 hw
      have fr12 : FrR rd st st2 := Fr.trans fr1 fr2
      have c1 : hk_nc (hk_sfI st 600 rd (nI (p1 + 1))) = hk_nc st := rfl
      have c2 : hk_ns (hk_sfI st 600 rd (nI (p1 + 1))) = hk_ns st := rfl
      rcases hO with ⟨g, nd2, hlt2, R2, hr2, hN2, hM⟩ | ⟨q, o', hq, R2, hM⟩
      · subst hr2
        obtain ⟨E3, R3⟩ := c_joined (l := nd) (r := nd2) R2 hw2 hc (hN.nx fr12.nx (Nat.le_refl _)) hN2
        have hN3 := NdE_pair hc (hN.nx fr12.nx (Nat.le_refl _)) hN2
        have fr3 : FrR rd st2 (mkP st2 (chr B n p1) nd nd2) := mkP_fr.r
        have hw3 : Wp (mkP st2 (chr B n p1) nd nd2) := Wp.mk (t := 12) (len := 0) (sl := 3) hw2
        have fc3 : FcS x (mkP st2 (chr B n p1) nd nd2) := hfc.nx hw (FrR.nx (rd := rd) (Fr.trans fr12 fr3))
        have hN3' : NdE x (mkP st2 (chr B n p1) nd nd2) (hk_nx st2) (p2 - p0) (fun N => pv (chr B n p1) (f N) (g N)) := hN3.nx Nx.rf (by omega)
        obtain ⟨st4, r4, p4, E4, d1, d2, fr4, hw4, e1, e2, hO4⟩ := ih F p0 p2 _ _ _ (by omega) (by omega) (by omega) R3 fc3 hw3 hN3'
        have g1 : hk_nc (mkP st2 (chr B n p1) nd nd2) = hk_nc st2 + 1 := rfl
        have g2 : hk_ns (mkP st2 (chr B n p1) nd nd2) = hk_ns st2 + 3 := rfl
        refine ⟨st4, r4, p4, ?_, by omega, d2, Fr.trans fr12 (Fr.trans fr3 fr4), hw4, by omega, by omega, ?_⟩
        · rw [hC2 F st _ p1 R ho, E2, hz_ob, E3, hz_ob, R2.bf]
          exact E4
        · rcases hO4 with ⟨f4, nd4, R4, hr4, hN4, hM4⟩ | ⟨q, o', hq, R4, hM4⟩
          · refine Or.inl ⟨f4, nd4, R4, hr4, hN4, fun s0 s S P => ?_⟩
            obtain ⟨s2, h2, P2⟩ := hM s0 _ S P.at
            obtain ⟨s4, h4, P4⟩ := hM4 s0 s2 S P2
            exact ⟨s4, by rw [hM2 F s0 s _ p1 S P hp1 ho, h2, hz_ob]; exact h4, P4⟩
          · refine Or.inr ⟨q, o', hq, R4, fun s0 s S P => ?_⟩
            obtain ⟨s2, h2, P2⟩ := hM s0 _ S P.at
            obtain ⟨v, s4, h4, P4⟩ := hM4 s0 s2 S P2
            exact ⟨v, s4, by rw [hM2 F s0 s _ p1 S P hp1 ho, h2, hz_ob]; exact h4, P4⟩
      · obtain ⟨F, rfl⟩ : ∃ g, F = g + 1 := ⟨F - 1, by omega⟩
        refine ⟨st2, none, p2, ?_, by omega, a2, fr12, hw2, by omega, by omega, Or.inr ⟨q, o', hq, R2, fun s0 s S P => ?_⟩⟩
        · rw [hC2 _ st _ p1 R ho, E2, hz_ob, c_joined_f R2 hq, hz_ob, R2.bf]
          exact hC3 F st2 _ p2 q o' R2 hq
        · obtain ⟨v, s2, h2, P2⟩ := hM s0 _ S P.at
          exact ⟨_, s2, by rw [hM2 _ s0 s _ p1 S P hp1 ho, h2, hz_ob]; exact hM3 F s0 s2 _ q S P2, P2⟩
/-- an operand and its loop -/
theorem level_K {CL : Nat → Option Nat → hk_St → Option (Option Nat × hk_St)} {ML : Nat → Int32 → hk_Ms → Option (Int32 × hk_Ms)} {subC : Nat → hk_St → Option (Option Nat × hk_St)} {subM : hk_Ms → Option (Int32 × hk_Ms)} {isop : Nat → Bool} {o p : Nat}
    (hop : ∀ c, isop c = true → opC c)
    (hC1 : ∀ F st v p, RdS x rd n B p (-1) o st → isop (chr B n p) = false → CL (F + 1) v st = some (v, st))
    (hC2 : ∀ F st v p, RdS x rd n B p (-1) o st → isop (chr B n p) = true → CL (F + 1) v st = (subC rd (hk_sfI st 600 rd (nI (p + 1)))).bind fun q => (xReader_joined rd (nI (chr B n p)) v q.1 q.2).bind fun q2 => hk_gd (hk_bf [6] q.2 rd) (CL F q2.1 q2.2))
    (hC3 : ∀ F st v p q o', RdS x rd n B p (nI q) o' st → q ≤ n → CL (F + 1) v st = some (v, st))
    (hM1 : ∀ F s0 s v p, BSm n B s0 → Pm s0 s p (-1) o → p ≤ n → isop (chr B n p) = false → ML (F + 1) v s = some (v, s))
    (hM2 : ∀ F s0 s v p, BSm n B s0 → Pm s0 s p (-1) o → p ≤ n → isop (chr B n p) = true → ML (F + 1) v s = (subM (hm_sI s 11 (nI (p + 1)))).bind fun q => ML F (pv (chr B n p) v q.1) q.2)
    (hM3 : ∀ F s0 s v q, BSm n B s0 → RFm n B s0 s q → ML (F + 1) v s = some (v, s))
    (hsub : ∀ p st, RdS x rd n B p (-1) o st → FcS x st → Wp st → ∃ st' r, subC rd st = some (r, st') ∧ OutK x rd n B p o st subM st' r)
    (R : RdS x rd n B p (-1) o st) (hfc : FcS x st) (hw : Wp st) {F : Nat} (hF : 200 < F) :
    ∃ st' r, ((subC rd st).bind fun q1 => hk_gd (hk_bf [6] st rd) (CL F q1.1 q1.2)) = some (r, st') ∧ OutK x rd n B p o st (fun s => (subM s).bind fun q1 => ML F q1.1 q1.2) st' r := by
  obtain ⟨st1, r1, E1, p1, a1, a2, fr1, hw1, b1, b2, hO⟩ := hsub p st R hfc hw
  have hn := R.1.2.2.2.2.1
  rw [E1, hz_ob, R.bf]
  rcases hO with ⟨f, nd, hlt, R1, hr, hN, hM⟩ | ⟨q, o', hq, R1, hM⟩
  · subst hr
    obtain ⟨st2, r2, p2, E2, d1, d2, fr2, hw2, e1, e2, hO2⟩ := loop_K hop hC1 hC2 hC3 hM1 hM2 hM3 hsub R.nn 120 F p p1 st1 nd f (by omega) (by omega) hlt R1 (hfc.nx hw fr1.nx) hw1 hN
    refine ⟨st2, r2, E2, p2, by omega, d2, Fr.trans fr1 fr2, hw2, by omega, by omega, ?_⟩
    rcases hO2 with ⟨f4, nd4, R4, hr4, hN4, hM4⟩ | ⟨q, o', hq, R4, hM4⟩
    · refine Or.inl ⟨f4, nd4, by omega, R4, hr4, hN4, fun s0 s S P => ?_⟩
      obtain ⟨s2, h2, P2⟩ := hM s0 _ S P
      obtain ⟨s4, h4, P4⟩ := hM4 s0 s2 S P2
      exact ⟨s4, by simp only [h2, hz_ob]; exact h4, P4⟩
    · refine Or.inr ⟨q, o', hq, R4, fun s0 s S P => ?_⟩
      obtain ⟨s2, h2, P2⟩ := hM s0 _ S P
      obtain ⟨v, s4, h4, P4⟩ := hM4 s0 s2 S P2
      exact ⟨v, s4, by simp only [h2, hz_ob]; exact h4, P4⟩
  · obtain ⟨F, rfl⟩ : ∃ g, F = g + 1 := ⟨F - 1, by omega⟩
    refine ⟨st1, r1, hC3 F st1 _ p1 q o' R1 hq, p1, a1, a2, fr1, hw1, b1, b2, Or.inr ⟨q, o', hq, R1, fun s0 s S P => ?_⟩⟩
    obtain ⟨v, s2, h2, P2⟩ := hM s0 _ S P
    exact ⟨v, s2, by simp only [h2, hz_ob]; exact hM3 F s0 s2 _ q S P2, P2⟩
end S2G
