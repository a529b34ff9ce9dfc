set_option maxRecDepth 100000
/-! ===== STAGE 2: the API: first (all words of an order) ===== -/
/-- an order's words as a number -/
def wNum (w : Nat → Nat) : Nat → Nat → Nat → Nat
  | 0, _, y => y
  | m + 1, i, y => wNum w m (i + 1) (10 * y + w i + 1)
section S2AN
variable {x c n H dn un N1 N2 M N3 : Nat} {B : Nat → Nat} {st st' : hk_St} {s s' s0 : hk_Ms}
theorem wds_L {h N o : Nat} {w : Nat → Nat} {t : Nat → Nat} {pl0 : List qP} {g : Nat → Nat → Nat → Int32 → Int32 → hk_St → Option hk_St} {g' : Int32 → Int32 → Int32 → Int32 → Int32 → hk_Ms → Option hk_Ms} {a1 : Nat} {p3 q3 q4 q5 : Int32}
    (hh : h < 6) (hN : N ≤ 5) (hw : ∀ i, i < N → w i < N2) (tv : Tv t) (hsm : ∀ j, j < N2 → smA s0 j) (ho : x + 53 ≤ o) {e0 : Int32 → Int32 → hk_St → Option hk_St} {eM : Int32 → hk_Ms → Option hk_Ms} :
    ∀ m i f v y st s pl M, m < f → i + m = N → v + 684000 * m ≤ 2 ^ 30 → RR x c n B H dn un N1 N2 M N3 st s0 → CH st (x + 16) t pl M → Pv pl → Px pl0 pl → MHd s h t pl → GM h s0 s → hk_k st o = some (100, 5) → (∀ i, i < N → hk_aI st o i = nI (w i)) → (∀ i, i < N → hm_A s 23 i = nI (w i)) →
    ∃ v' st' s' pl' M', x_orders_L23 g x a1 o p3 (nI N) e0 f (nI v) (nI y) (nI i) st = e0 (nI v') (nI (wNum w m i y)) st' ∧ (∀ fm, m_ordersFrom_L11 g' (nI h) (nI N) q3 q4 q5 eM (fm + 3 * m) (nI v) (nI (3 * i)) s = m_ordersFrom_L11 g' (nI h) (nI N) q3 q4 q5 eM fm (nI v') (nI (3 * N)) s') ∧
      RR x c n B H dn un N1 N2 M' N3 st' s0 ∧ CH st' (x + 16) t pl' M' ∧ Pv pl' ∧ Px pl0 pl' ∧ MHd s' h t pl' ∧ GM h s0 s' ∧ Mk x st st' ∧ Ko x st st' ∧ (∀ i, hm_A s' 23 i = hm_A s 23 i) ∧ (∀ f, f = 42 ∨ f = 43 → hm_I s' f = hm_I s f) ∧ (∀ f, f < 100 → hk_fI st' f x = hk_fI st f x) ∧ v' ≤ v + 684000 * m := by
  intro m
  induction m with
  | zero =>
    intro i f v y st s pl M hf hi hb R C hv X D G ko ao am
    obtain ⟨f, rfl⟩ : ∃ g, f = g + 1 := ⟨f - 1, by omega⟩
    have : i = N := by omega
    subst this
    refine ⟨v, st, s, pl, M, ?_, fun fm => rfl, R, C, hv, X, D, G, Mk.rf, Ko.rf, fun _ => rfl, fun _ _ => rfl, fun _ _ => rfl, by omega⟩
    show x_orders_L23b _ _ _ _ _ _ _ _ _ _ _ _ = _
    simp only [x_orders_L23b, Int32.le_refl, if_true]
    rfl
  | succ m ih =>
    intro i f v y st s pl M hf hi hb R C hv X D G ko ao am
    obtain ⟨f, rfl⟩ : ∃ g, f = g + 1 := ⟨f - 1, by omega⟩
    have n0 : ¬ nI N ≤ nI i := nI_ge (show i < N by omega) (by omega)
    obtain ⟨m3, hm3⟩ : ∃ m3, m3 = 3 := ⟨3, rfl⟩
    obtain ⟨v1, st1, s1, pl1, M1, E1, E2, R1, C1, hv1, X1, D1, G1, K1, K2, K3, K4, K5, K6⟩ := thr_L (g := g) (g' := g') (a1 := a1) (p3 := p3) (p4 := nI N) (v38 := nI y) (q3 := q3) (q4 := q4) (q5 := q5) (pl0 := pl0) (N := N) (i := i) (o := o) (wi := w i) hh hN (by omega) (hw i (by omega)) tv hsm ho
      (e0 := fun (v42 : Int32) (s43 : hk_St) =>
        (hk_lI 0 s43 o (nI i)).bind fun x53 =>
        x_orders_L23 g x a1 o p3 (nI N) e0 f v42 ((((10 : Int32) * nI y) + x53) + (1 : Int32)) (nI i + (1 : Int32)) s43) (eM := eM) m3 0 hk_F v st s pl M (by rw [hm3]; exact pw_F (by decide)) (by omega) (by omega) R C hv X D G ko (ao i (by omega)) (am i (by omega))
    rw [hm3] at E2
    have lo := R.1.wk.lt ko
    have ko1 := (K2.2 o ho lo).1.trans ko
    have ao1 : ∀ i, i < N → hk_aI st1 o i = nI (w i) := fun i hi => ((K2.2 o ho lo).2 i).trans (ao i hi)
    obtain ⟨v2, st2, s2, pl2, M2, i1, i2, i3, i4, i5, i6, i7, i8, i9, iA, iB, iC, iD, iE⟩ := ih (i + 1) f v1 (10 * y + w i + 1) st1 s1 pl1 M1 (by omega) (by omega) (by omega) R1 C1 hv1 X1 D1 G1 ko1 ao1 (fun i hi => (K3 i).trans (am i hi))
    refine ⟨v2, st2, s2, pl2, M2, ?_, fun fm => ?_, i3, i4, i5, i6, i7, i8, K1.trans i9, K2.trans iA, fun i => (iB i).trans (K3 i), fun f hf => (iC f hf).trans (K4 f hf), fun f hf => (iD f hf).trans (K5 f hf), by omega⟩
    · show x_orders_L23b _ _ _ _ _ _ _ (x_orders_L23 g x a1 o p3 (nI N) e0 f) _ _ _ _ = _
      have l0 : hk_lI 0 st1 o (nI i) = some (nI (w i)) := by rw [lI_k (ty := 0) ko1 (show i < 5 by omega) (by decide), ao1 i (by omega)]
      simp only [x_orders_L23b, n0, if_false, hz_nm]
      rw [nI_0] at E1
      refine E1.trans ?_
      have e10 : ((10 : Int32) * nI y + nI (w i)) + (1 : Int32) = nI (10 * y + w i + 1) := by rw [show (10 : Int32) = nI 10 from rfl, pk_mul, nI_add, nI_1]
      simp only [l0, hz_ob, e10, nI_1]
      exact i1
    · have h1 := E2 (fm + 3 * m)
      have h2 := i2 fm
      rw [show fm + 3 * m + 3 = fm + 3 * (m + 1) by omega, Nat.add_zero] at h1
      rw [show 3 * (i + 1) = 3 * i + 3 by omega] at h2
      exact h1.trans h2
end S2AN
