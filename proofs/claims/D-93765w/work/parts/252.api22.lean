set_option maxRecDepth 100000
/-! ===== STAGE 2: the API: first (one word of an order, asked thrice) ===== -/
section S2AM
variable {x c n H dn un N1 N2 M N3 : Nat} {B : Nat → Nat} {st st' : hk_St} {s s' s0 : hk_Ms}
theorem thr_L {h N i o wi : Nat} {t : Nat → Nat} {pl0 : List qP} {g : Nat → Nat → Nat → Int32 → Int32 → hk_St → Option hk_St} {g' : Int32 → Int32 → Int32 → Int32 → Int32 → hk_Ms → Option hk_Ms} {a1 : Nat} {p3 p4 v38 q3 q4 q5 : Int32}
    (hh : h < 6) (hN : N ≤ 5) (hi : i < N) (hw : wi < N2) (tv : Tv t) (hsm : ∀ j, j < N2 → smA s0 j) (ho : x + 53 ≤ o) {e0 : Int32 → hk_St → Option hk_St} {eM : Int32 → hk_Ms → Option hk_Ms} :
    ∀ m j f v st s pl M, m < f → j + m = 3 → v + 228000 * m ≤ 2 ^ 30 → RR x c n B H dn un N1 N2 M N3 st s0 → CH st (x + 16) t pl M → Pv pl → Px pl0 pl → MHd s h t pl → GM h s0 s → hk_k st o = some (100, 5) → hk_aI st o i = nI wi → hm_A s 23 i = nI wi →
    ∃ v' st' s' pl' M', x_orders_L33 g x a1 o p3 p4 v38 (nI i) e0 f (nI v) (nI j) st = e0 (nI v') st' ∧ (∀ fm, m_ordersFrom_L11 g' (nI h) (nI N) q3 q4 q5 eM (fm + m) (nI v) (nI (3 * i + j)) s = m_ordersFrom_L11 g' (nI h) (nI N) q3 q4 q5 eM fm (nI v') (nI (3 * i + 3)) s') ∧
      RR x c n B H dn un N1 N2 M' N3 st' s0 ∧ CH st' (x + 16) t pl' M' ∧ Pv pl' ∧ Px pl0 pl' ∧ MHd s' h t pl' ∧ GM h s0 s' ∧ Mk x st st' ∧ Ko x st st' ∧ (∀ i, hm_A s' 23 i = hm_A s 23 i) ∧ (∀ f, f = 42 ∨ f = 43 → hm_I s' f = hm_I s f) ∧ (∀ f, f < 100 → hk_fI st' f x = hk_fI st f x) ∧ v' ≤ v + 228000 * m := by
  intro m
  induction m with
  | zero =>
    intro j f v st s pl M hf hj hb R C hv X D G ko ao am
    obtain ⟨f, rfl⟩ : ∃ g, f = g + 1 := ⟨f - 1, by omega⟩
    have : j = 3 := by omega
    subst this
    refine ⟨v, st, s, pl, M, ?_, fun fm => rfl, R, C, hv, X, D, G, Mk.rf, Ko.rf, fun _ => rfl, fun _ _ => rfl, fun _ _ => rfl, by omega⟩
    show x_orders_L33b _ _ _ _ _ _ _ _ _ _ _ _ _ = _
    simp only [x_orders_L33b, show (3 : Int32) ≤ nI 3 by decide, if_true]
  | succ m ih =>
    intro j f v st s pl M hf hj hb R C hv X D G ko ao am
    obtain ⟨f, rfl⟩ : ∃ g, f = g + 1 := ⟨f - 1, by omega⟩
    have K := R.1
    obtain ⟨z1, z2, z3, z4⟩ := tlN R
    obtain ⟨ab, hab, htl⟩ := tl R hw
    obtain ⟨t1, t2⟩ := htl st s0 (Scr.rf K.wk K.li) ScM.rf
    rw [hml (show wi < 8 by omega) (by decide)] at t2
    have hs := hsm _ hw ab (Option.some.inj t2) hab
    obtain ⟨_, st1, s1, pl1, M1, E1, E2, R1, C1, hv1, X1, D1, G1, K1, K2, K3, K4, K5, kv, rfl, hkv⟩ := teach_K R hh C hv tv D G hab hs
    have lo := K.wk.lt ko
    obtain ⟨v', st2, s2, pl2, M2, i1, i2, i3, i4, i5, i6, i7, i8, i9, iA, iB, iC, iD, iE⟩ := ih (j + 1) f (v + kv) st1 s1 pl1 M1 (by omega) (by omega) (by omega) R1 C1 hv1 (X.trans X1) D1 G1 ((K2.2 o ho lo).1.trans ko) (((K2.2 o ho lo).2 i).trans ao) ((K3 i).trans am)
    have t3 : hm_lI s 21 8 (nI wi) = some (nI ab) := by
      rw [hml (show wi < 8 by omega) (by decide), G.2.2.1 21 _ rfl (by decide) (by decide) (by decide) (by decide) (by decide)]; exact t2
    have n3 : ¬ (3 : Int32) ≤ nI j := nI_ge (b := 3) (show j < 3 by omega) (by decide)
    have l0 : hk_lI 0 st o (nI i) = some (nI wi) := by rw [lI_k (ty := 0) ko (show i < 5 by omega) (by decide), ao]
    have m3 : (3 : Int32) * nI N = nI (3 * N) := pk_mul 3 N
    have n4 : ¬ nI (3 * N) ≤ nI (3 * i + j) := nI_ge (show 3 * i + j < 3 * N by omega) (by omega)
    have d3 : nI (3 * i + j) / (3 : Int32) = nI i := by
      have : nI (3 * i + j) / nI 3 = nI ((3 * i + j) / 3) := pk_div (by omega) (by decide) (by decide)
      rw [show (3 * i + j) / 3 = i by omega] at this
      exact this
    have l5 : hm_lI s 23 5 (nI i) = some (nI wi) := by rw [hml (show i < 5 by omega) (by decide), am]
    refine ⟨v', st2, s2, pl2, M2, ?_, fun fm => ?_, i3, i4, i5, i6, i7, i8, K1.trans i9, K2.trans iA, fun i => (iB i).trans (K3 i), fun f hf => (iC f hf).trans (K4 f hf), fun f hf => (iD f hf).trans (K5 f hf), by omega⟩
    · show x_orders_L33b _ _ _ _ _ _ _ _ _ (x_orders_L33 g x a1 o p3 p4 v38 (nI i) e0 f) _ _ _ = _
      simp only [x_orders_L33b, n3, if_false, z4, hz_ob, l0, hz_nn, t1, E1, gdT (bf_k K.x0), hz_nm, nI_1, nI_add]
      exact i1
    · show m_ordersFrom_L11b _ _ _ _ _ _ _ (m_ordersFrom_L11 g' (nI h) (nI N) q3 q4 q5 eM (fm + m)) _ _ _ = _
      simp only [m_ordersFrom_L11b, m3, n4, if_false, d3, l5, hz_ob, t3, E2, hz_nm, nI_1, nI_add]
      exact i2 fm
end S2AM
