set_option maxRecDepth 100000
/-! ===== STAGE 2: the API: first (orders one behind the other) ===== -/
theorem bt_1 : ∀ K : Fin 32, ∀ v : Fin 5, ((nI K.val >>> (nI v.val &&& 31)) &&& (1 : Int32)) = bI (K.val.testBit v.val) := by decide +kernel
theorem bt_2 : ∀ K : Fin 32, ∀ v : Fin 5, nI K.val ||| ((1 : Int32) <<< (nI v.val &&& 31)) = nI (K.val ||| 2 ^ v.val) := by decide +kernel
/-- fewer than N numbers leave one out -/
theorem pig : ∀ N n (w : Nat → Nat), n < N → ∃ v, v < N ∧ ∀ e, e < n → w e ≠ v := by
  intro N
  induction N with
  | zero => intro n w h; omega
  | succ N ih =>
    intro n w h
    by_cases q : ∃ e0, e0 < n ∧ w e0 = N
    · obtain ⟨e0, q1, q2⟩ := q
      obtain ⟨v, v1, v2⟩ := ih (n - 1) (fun e => if e < e0 then w e else w (e + 1)) (by omega)
      refine ⟨v, by omega, fun e he => ?_⟩
      by_cases e1 : e < e0
      · have := v2 e (by omega)
        simp only [e1, if_true] at this
        exact this
      · by_cases e2 : e = e0
        · rw [e2, q2]; omega
        · have := v2 (e - 1) (by omega)
          simp only [show ¬ e - 1 < e0 by omega, if_false, show e - 1 + 1 = e by omega] at this
          exact this
    · exact ⟨N, by omega, fun e he h => q ⟨e, he, h⟩⟩
section S2AP
variable {x c n H dn un N1 N2 M N3 : Nat} {B : Nat → Nat} {st st' : hk_St} {s s' s0 : hk_Ms}
theorem had_L {n' v o : Nat} {w : Nat → Nat} {g : Nat → Nat → Nat → Int32 → Int32 → hk_St → Option hk_St} {a1 : Nat} {p4 : Int32} {e0 : Int32 → hk_St → Option hk_St} (ko : hk_k st o = some (100, 5)) (hn : n' ≤ 5) (ao : ∀ i, i < n' → hk_aI st o i = nI (w i)) (hw : ∀ i, i < n' → w i < 5) (hv : v < 5) :
    ∀ m k f b, m < f → k + m = n' → ∃ b' : Bool, x_orders_L129 g x a1 o (nI n') p4 (nI v) e0 f (bI b) (nI k) st = e0 (bI b') st ∧ (b' = true ↔ b = true ∨ ∃ e, k ≤ e ∧ e < n' ∧ w e = v) := by
  intro m
  induction m with
  | zero =>
    intro k f b hf hk
    obtain ⟨f, rfl⟩ : ∃ g, f = g + 1 := ⟨f - 1, by omega⟩
    have : k = n' := by omega
    subst this
    refine ⟨b, ?_, Or.inl, fun q => q.elim id (fun ⟨e, h1, h2, _⟩ => by omega)⟩
    show x_orders_L129b _ _ _ _ _ _ _ _ _ _ _ _ = _
    simp only [x_orders_L129b, Int32.le_refl, if_true]
  | succ m ih =>
    intro k f b hf hk
    obtain ⟨f, rfl⟩ : ∃ g, f = g + 1 := ⟨f - 1, by omega⟩
    have n0 : ¬ nI n' ≤ nI k := nI_ge (show k < n' by omega) (by omega)
    have l0 : hk_lI 0 st o (nI k) = some (nI (w k)) := by rw [lI_k (ty := 0) ko (show k < 5 by omega) (by decide), ao k (by omega)]
    have hwk := hw k (by omega)
    by_cases e : w k = v
    · obtain ⟨b', i1, i2⟩ := ih (k + 1) f true (by omega) (by omega)
      refine ⟨b', ?_, fun _ => Or.inr ⟨k, Nat.le_refl _, by omega, e⟩, fun _ => i2.mpr (Or.inl rfl)⟩
      show x_orders_L129b _ _ _ _ _ _ _ _ (x_orders_L129 g x a1 o (nI n') p4 (nI v) e0 f) _ _ _ = _
      have eb : bI b ||| (1 : Int32) = bI true := by cases b <;> decide
      simp only [x_orders_L129b, n0, if_false, l0, hz_ob, e, if_true, hz_nm, nI_1, eb]
      exact i1
    · obtain ⟨b', i1, i2⟩ := ih (k + 1) f b (by omega) (by omega)
      refine ⟨b', ?_, fun q => ?_, fun q => i2.mpr ?_⟩
      · show x_orders_L129b _ _ _ _ _ _ _ _ (x_orders_L129 g x a1 o (nI n') p4 (nI v) e0 f) _ _ _ = _
        have eb : bI b ||| (0 : Int32) = bI b := by cases b <;> decide
        have ne : ¬ nI (w k) = nI v := fun q => e ((nI_eq (by omega) (by omega)).mp q)
        simp only [x_orders_L129b, n0, if_false, l0, hz_ob, ne, hz_nm, nI_1, eb]
        exact i1
      · rcases i2.mp q with q | ⟨e1, h1, h2, h3⟩
        · exact Or.inl q
        · exact Or.inr ⟨e1, by omega, h2, h3⟩
      · rcases q with q | ⟨e1, h1, h2, h3⟩
        · exact Or.inl q
        · refine Or.inr ⟨e1, ?_, h2, h3⟩
          by_cases q : e1 = k
          · rw [q] at h3; exact absurd h3 e
          · omega
theorem ord_K {h hd N o : Nat} (hh : h < H) (hN : N ≤ 5) (hN2 : N ≤ N2) (hN0 : 0 < N) (hsm : ∀ j, j < N2 → smA s0 j) :
    ∀ m n' d w K1 st s M, n' + m = N → m < d → RR x c n B H dn un N1 N2 M N3 st s0 → OI x H h hd o s0 st s → BR x st s → (∀ i, i < n' → w i < N) → (∀ i, i < n' → hk_aI st o i = nI (w i)) → (∀ i, i < n' → hm_A s 23 i = nI (w i)) → K1 < 32 → (∀ v, v < 5 → (K1.testBit v = true ↔ ∃ e, e < n' ∧ w e = v)) →
    ∃ st' s' M', g_orders d x hd o (nI n') (nI N) st = some st' ∧ g_ordersFrom d (nI h) (nI N) (nI n') (nI K1) (nI (wNum w n' 0 0)) s = some s' ∧ RR x c n B H dn un N1 N2 M' N3 st' s0 ∧ OI x H h hd o s0 st' s' ∧ BRk x st' s' ∧ Mk x st st' ∧ (∀ i, i < n' → hk_aI st' o i = hk_aI st o i) ∧ ∀ i, i < n' → hm_A s' 23 i = hm_A s 23 i := by
  intro m
  induction m with
  | zero =>
    intro n' d w K1 st s M hn hd1 R I hb hw ao am hK hbit
    obtain ⟨d, rfl⟩ : ∃ g, d = g + 1 := ⟨d - 1, by omega⟩
    have : n' = N := by omega
    subst this
    obtain ⟨st', s', M', h1, h2, h3, h4, h5, h6, h7, h8⟩ := leaf_K (g := g_orders d) (g' := g_ordersFrom d) (K1 := nI K1) R hh I hb hN hN0 (fun i hi => ⟨by have := hw i hi; omega, by have := hw i hi; omega⟩) hsm ao am
    exact ⟨st', s', M', h1, h2, h3, h4, h5, h6, fun i _ => h7 i, fun i _ => h8 i⟩
  | succ m ihm =>
    intro n' d w K1 st s M hn hd1 R I hb hw ao am hK hbit
    obtain ⟨d, rfl⟩ : ∃ g, d = g + 1 := ⟨d - 1, by omega⟩
    have nN : ¬ nI n' = nI N := fun q => by have := (nI_eq (by omega) (by omega)).mp q; omega
    have key : ∀ j v f st s M, j < f → v + j = N → RR x c n B H dn un N1 N2 M N3 st s0 → OI x H h hd o s0 st s → BR x st s → (∀ i, i < n' → hk_aI st o i = nI (w i)) → (∀ i, i < n' → hm_A s 23 i = nI (w i)) →
        ∃ st' s' M', x_orders_L116 (g_orders d) x hd o (nI n') (nI N) (fun (s4 : hk_St) => some s4) f (nI v) st = some st' ∧ m_ordersFrom_L86 (g_ordersFrom d) (nI h) (nI N) (nI n') (nI K1) (nI (wNum w n' 0 0)) (fun (s4 : hk_Ms) => some s4) f (nI v) s = some s' ∧
          RR x c n B H dn un N1 N2 M' N3 st' s0 ∧ OI x H h hd o s0 st' s' ∧ BR x st' s' ∧ ((BRk x st s ∨ ∃ u, v ≤ u ∧ u < N ∧ ∀ e, e < n' → w e ≠ u) → BRk x st' s') ∧ Mk x st st' ∧ (∀ i, i < n' → hk_aI st' o i = hk_aI st o i) ∧ ∀ i, i < n' → hm_A s' 23 i = hm_A s 23 i := by
      intro j
      induction j with
      | zero =>
        intro v f st s M hf hv R I hb ao am
        obtain ⟨f, rfl⟩ : ∃ g, f = g + 1 := ⟨f - 1, by omega⟩
        have : v = N := by omega
        subst this
        refine ⟨st, s, M, ?_, ?_, R, I, hb, fun q => q.elim id (fun ⟨u, h1, h2, _⟩ => by omega), Mk.rf, fun _ _ => rfl, fun _ _ => rfl⟩
        · show x_orders_L116b _ _ _ _ _ _ _ _ _ _ = _
          simp only [x_orders_L116b, Int32.le_refl, if_true]
        · show m_ordersFrom_L86b _ _ _ _ _ _ _ _ _ _ = _
          simp only [m_ordersFrom_L86b, Int32.le_refl, if_true]
      | succ j ihj =>
        intro v f st s M hf hv R I hb ao am
        obtain ⟨f, rfl⟩ : ∃ g, f = g + 1 := ⟨f - 1, by omega⟩
        have n0 : ¬ nI N ≤ nI v := nI_ge (show v < N by omega) (by omega)
        have U := I.2.1
        obtain ⟨b', E, hbb⟩ := had_L (g := g_orders d) (a1 := hd) (p4 := nI N) (v := v) (e0 := fun (v10 : Int32) (s11 : hk_St) =>
          if v10 = 0 then
            (hk_tI 0 s11 o (nI n') (nI v)).bind fun s20 =>
            (g_orders d x hd o (nI n' + (1 : Int32)) (nI N) s20).bind fun s21 =>
            hk_gd (hk_bf [0] s20 x) <|
            hk_nm (nI v + (1 : Int32)) fun x23 =>
            x_orders_L116 (g_orders d) x hd o (nI n') (nI N) (fun (s4 : hk_St) => some s4) f x23 s21
          else
          hk_nm (nI v + (1 : Int32)) fun x24 =>
          x_orders_L116 (g_orders d) x hd o (nI n') (nI N) (fun (s4 : hk_St) => some s4) f x24 s11) U.2.1 (show n' ≤ 5 by omega) ao (fun i hi => by have := hw i hi; omega) (show v < 5 by omega) n' 0 hk_F false (pw_F (by omega)) (by omega)
        rw [nI_0, show bI false = 0 from rfl] at E
        have tb := hbit v (by omega)
        have bit := bt_1 ⟨K1, hK⟩ ⟨v, by omega⟩
        try dsimp only at bit
        try dsimp only at E
        have X := eqt E (show x_orders_L116 (g_orders d) x hd o (nI n') (nI N) (fun (s4 : hk_St) => some s4) (f + 1) (nI v) st = _ from by
          show x_orders_L116b _ _ _ _ _ _ _ (x_orders_L116 (g_orders d) x hd o (nI n') (nI N) (fun (s4 : hk_St) => some s4) f) _ _ = _
          simp only [x_orders_L116b, n0, if_false]
          try rfl)
        by_cases hc : b' = true
        · -- v stands in the order already
          subst hc
          obtain ⟨st2, s2, M2, i1, i2, i3, i4, i5, i6, i7, i8, i9⟩ := ihj (v + 1) f st s M (by omega) (by omega) R I hb ao am
          have hex : ∃ e, e < n' ∧ w e = v := by
            rcases hbb.mp rfl with q | ⟨e, -, h2, h3⟩
            · exact absurd q (by decide)
            · exact ⟨e, h2, h3⟩
          refine ⟨st2, s2, M2, ?_, ?_, i3, i4, i5, fun q => i6 ?_, i7, i8, i9⟩
          · rw [X, if_neg (show ¬ bI true = 0 by decide)]
            simp only [hz_nm, nI_1]
            exact i1
          · show m_ordersFrom_L86b _ _ _ _ _ _ _ (m_ordersFrom_L86 (g_ordersFrom d) (nI h) (nI N) (nI n') (nI K1) (nI (wNum w n' 0 0)) (fun (s4 : hk_Ms) => some s4) f) _ _ = _
            rw [tb.mpr hex] at bit
            simp only [m_ordersFrom_L86b, n0, if_false, bit, show ¬ bI true = 0 by decide, hz_nm, nI_1]
            exact i2
          · rcases q with q | ⟨u, h1, h2, h3⟩
            · exact Or.inl q
            · refine Or.inr ⟨u, ?_, h2, h3⟩
              obtain ⟨e, he1, he2⟩ := hex
              have := h3 e he1
              omega
        · have hnx : ∀ e, e < n' → w e ≠ v := fun e he q => hc (hbb.mpr (Or.inr ⟨e, Nat.zero_le _, he, q⟩))
          have hbf : b' = false := by
            cases b' with
            | true => exact absurd rfl hc
            | false => rfl
          subst hbf
          obtain ⟨R1, J1, U1⟩ := R.oarr (i := n') (v := nI v) U
          have hK2 : K1 ||| 2 ^ v < 32 := Nat.or_lt_two_pow (n := 5) hK (Nat.pow_lt_pow_right (by decide) (show v < 5 by omega))
          have ea : ∀ i, hk_aI (hk_saI st o n' (nI v)) o i = if i = n' then nI v else hk_aI st o i := fun i => by
            rw [aI_saI]
            by_cases q : i = n'
            · rw [if_pos ⟨rfl, q⟩, if_pos q]
            · rw [if_neg (fun h => q h.2), if_neg q]
          have eA : ∀ i, hm_A (hm_sA s 23 n' (nI v)) 23 i = if i = n' then nI v else hm_A s 23 i := fun i => by
            rw [hmA_sA]
            by_cases q : i = n'
            · rw [if_pos ⟨rfl, q⟩, if_pos q]
            · rw [if_neg (fun h => q h.2), if_neg q]
          have ey : wNum (fun e => if e = n' then v else w e) (n' + 1) 0 0 = 10 * wNum w n' 0 0 + v + 1 := by
            rw [wNum_s, wNum_c (w' := w) n' 0 0 (fun e he => by rw [if_neg (by omega)]), if_pos (by omega)]
          obtain ⟨st1, s1, M1, k1, k2, k3, k4, k5, k6, k7, k8⟩ := ihm (n' + 1) d (fun e => if e = n' then v else w e) (K1 ||| 2 ^ v) (hk_saI st o n' (nI v)) (hm_sA s 23 n' (nI v)) M (by omega) (by omega) R1 ⟨I.1, U1, I.2.2.sA⟩ hb
            (fun i hi => by
              show (if i = n' then v else w i) < N
              by_cases q : i = n'
              · rw [if_pos q]; omega
              · rw [if_neg q]; exact hw i (by omega))
            (fun i hi => by
              rw [ea]
              show _ = nI (if i = n' then v else w i)
              by_cases q : i = n'
              · rw [if_pos q, if_pos q]
              · rw [if_neg q, if_neg q]; exact ao i (by omega))
            (fun i hi => by
              rw [eA]
              show _ = nI (if i = n' then v else w i)
              by_cases q : i = n'
              · rw [if_pos q, if_pos q]
              · rw [if_neg q, if_neg q]; exact am i (by omega))
            hK2 (fun u hu => by
              rw [Nat.testBit_or, Nat.testBit_two_pow, Bool.or_eq_true, hbit u hu, decide_eq_true_eq]
              constructor
              · rintro (⟨e, h1, h2⟩ | q)
                · exact ⟨e, by omega, by simp only [show ¬ e = n' by omega, if_false]; exact h2⟩
                · exact ⟨n', by omega, by simp only [if_true]; exact q⟩
              · rintro ⟨e, h1, h2⟩
                by_cases q : e = n'
                · simp only [q, if_true] at h2
                  exact Or.inr h2
                · simp only [q, if_false] at h2
                  exact Or.inl ⟨e, by omega, h2⟩)
          rw [ey] at k2
          obtain ⟨st2, s2, M2, i1, i2, i3, i4, i5, i6, i7, i8, i9⟩ := ihj (v + 1) f st1 s1 M1 (by omega) (by omega) k3 k4 (Or.inr k5) (fun i hi => by rw [k7 i (by omega), ea, if_neg (by omega)]; exact ao i hi) (fun i hi => by rw [k8 i (by omega), eA, if_neg (by omega)]; exact am i hi)
          refine ⟨st2, s2, M2, ?_, ?_, i3, i4, i5, fun _ => i6 (Or.inl k5), (J1.trans k6).trans i7, fun i hi => by rw [i8 i hi, k7 i (by omega), ea, if_neg (by omega)], fun i hi => by rw [i9 i hi, k8 i (by omega), eA, if_neg (by omega)]⟩
          · have t1 : hk_tI 0 st o (nI n') (nI v) = some (hk_saI st o n' (nI v)) := tI_k (ty := 0) U.2.1 (show n' < 5 by omega) (by decide)
            rw [X, if_pos (show bI false = 0 from rfl)]
            simp only [t1, hz_ob, nI_1, k1, gdT (bf_k R1.1.x0), hz_nm]
            exact i1
          · show m_ordersFrom_L86b _ _ _ _ _ _ _ (m_ordersFrom_L86 (g_ordersFrom d) (nI h) (nI N) (nI n') (nI K1) (nI (wNum w n' 0 0)) (fun (s4 : hk_Ms) => some s4) f) _ _ = _
            have tf : K1.testBit v = false := by
              cases q : K1.testBit v with
              | false => rfl
              | true =>
                obtain ⟨e, h1, h2⟩ := tb.mp q
                exact absurd h2 (hnx e h1)
            rw [tf] at bit
            have b2 := bt_2 ⟨K1, hK⟩ ⟨v, by omega⟩
            try dsimp only at b2
            have t2 : hm_tI s 23 5 (nI n') (nI v) = some (hm_sA s 23 n' (nI v)) := hmt (show n' < 5 by omega) (by decide)
            have e10 : ((10 : Int32) * nI (wNum w n' 0 0) + nI v) + (1 : Int32) = nI (10 * wNum w n' 0 0 + v + 1) := by rw [show (10 : Int32) = nI 10 from rfl, pk_mul, nI_add, nI_1]
            simp only [m_ordersFrom_L86b, n0, if_false, bit, show bI false = 0 from rfl, if_true, t2, hz_ob, b2, e10, nI_1, k2, hz_nm]
            exact i2
    obtain ⟨st2, s2, M2, i1, i2, i3, i4, i5, i6, i7, i8, i9⟩ := key N 0 hk_F st s M (pw_F (by omega)) (by omega) R I hb ao am
    obtain ⟨u, u1, u2⟩ := pig N n' w (by omega)
    rw [nI_0] at i1 i2
    refine ⟨st2, s2, M2, ?_, ?_, i3, i4, i6 (Or.inr ⟨u, Nat.zero_le _, u1, u2⟩), i7, i8, i9⟩
    · show x_orders _ _ _ _ _ _ _ = _
      simp only [x_orders, nN, if_false]
      exact i1
    · show m_ordersFrom _ _ _ _ _ _ _ = _
      simp only [m_ordersFrom, nN, if_false]
      exact i2
end S2AP
