set_option maxRecDepth 100000
/-! ===== STAGE 2: the API: table, feed ===== -/
section S2A6
variable {x c n H dn un N1 N2 M N3 : Nat} {B : Nat → Nat} {st st' : hk_St} {s s' : hk_Ms}
/-- seconds by the chosen way, the table thought of or not -/
theorem cs2 {h hd M ab : Nat} {t t0 : Nat → Nat} {pl : List qP} {tb : Int32} (K : RK x st) (hL : RL x st s) (C : CH st hd t pl M) (hv : Pv pl) (ht : ∀ i, t i ≤ 99) (ht3 : 0 < t 3) (D : MHd s h t0 pl) (hh : h < 6) (ht0 : ∀ i, i ≠ 3 → t0 i = t i) (htb : (tb ≤ 0 ∧ t0 3 = t 3) ∨ (¬ tb ≤ 0 ∧ tb = nI (t 3))) (hab : Pr ab) :
    ∃ v w st' s', x_chosenSeconds x hd (nI (ab / 10000)) (nI (ab % 10000)) st = some (v, st') ∧ m_chosenBy (nI h) (nI ab) tb s = some (nI w, s') ∧ m_seconds s' = some v ∧ Scr x st st' ∧ ScM s s' ∧ ∃ kv, v = nI kv ∧ kv ≤ 228000 := by
  obtain ⟨w, st1, s1, hw, E1, S1, E2, S2, L2, hb⟩ := ch2 K hL C hv ht ht3 D hh ht0 htb hab
  have K1 := S1.k K
  obtain ⟨st2, E3, S3, L3⟩ := c_lay (w := w) K1 (C.scr K S1) hv ht ht3 hab hw
  have K3 := S3.k K1
  obtain ⟨X1, X2, X3⟩ := qL_X (t := t) (pl := pl) (w := w) ht hab
  refine ⟨_, w, st2, s1, ?_, E2, m_secs L2 X3, S1.trans S3, S2, _, rfl, by have := X2.2.2; omega⟩
  simp only [x_chosenSeconds, gR_b (bf_k K.x0), K.r9, hz_ob, E1, hz_gd, bf_k K.x0, if_true, hz_nn, E3, bf_k K1.ka.1, gR_b (bf_k K3.x0), K3.r9, L3.i.2.1]
theorem saI_saI {a i : Nat} {v w : Int32} : hk_saI (hk_saI st a i v) a i w = hk_saI st a i w := by
  unfold hk_saI hk_u2
  simp only [Prod.mk.injEq, true_and, and_true]
  funext b j
  by_cases h : b = a ∧ j = i
  · rw [if_pos h, if_pos h]
  · rw [if_neg h, if_neg h, if_neg h]
theorem saI_self {a i : Nat} {v : Int32} (h : hk_aI st a i = v) : hk_saI st a i v = st := by
  obtain ⟨q1, q2, q3, q4, q5, q6⟩ := st
  unfold hk_saI hk_u2
  simp only [Prod.mk.injEq, true_and, and_true]
  funext b j
  by_cases e : b = a ∧ j = i
  · rw [if_pos e, e.1, e.2]; exact h.symm
  · rw [if_neg e]
theorem told_ne (K : RK x st) {hd : Nat} (C3 : hk_k st (hd + 1) = some (100, 5)) : ¬ (hd + 1 = x + 5 ∨ (x + 7 ≤ hd + 1 ∧ hd + 1 ≤ x + 9)) := by
  rintro (q | q)
  · rw [q, K.fc.2.2] at C3; cases C3
  · have h2 := K.ka.2.1 (hd + 1 - (x + 7)) (by omega)
    rw [show x + 6 + (hd + 1 - (x + 7) + 1) = hd + 1 by omega, C3] at h2
    cases h2
theorem tab_L {h hd ab : Nat} {v : Int32} {t : Nat → Nat} {pl : List qP} (hh : h < H) (hab : Pr ab) {eM : hk_Ms → Option (Int32 × hk_Ms)} (heM : ∀ s, eM s = some (-2, s)) :
    ∀ m f tt bv st s, m + 1 < f → tt + m = 100 → 9 ≤ tt → RR x c n B H dn un N1 N2 M N3 st s → RHd x h hd t pl st s → ∃ b2 st' s', x_table_L42 x (nI h) (nI ab) v hd (nI (t 3)) (fun (v17 : Int32) (s18 : hk_St) =>
      (hk_gR [3] 300 s18 hd).bind fun x29 =>
      hk_nn x29 fun a30 =>
      (hk_tI 0 s18 a30 (3 : Int32) (nI (t 3))).bind fun s31 =>
      some (v17, s31)) f (-2 : Int32) (nI tt) (hk_saI st (hd + 1) 3 bv) = some (b2, st') ∧ m_table_L21 (nI h) (nI ab) v eM f (nI tt) s = some (b2, s') ∧ Scr x st st' ∧ RR x c n B H dn un N1 N2 M N3 st' s' := by
  intro m
  induction m with
  | zero =>
    intro f tt bv st s hf htt ht9 R D
    obtain ⟨f, rfl⟩ : ∃ g, f = g + 1 := ⟨f - 1, by omega⟩
    have : tt = 100 := by omega
    subst this
    obtain ⟨r1, r2, r3, r4, r5, r6⟩ := D
    have hT : hk_aI st (hd + 1) 3 = nI (t 3) := r3.1.2.2.2 3 (by decide)
    refine ⟨-2, st, s, ?_, ?_, Scr.rf R.1.wk R.1.li, R⟩
    · show x_table_L42b _ _ _ _ _ _ _ _ _ _ _ = _
      have e : hk_tI 0 (hk_saI st (hd + 1) 3 bv) (hd + 1) (3 : Int32) (nI (t 3)) = some st := by
        rw [show (3 : Int32) = nI 3 from rfl, tI_k (st := hk_saI st (hd + 1) 3 bv) (ty := 0) r3.1.2.2.1 (by decide) (by decide), show hk_nar 0 (nI (t 3)) = nI (t 3) from rfl, saI_saI, saI_self hT]
      simp only [x_table_L42b, show (99 : Int32) < nI 100 by decide, if_true, gR_b (st := hk_saI st (hd + 1) 3 bv) (bf_k r3.1.1), fR_saI, r3.1.2.1, hz_ob, hz_nn, e]
    · show m_table_L21b _ _ _ _ _ _ _ = _
      simp only [m_table_L21b, show (99 : Int32) < nI 100 by decide, if_true, heM]
  | succ m ih =>
    intro f tt bv st s hf htt ht9 R D
    obtain ⟨f, rfl⟩ : ∃ g, f = g + 1 := ⟨f - 1, by omega⟩
    have D' := D
    obtain ⟨r1, r2, r3, r4, r5, r6⟩ := D
    have K := R.1
    have h6 := R.2.2.1.2.2.1
    have C3 := r3.1.2.2.1
    have hT : hk_aI st (hd + 1) 3 = nI (t 3) := r3.1.2.2.2 3 (by decide)
    have n99 : ¬ (99 : Int32) < nI tt := nI_nlt (a := 99) (by omega) (by decide)
    have hne := told_ne K C3
    -- the state with the table told
    have F3 : Fr no2 no2 no2 (fun a => a = hd + 1) no1 no1 st (hk_saI st (hd + 1) 3 (nI tt)) := Fr.saI Fr.rf (fun _ => rfl)
    have K3 : RK x (hk_saI st (hd + 1) 3 (nI tt)) := K.fr F3 (by first | (intros; exact id) | (intros; decide) | (intros; dsimp only; decide) | (intros; omega) | (intros; dsimp only at *; omega) | (intros; dsimp only; omega) | (intros; simp only [nodeI, nodeR, no1, no2] at *; omega) | (intros; simp only [nodeI, nodeR, no1, no2]; omega) | (intros; constructor <;> first | exact id | omega | (dsimp only at *; omega) | (dsimp only; omega)) | (intros; simp_all [no1, no2, nodeI, nodeR]; done)) K.wk K.li
    have Gid : FrM (fun _ => False) (fun _ _ => False) no1 s s := ⟨fun _ _ => rfl, fun _ _ _ => rfl, fun _ _ => rfl⟩
    have L3 : RL x (hk_saI st (hd + 1) 3 (nI tt)) s := R.2.2.2.2.1.fr F3 Gid K (by first | (intros; exact id) | (intros; decide) | (intros; dsimp only; decide) | (intros; omega) | (intros; dsimp only at *; omega) | (intros; dsimp only; omega) | (intros; simp only [nodeI, nodeR, no1, no2] at *; omega) | (intros; simp only [nodeI, nodeR, no1, no2]; omega) | (intros; constructor <;> first | exact id | omega | (dsimp only at *; omega) | (dsimp only; omega)) | (intros; simp_all [no1, no2, nodeI, nodeR]; done)) (by first | (intros; exact id) | (intros; decide) | (intros; dsimp only; decide) | (intros; omega) | (intros; dsimp only at *; omega) | (intros; dsimp only; omega) | (intros; simp only [nodeI, nodeR, no1, no2] at *; omega) | (intros; simp only [nodeI, nodeR, no1, no2]; omega) | (intros; constructor <;> first | exact id | omega | (dsimp only at *; omega) | (dsimp only; omega)) | (intros; simp_all [no1, no2, nodeI, nodeR]; done)) (by first | (intros; exact id) | (intros; decide) | (intros; dsimp only; decide) | (intros; omega) | (intros; dsimp only at *; omega) | (intros; dsimp only; omega) | (intros; simp only [nodeI, nodeR, no1, no2] at *; omega) | (intros; simp only [nodeI, nodeR, no1, no2]; omega) | (intros; constructor <;> first | exact id | omega | (dsimp only at *; omega) | (dsimp only; omega)) | (intros; simp_all [no1, no2, nodeI, nodeR]; done)) (by first | (intros; exact id) | (intros; decide) | (intros; dsimp only; decide) | (intros; omega) | (intros; dsimp only at *; omega) | (intros; dsimp only; omega) | (intros; simp only [nodeI, nodeR, no1, no2] at *; omega) | (intros; simp only [nodeI, nodeR, no1, no2]; omega) | (intros; constructor <;> first | exact id | omega | (dsimp only at *; omega) | (dsimp only; omega)) | (intros; simp_all [no1, no2, nodeI, nodeR]; done)) (by first | (intros; exact id) | (intros; decide) | (intros; dsimp only; decide) | (intros; omega) | (intros; dsimp only at *; omega) | (intros; dsimp only; omega) | (intros; simp only [nodeI, nodeR, no1, no2] at *; omega) | (intros; simp only [nodeI, nodeR, no1, no2]; omega) | (intros; constructor <;> first | exact id | omega | (dsimp only at *; omega) | (dsimp only; omega)) | (intros; simp_all [no1, no2, nodeI, nodeR]; done))
    have C3' : CH (hk_saI st (hd + 1) 3 (nI tt)) hd (fun i => if i = 3 then tt else t i) pl pl.length := by
      obtain ⟨⟨C1, C2, C3, C4⟩, C5⟩ := r3
      refine ⟨⟨C1, C2, C3, fun i hi => ?_⟩, C5⟩
      rw [aI_saI]
      by_cases e : i = 3
      · subst e; rw [if_pos ⟨rfl, rfl⟩]; simp
      · rw [if_neg (fun q => e q.2), C4 i hi]; simp [e]
    obtain ⟨sv, w, st4, s4, E1, E2, E3, S1, S2, -⟩ := cs2 (tb := nI tt) (t0 := t) K3 L3 C3' r5 (fun i => by split; omega; exact r6.1 i) (by simp; omega) r4 (by omega) (fun i hi => by simp [hi]) (Or.inr ⟨fun q => by have := (li_le0 (show tt < 2 ^ 31 by omega)).mp q; omega, by simp⟩) hab
    -- back
    have hv4 : hk_aI st4 (hd + 1) 3 = nI tt := by
      rw [S1.1.2.2.2.2.2.1 _ _ (K.wk.lt C3) hne, aI_saI, if_pos ⟨rfl, rfl⟩]
    have S5 : Scr x st (hk_saI st4 (hd + 1) 3 (nI (t 3))) := by
      obtain ⟨⟨f0, f1, f2, f3, f4, f5, f6, f7⟩, e1, e2, hw, hl⟩ := S1
      refine ⟨⟨f0, f1, f2, f3, f4, fun a i ha hp => ?_, f6, f7⟩, e1, e2, hw, hl⟩
      rw [aI_saI]
      by_cases q : a = hd + 1 ∧ i = 3
      · rw [if_pos q, q.1, q.2, hT]
      · rw [if_neg q, f5 a i ha hp, aI_saI, if_neg q]
    have e5 : hk_saI (hk_saI st4 (hd + 1) 3 (nI (t 3))) (hd + 1) 3 (nI tt) = st4 := by rw [saI_saI, saI_self hv4]
    have R5 := R.scr S5 S2
    have D5 : RHd x h hd t pl (hk_saI st4 (hd + 1) 3 (nI (t 3))) s4 := ⟨(S5.1.2.2.2.2.2.2.2 _ _ (K.wk.lt K.k2) (fun q => q)).trans r1, r2, r3.scr K S5, r4.scm r5.1 S2, r5, r6⟩
    have e3 := ld_4 hab.1
    have e4 := lm_4 hab.1
    rw [e3] at e4
    have eset : hk_tI 0 (hk_saI st (hd + 1) 3 bv) (hd + 1) (3 : Int32) (nI tt) = some (hk_saI st (hd + 1) 3 (nI tt)) := by
      rw [show (3 : Int32) = nI 3 from rfl, tI_k (st := hk_saI st (hd + 1) 3 bv) (ty := 0) C3 (by decide) (by decide), show hk_nar 0 (nI tt) = nI tt from rfl, saI_saI]
    show ∃ b2 st' s', x_table_L42b _ _ _ _ _ _ _ (x_table_L42 x (nI h) (nI ab) v hd (nI (t 3)) _ f) _ _ _ = _ ∧ m_table_L21b _ _ _ _ (m_table_L21 (nI h) (nI ab) v eM f) _ _ = _ ∧ _
    simp only [x_table_L42b, m_table_L21b, n99, if_false, show ¬ (0 : Int32) ≤ -2 by decide, gR_b (st := hk_saI st (hd + 1) 3 bv) (bf_k r3.1.1), fR_saI, r3.1.2.1, hz_ob, hz_nn, eset, e3, e4, E1, E2, E3, gdT (bf_k K3.x0), hz_nm, nI_1]
    by_cases hc : v < sv
    · simp only [hc, if_true]
      obtain ⟨b2, st', s', i1, i2, i3, i4⟩ := ih f (tt + 1) (nI tt) _ s4 (by omega) (by omega) (by omega) R5 D5
      rw [e5] at i1
      exact ⟨b2, st', s', i1, i2, S5.trans i3, i4⟩
    · simp only [hc, if_false]
      obtain ⟨f, rfl⟩ : ∃ g, f = g + 1 := ⟨f - 1, by omega⟩
      have hz : (0 : Int32) ≤ nI tt := nI_pos' (by omega)
      have K4 := S1.k K3
      have C4' := C3'.scr K3 S1
      refine ⟨nI tt, hk_saI st4 (hd + 1) 3 (nI (t 3)), s4, ?_, rfl, S5, R5⟩
      show x_table_L42b _ _ _ _ _ _ _ (x_table_L42 x (nI h) (nI ab) v hd (nI (t 3)) _ f) _ _ _ = _
      have e6 : hk_tI 0 st4 (hd + 1) (3 : Int32) (nI (t 3)) = some (hk_saI st4 (hd + 1) 3 (nI (t 3))) := by
        rw [show (3 : Int32) = nI 3 from rfl, tI_k (ty := 0) C4'.1.2.2.1 (by decide) (by decide)]; rfl
      simp only [x_table_L42b, hz, if_true, ite_self, gR_b (bf_k C4'.1.1), C4'.1.2.1, hz_ob, hz_nn, e6]
theorem ap_table (p q v : Int32) : AP x (x_table x p q v) (m_table p q v) := by
  intro c st s hA
  obtain ⟨n, B, H, dn, un, N1, N2, M, N3, R⟩ := hA
  have K := R.1
  have hH := R.2.2.1
  rcases isHead_c K hH p with ⟨h1, h2⟩ | ⟨h1, h2, h, hh, rfl⟩
  · exact ⟨-1, st, s, by simp only [x_table, h1, hz_ob, hz_gd, bf_k K.x0, if_true], by simp only [m_table, h2, hz_ob, if_true], R.ra, Mk.rf⟩
  · rcases isAsk_c q with ⟨q1, q2⟩ | ⟨q1, q2, ab, rfl, hab⟩
    · exact ⟨-1, st, s, by simp only [x_table, h1, hz_ob, hz_gd, bf_k K.x0, if_true, show ¬ (1 : Int32) = 0 by decide, if_false, q1], by simp only [m_table, h2, hz_ob, show ¬ (1 : Int32) = 0 by decide, if_false, q2, if_true], R.ra, Mk.rf⟩
    · obtain ⟨hd, t, pl, D⟩ := hH.2.2.2.1 h hh
      have D' := D
      obtain ⟨r1, r2, r3, r4, r5, r6⟩ := D
      have hT : hk_aI st (hd + 1) 3 = nI (t 3) := r3.1.2.2.2 3 (by decide)
      obtain ⟨b2, st', s', E1, E2, S1, R1⟩ := tab_L (v := v) (eM := fun (s6 : hk_Ms) => some ((-2 : Int32), s6)) hh hab (fun _ => rfl) 91 hk_F 9 (nI (t 3)) st s (pw_F (by decide)) rfl (by decide) R D'
      rw [saI_self hT] at E1
      have l3 : hk_lI 0 st (hd + 1) (3 : Int32) = some (nI (t 3)) := by rw [show (3 : Int32) = nI 3 from rfl, lI_k (ty := 0) r3.1.2.2.1 (by decide) (by decide), hT]
      refine ⟨b2, st', s', ?_, ?_, R1.ra, S1.mk K⟩
      · simp only [x_table, h1, hz_ob, gdT (bf_k K.x0), show ¬ (1 : Int32) = 0 by decide, if_false, q1, (snN R).2.2.2.2.2.1, hz_nn, hdL R hh r1, gR_b (bf_k r3.1.1), r3.1.2.1, l3]
        exact E1
      · simp only [m_table, h2, hz_ob, show ¬ (1 : Int32) = 0 by decide, if_false, q2]
        exact E2
-- feed
theorem RT.more {v : Int32} {k b : Nat} (hb : b < 256) (hn : n < 120) (K : RK x st) (hT : RT x n B st s) (h1 : v = sbv b) : RT x (n + 1) (fun i => if i = n then b else B i) (hk_sfI (hk_saI st (x + 1) n v) 1 x (nI (n + 1))) (hm_sI (hm_sA s 4 n (nI b)) 7 (nI (n + 1))) := by
  obtain ⟨⟨T1, T2, T3, T4, T5, T6⟩, m1, m2⟩ := hT
  refine ⟨⟨T1, by rw [fI_sfI, if_pos ⟨rfl, rfl⟩], T3, T4, by omega, fun i hi => ?_⟩, by rw [hmI_sI, if_pos rfl], fun i hi => ?_⟩
  · rw [aI_sfI, aI_saI]
    by_cases e : i = n
    · subst e; simp [hb, h1]
    · rw [if_neg (fun q => e q.2)]; simp only [e, if_false]; exact T6 i (by omega)
  · rw [hmA_sI, hmA_sA]
    by_cases e : i = n
    · subst e; simp
    · rw [if_neg (fun q => e q.2)]; simp only [e, if_false]; exact m2 i (by omega)
theorem RR.tape {v : Int32} {b : Nat} (hb : b < 256) (hn : n < 120) (R : RR x c n B H dn un N1 N2 M N3 st s) (h1 : v = sbv b) :
    RR x c (n + 1) (fun i => if i = n then b else B i) H dn un N1 N2 M N3 (hk_sfI (hk_saI st (x + 1) n v) 1 x (nI (n + 1))) (hm_sI (hm_sA s 4 n (nI b)) 7 (nI (n + 1))) ∧ Mk x st (hk_sfI (hk_saI st (x + 1) n v) 1 x (nI (n + 1))) := by
  obtain ⟨K, hT, hH, hG, hL, hS, hO, hP, hB, hTr, hV, hc1, hc2⟩ := R
  have F : Fr (fun f a => f = 1 ∧ a = x) no2 no2 (fun a => a = x + 1) no1 no1 st (hk_sfI (hk_saI st (x + 1) n v) 1 x (nI (n + 1))) := Fr.sfI (Fr.saI Fr.rf (fun _ => rfl)) (fun _ => ⟨rfl, rfl⟩)
  have G : FrM (fun f => f = 7) (fun j _ => j = 4) no1 s (hm_sI (hm_sA s 4 n (nI b)) 7 (nI (n + 1))) := ⟨fun f hf => by rw [hmI_sI, if_neg hf, hmI_sA], fun j i hj => by rw [hmA_sI, hmA_sA, if_neg (fun q => hj q.1)], fun i _ => by rw [hmB_sI, hmB_sA]⟩
  have hw : Wk (hk_sfI (hk_saI st (x + 1) n v) 1 x (nI (n + 1))) := K.wk
  have hl : Li (hk_sfI (hk_saI st (x + 1) n v) 1 x (nI (n + 1))) := K.li
  exact ⟨⟨(K.fr F (by first | (intros; exact id) | (intros; decide) | (intros; dsimp only; decide) | (intros; omega) | (intros; dsimp only at *; omega) | (intros; dsimp only; omega) | (intros; simp only [nodeI, nodeR, no1, no2] at *; omega) | (intros; simp only [nodeI, nodeR, no1, no2]; omega) | (intros; constructor <;> first | exact id | omega | (dsimp only at *; omega) | (dsimp only; omega)) | (intros; simp_all [no1, no2, nodeI, nodeR]; done)) hw hl), RT.more (k := 0) hb hn K hT h1, (hH.fr F G K (by first | (intros; exact id) | (intros; decide) | (intros; dsimp only; decide) | (intros; omega) | (intros; dsimp only at *; omega) | (intros; dsimp only; omega) | (intros; simp only [nodeI, nodeR, no1, no2] at *; omega) | (intros; simp only [nodeI, nodeR, no1, no2]; omega) | (intros; constructor <;> first | exact id | omega | (dsimp only at *; omega) | (dsimp only; omega)) | (intros; simp_all [no1, no2, nodeI, nodeR]; done)) (by first | (intros; exact id) | (intros; decide) | (intros; dsimp only; decide) | (intros; omega) | (intros; dsimp only at *; omega) | (intros; dsimp only; omega) | (intros; simp only [nodeI, nodeR, no1, no2] at *; omega) | (intros; simp only [nodeI, nodeR, no1, no2]; omega) | (intros; constructor <;> first | exact id | omega | (dsimp only at *; omega) | (dsimp only; omega)) | (intros; simp_all [no1, no2, nodeI, nodeR]; done)) (by first | (intros; exact id) | (intros; decide) | (intros; dsimp only; decide) | (intros; omega) | (intros; dsimp only at *; omega) | (intros; dsimp only; omega) | (intros; simp only [nodeI, nodeR, no1, no2] at *; omega) | (intros; simp only [nodeI, nodeR, no1, no2]; omega) | (intros; constructor <;> first | exact id | omega | (dsimp only at *; omega) | (dsimp only; omega)) | (intros; simp_all [no1, no2, nodeI, nodeR]; done)) (by first | (intros; exact id) | (intros; decide) | (intros; dsimp only; decide) | (intros; omega) | (intros; dsimp only at *; omega) | (intros; dsimp only; omega) | (intros; simp only [nodeI, nodeR, no1, no2] at *; omega) | (intros; simp only [nodeI, nodeR, no1, no2]; omega) | (intros; constructor <;> first | exact id | omega | (dsimp only at *; omega) | (dsimp only; omega)) | (intros; simp_all [no1, no2, nodeI, nodeR]; done)) (by first | (intros; exact id) | (intros; decide) | (intros; dsimp only; decide) | (intros; omega) | (intros; dsimp only at *; omega) | (intros; dsimp only; omega) | (intros; simp only [nodeI, nodeR, no1, no2] at *; omega) | (intros; simp only [nodeI, nodeR, no1, no2]; omega) | (intros; constructor <;> first | exact id | omega | (dsimp only at *; omega) | (dsimp only; omega)) | (intros; simp_all [no1, no2, nodeI, nodeR]; done)) (by first | (intros; exact id) | (intros; decide) | (intros; dsimp only; decide) | (intros; omega) | (intros; dsimp only at *; omega) | (intros; dsimp only; omega) | (intros; simp only [nodeI, nodeR, no1, no2] at *; omega) | (intros; simp only [nodeI, nodeR, no1, no2]; omega) | (intros; constructor <;> first | exact id | omega | (dsimp only at *; omega) | (dsimp only; omega)) | (intros; simp_all [no1, no2, nodeI, nodeR]; done)) (by first | (intros; exact id) | (intros; decide) | (intros; dsimp only; decide) | (intros; omega) | (intros; dsimp only at *; omega) | (intros; dsimp only; omega) | (intros; simp only [nodeI, nodeR, no1, no2] at *; omega) | (intros; simp only [nodeI, nodeR, no1, no2]; omega) | (intros; constructor <;> first | exact id | omega | (dsimp only at *; omega) | (dsimp only; omega)) | (intros; simp_all [no1, no2, nodeI, nodeR]; done)) (by first | (intros; exact id) | (intros; decide) | (intros; dsimp only; decide) | (intros; omega) | (intros; dsimp only at *; omega) | (intros; dsimp only; omega) | (intros; simp only [nodeI, nodeR, no1, no2] at *; omega) | (intros; simp only [nodeI, nodeR, no1, no2]; omega) | (intros; constructor <;> first | exact id | omega | (dsimp only at *; omega) | (dsimp only; omega)) | (intros; simp_all [no1, no2, nodeI, nodeR]; done))), (hG.fr F G K (by first | (intros; exact id) | (intros; decide) | (intros; dsimp only; decide) | (intros; omega) | (intros; dsimp only at *; omega) | (intros; dsimp only; omega) | (intros; simp only [nodeI, nodeR, no1, no2] at *; omega) | (intros; simp only [nodeI, nodeR, no1, no2]; omega) | (intros; constructor <;> first | exact id | omega | (dsimp only at *; omega) | (dsimp only; omega)) | (intros; simp_all [no1, no2, nodeI, nodeR]; done)) (by first | (intros; exact id) | (intros; decide) | (intros; dsimp only; decide) | (intros; omega) | (intros; dsimp only at *; omega) | (intros; dsimp only; omega) | (intros; simp only [nodeI, nodeR, no1, no2] at *; omega) | (intros; simp only [nodeI, nodeR, no1, no2]; omega) | (intros; constructor <;> first | exact id | omega | (dsimp only at *; omega) | (dsimp only; omega)) | (intros; simp_all [no1, no2, nodeI, nodeR]; done)) (by first | (intros; exact id) | (intros; decide) | (intros; dsimp only; decide) | (intros; omega) | (intros; dsimp only at *; omega) | (intros; dsimp only; omega) | (intros; simp only [nodeI, nodeR, no1, no2] at *; omega) | (intros; simp only [nodeI, nodeR, no1, no2]; omega) | (intros; constructor <;> first | exact id | omega | (dsimp only at *; omega) | (dsimp only; omega)) | (intros; simp_all [no1, no2, nodeI, nodeR]; done)) (by first | (intros; exact id) | (intros; decide) | (intros; dsimp only; decide) | (intros; omega) | (intros; dsimp only at *; omega) | (intros; dsimp only; omega) | (intros; simp only [nodeI, nodeR, no1, no2] at *; omega) | (intros; simp only [nodeI, nodeR, no1, no2]; omega) | (intros; constructor <;> first | exact id | omega | (dsimp only at *; omega) | (dsimp only; omega)) | (intros; simp_all [no1, no2, nodeI, nodeR]; done)) (by first | (intros; exact id) | (intros; decide) | (intros; dsimp only; decide) | (intros; omega) | (intros; dsimp only at *; omega) | (intros; dsimp only; omega) | (intros; simp only [nodeI, nodeR, no1, no2] at *; omega) | (intros; simp only [nodeI, nodeR, no1, no2]; omega) | (intros; constructor <;> first | exact id | omega | (dsimp only at *; omega) | (dsimp only; omega)) | (intros; simp_all [no1, no2, nodeI, nodeR]; done)) (by first | (intros; exact id) | (intros; decide) | (intros; dsimp only; decide) | (intros; omega) | (intros; dsimp only at *; omega) | (intros; dsimp only; omega) | (intros; simp only [nodeI, nodeR, no1, no2] at *; omega) | (intros; simp only [nodeI, nodeR, no1, no2]; omega) | (intros; constructor <;> first | exact id | omega | (dsimp only at *; omega) | (dsimp only; omega)) | (intros; simp_all [no1, no2, nodeI, nodeR]; done))), (hL.fr F G K (by first | (intros; exact id) | (intros; decide) | (intros; dsimp only; decide) | (intros; omega) | (intros; dsimp only at *; omega) | (intros; dsimp only; omega) | (intros; simp only [nodeI, nodeR, no1, no2] at *; omega) | (intros; simp only [nodeI, nodeR, no1, no2]; omega) | (intros; constructor <;> first | exact id | omega | (dsimp only at *; omega) | (dsimp only; omega)) | (intros; simp_all [no1, no2, nodeI, nodeR]; done)) (by first | (intros; exact id) | (intros; decide) | (intros; dsimp only; decide) | (intros; omega) | (intros; dsimp only at *; omega) | (intros; dsimp only; omega) | (intros; simp only [nodeI, nodeR, no1, no2] at *; omega) | (intros; simp only [nodeI, nodeR, no1, no2]; omega) | (intros; constructor <;> first | exact id | omega | (dsimp only at *; omega) | (dsimp only; omega)) | (intros; simp_all [no1, no2, nodeI, nodeR]; done)) (by first | (intros; exact id) | (intros; decide) | (intros; dsimp only; decide) | (intros; omega) | (intros; dsimp only at *; omega) | (intros; dsimp only; omega) | (intros; simp only [nodeI, nodeR, no1, no2] at *; omega) | (intros; simp only [nodeI, nodeR, no1, no2]; omega) | (intros; constructor <;> first | exact id | omega | (dsimp only at *; omega) | (dsimp only; omega)) | (intros; simp_all [no1, no2, nodeI, nodeR]; done)) (by first | (intros; exact id) | (intros; decide) | (intros; dsimp only; decide) | (intros; omega) | (intros; dsimp only at *; omega) | (intros; dsimp only; omega) | (intros; simp only [nodeI, nodeR, no1, no2] at *; omega) | (intros; simp only [nodeI, nodeR, no1, no2]; omega) | (intros; constructor <;> first | exact id | omega | (dsimp only at *; omega) | (dsimp only; omega)) | (intros; simp_all [no1, no2, nodeI, nodeR]; done)) (by first | (intros; exact id) | (intros; decide) | (intros; dsimp only; decide) | (intros; omega) | (intros; dsimp only at *; omega) | (intros; dsimp only; omega) | (intros; simp only [nodeI, nodeR, no1, no2] at *; omega) | (intros; simp only [nodeI, nodeR, no1, no2]; omega) | (intros; constructor <;> first | exact id | omega | (dsimp only at *; omega) | (dsimp only; omega)) | (intros; simp_all [no1, no2, nodeI, nodeR]; done))), (hS.fr F G K (by first | (intros; exact id) | (intros; decide) | (intros; dsimp only; decide) | (intros; omega) | (intros; dsimp only at *; omega) | (intros; dsimp only; omega) | (intros; simp only [nodeI, nodeR, no1, no2] at *; omega) | (intros; simp only [nodeI, nodeR, no1, no2]; omega) | (intros; constructor <;> first | exact id | omega | (dsimp only at *; omega) | (dsimp only; omega)) | (intros; simp_all [no1, no2, nodeI, nodeR]; done)) (by first | (intros; exact id) | (intros; decide) | (intros; dsimp only; decide) | (intros; omega) | (intros; dsimp only at *; omega) | (intros; dsimp only; omega) | (intros; simp only [nodeI, nodeR, no1, no2] at *; omega) | (intros; simp only [nodeI, nodeR, no1, no2]; omega) | (intros; constructor <;> first | exact id | omega | (dsimp only at *; omega) | (dsimp only; omega)) | (intros; simp_all [no1, no2, nodeI, nodeR]; done)) (by first | (intros; exact id) | (intros; decide) | (intros; dsimp only; decide) | (intros; omega) | (intros; dsimp only at *; omega) | (intros; dsimp only; omega) | (intros; simp only [nodeI, nodeR, no1, no2] at *; omega) | (intros; simp only [nodeI, nodeR, no1, no2]; omega) | (intros; constructor <;> first | exact id | omega | (dsimp only at *; omega) | (dsimp only; omega)) | (intros; simp_all [no1, no2, nodeI, nodeR]; done)) (by first | (intros; exact id) | (intros; decide) | (intros; dsimp only; decide) | (intros; omega) | (intros; dsimp only at *; omega) | (intros; dsimp only; omega) | (intros; simp only [nodeI, nodeR, no1, no2] at *; omega) | (intros; simp only [nodeI, nodeR, no1, no2]; omega) | (intros; constructor <;> first | exact id | omega | (dsimp only at *; omega) | (dsimp only; omega)) | (intros; simp_all [no1, no2, nodeI, nodeR]; done)) (by first | (intros; exact id) | (intros; decide) | (intros; dsimp only; decide) | (intros; omega) | (intros; dsimp only at *; omega) | (intros; dsimp only; omega) | (intros; simp only [nodeI, nodeR, no1, no2] at *; omega) | (intros; simp only [nodeI, nodeR, no1, no2]; omega) | (intros; constructor <;> first | exact id | omega | (dsimp only at *; omega) | (dsimp only; omega)) | (intros; simp_all [no1, no2, nodeI, nodeR]; done))), (hO.fr F G K (by first | (intros; exact id) | (intros; decide) | (intros; dsimp only; decide) | (intros; omega) | (intros; dsimp only at *; omega) | (intros; dsimp only; omega) | (intros; simp only [nodeI, nodeR, no1, no2] at *; omega) | (intros; simp only [nodeI, nodeR, no1, no2]; omega) | (intros; constructor <;> first | exact id | omega | (dsimp only at *; omega) | (dsimp only; omega)) | (intros; simp_all [no1, no2, nodeI, nodeR]; done)) (by first | (intros; exact id) | (intros; decide) | (intros; dsimp only; decide) | (intros; omega) | (intros; dsimp only at *; omega) | (intros; dsimp only; omega) | (intros; simp only [nodeI, nodeR, no1, no2] at *; omega) | (intros; simp only [nodeI, nodeR, no1, no2]; omega) | (intros; constructor <;> first | exact id | omega | (dsimp only at *; omega) | (dsimp only; omega)) | (intros; simp_all [no1, no2, nodeI, nodeR]; done)) (by first | (intros; exact id) | (intros; decide) | (intros; dsimp only; decide) | (intros; omega) | (intros; dsimp only at *; omega) | (intros; dsimp only; omega) | (intros; simp only [nodeI, nodeR, no1, no2] at *; omega) | (intros; simp only [nodeI, nodeR, no1, no2]; omega) | (intros; constructor <;> first | exact id | omega | (dsimp only at *; omega) | (dsimp only; omega)) | (intros; simp_all [no1, no2, nodeI, nodeR]; done)) (by first | (intros; exact id) | (intros; decide) | (intros; dsimp only; decide) | (intros; omega) | (intros; dsimp only at *; omega) | (intros; dsimp only; omega) | (intros; simp only [nodeI, nodeR, no1, no2] at *; omega) | (intros; simp only [nodeI, nodeR, no1, no2]; omega) | (intros; constructor <;> first | exact id | omega | (dsimp only at *; omega) | (dsimp only; omega)) | (intros; simp_all [no1, no2, nodeI, nodeR]; done))), (hP.fr F K (by first | (intros; exact id) | (intros; decide) | (intros; dsimp only; decide) | (intros; omega) | (intros; dsimp only at *; omega) | (intros; dsimp only; omega) | (intros; simp only [nodeI, nodeR, no1, no2] at *; omega) | (intros; simp only [nodeI, nodeR, no1, no2]; omega) | (intros; constructor <;> first | exact id | omega | (dsimp only at *; omega) | (dsimp only; omega)) | (intros; simp_all [no1, no2, nodeI, nodeR]; done)) (by first | (intros; exact id) | (intros; decide) | (intros; dsimp only; decide) | (intros; omega) | (intros; dsimp only at *; omega) | (intros; dsimp only; omega) | (intros; simp only [nodeI, nodeR, no1, no2] at *; omega) | (intros; simp only [nodeI, nodeR, no1, no2]; omega) | (intros; constructor <;> first | exact id | omega | (dsimp only at *; omega) | (dsimp only; omega)) | (intros; simp_all [no1, no2, nodeI, nodeR]; done)) (by first | (intros; exact id) | (intros; decide) | (intros; dsimp only; decide) | (intros; omega) | (intros; dsimp only at *; omega) | (intros; dsimp only; omega) | (intros; simp only [nodeI, nodeR, no1, no2] at *; omega) | (intros; simp only [nodeI, nodeR, no1, no2]; omega) | (intros; constructor <;> first | exact id | omega | (dsimp only at *; omega) | (dsimp only; omega)) | (intros; simp_all [no1, no2, nodeI, nodeR]; done)) (by first | (intros; exact id) | (intros; decide) | (intros; dsimp only; decide) | (intros; omega) | (intros; dsimp only at *; omega) | (intros; dsimp only; omega) | (intros; simp only [nodeI, nodeR, no1, no2] at *; omega) | (intros; simp only [nodeI, nodeR, no1, no2]; omega) | (intros; constructor <;> first | exact id | omega | (dsimp only at *; omega) | (dsimp only; omega)) | (intros; simp_all [no1, no2, nodeI, nodeR]; done)) (by first | (intros; exact id) | (intros; decide) | (intros; dsimp only; decide) | (intros; omega) | (intros; dsimp only at *; omega) | (intros; dsimp only; omega) | (intros; simp only [nodeI, nodeR, no1, no2] at *; omega) | (intros; simp only [nodeI, nodeR, no1, no2]; omega) | (intros; constructor <;> first | exact id | omega | (dsimp only at *; omega) | (dsimp only; omega)) | (intros; simp_all [no1, no2, nodeI, nodeR]; done))), (hB.fr F G K (by first | (intros; exact id) | (intros; decide) | (intros; dsimp only; decide) | (intros; omega) | (intros; dsimp only at *; omega) | (intros; dsimp only; omega) | (intros; simp only [nodeI, nodeR, no1, no2] at *; omega) | (intros; simp only [nodeI, nodeR, no1, no2]; omega) | (intros; constructor <;> first | exact id | omega | (dsimp only at *; omega) | (dsimp only; omega)) | (intros; simp_all [no1, no2, nodeI, nodeR]; done)) (by first | (intros; exact id) | (intros; decide) | (intros; dsimp only; decide) | (intros; omega) | (intros; dsimp only at *; omega) | (intros; dsimp only; omega) | (intros; simp only [nodeI, nodeR, no1, no2] at *; omega) | (intros; simp only [nodeI, nodeR, no1, no2]; omega) | (intros; constructor <;> first | exact id | omega | (dsimp only at *; omega) | (dsimp only; omega)) | (intros; simp_all [no1, no2, nodeI, nodeR]; done)) (by first | (intros; exact id) | (intros; decide) | (intros; dsimp only; decide) | (intros; omega) | (intros; dsimp only at *; omega) | (intros; dsimp only; omega) | (intros; simp only [nodeI, nodeR, no1, no2] at *; omega) | (intros; simp only [nodeI, nodeR, no1, no2]; omega) | (intros; constructor <;> first | exact id | omega | (dsimp only at *; omega) | (dsimp only; omega)) | (intros; simp_all [no1, no2, nodeI, nodeR]; done)) (by first | (intros; exact id) | (intros; decide) | (intros; dsimp only; decide) | (intros; omega) | (intros; dsimp only at *; omega) | (intros; dsimp only; omega) | (intros; simp only [nodeI, nodeR, no1, no2] at *; omega) | (intros; simp only [nodeI, nodeR, no1, no2]; omega) | (intros; constructor <;> first | exact id | omega | (dsimp only at *; omega) | (dsimp only; omega)) | (intros; simp_all [no1, no2, nodeI, nodeR]; done)) (by first | (intros; exact id) | (intros; decide) | (intros; dsimp only; decide) | (intros; omega) | (intros; dsimp only at *; omega) | (intros; dsimp only; omega) | (intros; simp only [nodeI, nodeR, no1, no2] at *; omega) | (intros; simp only [nodeI, nodeR, no1, no2]; omega) | (intros; constructor <;> first | exact id | omega | (dsimp only at *; omega) | (dsimp only; omega)) | (intros; simp_all [no1, no2, nodeI, nodeR]; done)) (by first | (intros; exact id) | (intros; decide) | (intros; dsimp only; decide) | (intros; omega) | (intros; dsimp only at *; omega) | (intros; dsimp only; omega) | (intros; simp only [nodeI, nodeR, no1, no2] at *; omega) | (intros; simp only [nodeI, nodeR, no1, no2]; omega) | (intros; constructor <;> first | exact id | omega | (dsimp only at *; omega) | (dsimp only; omega)) | (intros; simp_all [no1, no2, nodeI, nodeR]; done))), (hTr.fr F G K (by first | (intros; exact id) | (intros; decide) | (intros; dsimp only; decide) | (intros; omega) | (intros; dsimp only at *; omega) | (intros; dsimp only; omega) | (intros; simp only [nodeI, nodeR, no1, no2] at *; omega) | (intros; simp only [nodeI, nodeR, no1, no2]; omega) | (intros; constructor <;> first | exact id | omega | (dsimp only at *; omega) | (dsimp only; omega)) | (intros; simp_all [no1, no2, nodeI, nodeR]; done)) (by first | (intros; exact id) | (intros; decide) | (intros; dsimp only; decide) | (intros; omega) | (intros; dsimp only at *; omega) | (intros; dsimp only; omega) | (intros; simp only [nodeI, nodeR, no1, no2] at *; omega) | (intros; simp only [nodeI, nodeR, no1, no2]; omega) | (intros; constructor <;> first | exact id | omega | (dsimp only at *; omega) | (dsimp only; omega)) | (intros; simp_all [no1, no2, nodeI, nodeR]; done)) (by first | (intros; exact id) | (intros; decide) | (intros; dsimp only; decide) | (intros; omega) | (intros; dsimp only at *; omega) | (intros; dsimp only; omega) | (intros; simp only [nodeI, nodeR, no1, no2] at *; omega) | (intros; simp only [nodeI, nodeR, no1, no2]; omega) | (intros; constructor <;> first | exact id | omega | (dsimp only at *; omega) | (dsimp only; omega)) | (intros; simp_all [no1, no2, nodeI, nodeR]; done)) (by first | (intros; exact id) | (intros; decide) | (intros; dsimp only; decide) | (intros; omega) | (intros; dsimp only at *; omega) | (intros; dsimp only; omega) | (intros; simp only [nodeI, nodeR, no1, no2] at *; omega) | (intros; simp only [nodeI, nodeR, no1, no2]; omega) | (intros; constructor <;> first | exact id | omega | (dsimp only at *; omega) | (dsimp only; omega)) | (intros; simp_all [no1, no2, nodeI, nodeR]; done))), (hV.fr F G K (by first | (intros; exact id) | (intros; decide) | (intros; dsimp only; decide) | (intros; omega) | (intros; dsimp only at *; omega) | (intros; dsimp only; omega) | (intros; simp only [nodeI, nodeR, no1, no2] at *; omega) | (intros; simp only [nodeI, nodeR, no1, no2]; omega) | (intros; constructor <;> first | exact id | omega | (dsimp only at *; omega) | (dsimp only; omega)) | (intros; simp_all [no1, no2, nodeI, nodeR]; done)) (by first | (intros; exact id) | (intros; decide) | (intros; dsimp only; decide) | (intros; omega) | (intros; dsimp only at *; omega) | (intros; dsimp only; omega) | (intros; simp only [nodeI, nodeR, no1, no2] at *; omega) | (intros; simp only [nodeI, nodeR, no1, no2]; omega) | (intros; constructor <;> first | exact id | omega | (dsimp only at *; omega) | (dsimp only; omega)) | (intros; simp_all [no1, no2, nodeI, nodeR]; done)) (by first | (intros; exact id) | (intros; decide) | (intros; dsimp only; decide) | (intros; omega) | (intros; dsimp only at *; omega) | (intros; dsimp only; omega) | (intros; simp only [nodeI, nodeR, no1, no2] at *; omega) | (intros; simp only [nodeI, nodeR, no1, no2]; omega) | (intros; constructor <;> first | exact id | omega | (dsimp only at *; omega) | (dsimp only; omega)) | (intros; simp_all [no1, no2, nodeI, nodeR]; done)) (by first | (intros; exact id) | (intros; decide) | (intros; dsimp only; decide) | (intros; omega) | (intros; dsimp only at *; omega) | (intros; dsimp only; omega) | (intros; simp only [nodeI, nodeR, no1, no2] at *; omega) | (intros; simp only [nodeI, nodeR, no1, no2]; omega) | (intros; constructor <;> first | exact id | omega | (dsimp only at *; omega) | (dsimp only; omega)) | (intros; simp_all [no1, no2, nodeI, nodeR]; done)) (by first | (intros; exact id) | (intros; decide) | (intros; dsimp only; decide) | (intros; omega) | (intros; dsimp only at *; omega) | (intros; dsimp only; omega) | (intros; simp only [nodeI, nodeR, no1, no2] at *; omega) | (intros; simp only [nodeI, nodeR, no1, no2]; omega) | (intros; constructor <;> first | exact id | omega | (dsimp only at *; omega) | (dsimp only; omega)) | (intros; simp_all [no1, no2, nodeI, nodeR]; done)) (by first | (intros; exact id) | (intros; decide) | (intros; dsimp only; decide) | (intros; omega) | (intros; dsimp only at *; omega) | (intros; dsimp only; omega) | (intros; simp only [nodeI, nodeR, no1, no2] at *; omega) | (intros; simp only [nodeI, nodeR, no1, no2]; omega) | (intros; constructor <;> first | exact id | omega | (dsimp only at *; omega) | (dsimp only; omega)) | (intros; simp_all [no1, no2, nodeI, nodeR]; done))), hc1, hc2⟩, F.mk2 K (by first | (intros; exact id) | (intros; decide) | (intros; dsimp only; decide) | (intros; omega) | (intros; dsimp only at *; omega) | (intros; dsimp only; omega) | (intros; simp only [nodeI, nodeR, no1, no2] at *; omega) | (intros; simp only [nodeI, nodeR, no1, no2]; omega) | (intros; constructor <;> first | exact id | omega | (dsimp only at *; omega) | (dsimp only; omega)) | (intros; simp_all [no1, no2, nodeI, nodeR]; done)) (by first | (intros; exact id) | (intros; decide) | (intros; dsimp only; decide) | (intros; omega) | (intros; dsimp only at *; omega) | (intros; dsimp only; omega) | (intros; simp only [nodeI, nodeR, no1, no2] at *; omega) | (intros; simp only [nodeI, nodeR, no1, no2]; omega) | (intros; constructor <;> first | exact id | omega | (dsimp only at *; omega) | (dsimp only; omega)) | (intros; simp_all [no1, no2, nodeI, nodeR]; done)) (by first | (intros; exact id) | (intros; decide) | (intros; dsimp only; decide) | (intros; omega) | (intros; dsimp only at *; omega) | (intros; dsimp only; omega) | (intros; simp only [nodeI, nodeR, no1, no2] at *; omega) | (intros; simp only [nodeI, nodeR, no1, no2]; omega) | (intros; constructor <;> first | exact id | omega | (dsimp only at *; omega) | (dsimp only; omega)) | (intros; simp_all [no1, no2, nodeI, nodeR]; done)) (by first | (intros; exact id) | (intros; decide) | (intros; dsimp only; decide) | (intros; omega) | (intros; dsimp only at *; omega) | (intros; dsimp only; omega) | (intros; simp only [nodeI, nodeR, no1, no2] at *; omega) | (intros; simp only [nodeI, nodeR, no1, no2]; omega) | (intros; constructor <;> first | exact id | omega | (dsimp only at *; omega) | (dsimp only; omega)) | (intros; simp_all [no1, no2, nodeI, nodeR]; done))⟩
theorem i8_and (a : Int32) : ∃ b, b < 256 ∧ a &&& (255 : Int32) = nI b ∧ a.toInt8.toInt32 = sbv b := by
  obtain ⟨b, h1, h2⟩ := pk_andE a (m := 255) 8 (by decide)
  refine ⟨b, h1, h2, ?_⟩
  unfold sbv
  rw [← h2]
  congr 1
  apply Int8.toBitVec_inj.mp
  rw [Int32.toBitVec_toInt8, Int32.toBitVec_toInt8, Int32.toBitVec_and]
  apply BitVec.eq_of_getLsbD_eq
  intro i hi
  have h255 : (Int32.toBitVec 255).getLsbD i = true := by
    have : i = 0 ∨ i = 1 ∨ i = 2 ∨ i = 3 ∨ i = 4 ∨ i = 5 ∨ i = 6 ∨ i = 7 := by omega
    rcases this with rfl | rfl | rfl | rfl | rfl | rfl | rfl | rfl <;> decide
  have h32 : i < 32 := by omega
  simp only [BitVec.getLsbD_signExtend, h32, if_true, BitVec.getLsbD_and, h255, Bool.and_true]
theorem feed_L {N : Nat} {v : Int32} (hN : N ≤ 4) :
    ∀ m f k n B st s, m < f → k + m = N → n + m ≤ 120 → RR x c n B H dn un N1 N2 M N3 st s → ∃ n' B' st' s', x_feed_L27 x (nI N) v (fun (s6 : hk_St) => (hk_gI [0] 1 s6 x).bind fun x15 => some (x15, s6)) f (nI k) st = some (nI n', st') ∧ m_feed_L30 (nI N) v (fun (s5 : hk_Ms) => some ((hm_I s5 7), s5)) f (nI k) s = some (nI n', s') ∧
      RR x c n' B' H dn un N1 N2 M N3 st' s' ∧ Mk x st st' := by
  intro m
  induction m with
  | zero =>
    intro f k n B st s hf hk hn R
    obtain ⟨f, rfl⟩ : ∃ g, f = g + 1 := ⟨f - 1, by omega⟩
    have : k = N := by omega
    subst this
    refine ⟨n, B, st, s, ?_, ?_, R, Mk.rf⟩
    · show x_feed_L27b _ _ _ _ _ _ _ = _
      simp only [x_feed_L27b, Int32.le_refl, if_true, gI_b (bf_k R.1.x0), R.2.1.1.2.1, hz_ob]
    · show m_feed_L30b _ _ _ _ _ _ = _
      simp only [m_feed_L30b, Int32.le_refl, if_true, R.2.1.2.1]
  | succ m ih =>
    intro f k n B st s hf hk hn R
    obtain ⟨f, rfl⟩ : ∃ g, f = g + 1 := ⟨f - 1, by omega⟩
    have K := R.1
    have T := R.2.1
    have n0 : ¬ nI N ≤ nI k := nI_ge (by omega) (by omega)
    obtain ⟨b, hb, e1, e2⟩ := i8_and (v >>> (((8 : Int32) * nI k) &&& 31))
    obtain ⟨R1, M1⟩ := R.tape (v := sbv b) hb (by omega) rfl
    obtain ⟨n', B', st', s', i1, i2, i3, i4⟩ := ih f (k + 1) (n + 1) _ _ _ (by omega) (by omega) (by omega) R1
    have hnar : hk_nar 1 (sbv b) = sbv b := by
      have : ∀ b, b < 256 → hk_nar 1 (sbv b) = sbv b := by decide +kernel
      exact this b hb
    have ts : hk_tI 1 st (x + 1) (nI n) (sbv b) = some (hk_saI st (x + 1) n (sbv b)) := by
      rw [tI_k (ty := 1) K.k1 (show n < 120 by omega) (by decide), hnar]
    refine ⟨n', B', st', s', ?_, ?_, i3, M1.trans i4⟩
    · show x_feed_L27b _ _ _ _ (x_feed_L27 x (nI N) v _ f) _ _ = _
      simp only [x_feed_L27b, n0, if_false, gR_b (bf_k K.x0), gI_b (bf_k K.x0), K.r0, T.1.2.1, hz_ob, hz_nn, e2, ts, gI_b (st := hk_saI st (x + 1) n (sbv b)) (bf_k K.x0), pI_b (st := hk_saI st (x + 1) n (sbv b)) (bf_k K.x0), fI_saI, hz_nm, nI_1]
      exact i1
    · show m_feed_L30b _ _ _ (m_feed_L30 (nI N) v _ f) _ _ = _
      simp only [m_feed_L30b, n0, if_false, T.2.1, e1, hmt (show n < 120 by omega) (show 120 < 2 ^ 31 by decide), hz_ob, hz_nm, hmI_sA, nI_1]
      exact i2
theorem ap_feed (p v : Int32) : AP x (x_feed x p v) (m_feed p v) := by
  intro c st s hA
  obtain ⟨n, B, H, dn, un, N1, N2, M, N3, R⟩ := hA
  have K := R.1
  have T := R.2.1
  have h120 := T.1.2.2.2.2.1
  have wv : m_within p.toInt64 (1 : Int64) (4 : Int64) = x_in p 1 4 := wi (b := 1) (c := 4) (by decide) (by decide)
  rcases in_cases p 1 4 (by decide) (by decide) with ⟨v1, -⟩ | ⟨v1, N, hN1, hN4, rfl⟩
  · have v1 : x_in p 1 4 = 0 := v1
    exact ⟨-1, st, s, by simp only [x_feed, v1, if_true], by simp only [m_feed, wv, v1, if_true], R.ra, Mk.rf⟩
  · have v1 : x_in (nI N) 1 4 = 1 := v1
    by_cases hn : n + N ≤ 120
    · obtain ⟨n', B', st', s', i1, i2, i3, i4⟩ := feed_L (v := v) hN4 N hk_F 0 n B st s (pw_F (by omega)) (by omega) hn R
      rw [nI_0] at i1 i2
      have c1 : nI n + nI N ≤ (120 : Int32) := by rw [nI_add]; exact nI_le (b := 120) hn (by decide)
      exact ⟨nI n', st', s', by simp only [x_feed, v1, show ¬ (1 : Int32) = 0 by decide, if_false, gI_b (bf_k K.x0), T.1.2.1, hz_ob, c1, if_true]; exact i1, by simp only [m_feed, wv, v1, show ¬ (1 : Int32) = 0 by decide, if_false, T.2.1, c1, if_true]; exact i2, i3.ra, i4⟩
    · have c1 : ¬ nI n + nI N ≤ (120 : Int32) := by rw [nI_add]; exact nI_ge (a := 120) (by omega) (by omega)
      exact ⟨-3, st, s, by simp only [x_feed, v1, show ¬ (1 : Int32) = 0 by decide, if_false, gI_b (bf_k K.x0), T.1.2.1, hz_ob, c1], by simp only [m_feed, wv, v1, show ¬ (1 : Int32) = 0 by decide, if_false, T.2.1, c1], R.ra, Mk.rf⟩
end S2A6
