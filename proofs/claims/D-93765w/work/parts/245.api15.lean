set_option maxRecDepth 100000
/-! ===== STAGE 2: the API: taught ===== -/
/-- the reference while the head h is taught -/
def GM (h : Nat) (s0 s : hk_Ms) : Prop := (∀ f, mcI f = true → ¬ (40 ≤ f ∧ f ≤ 43) → hm_I s f = hm_I s0 f) ∧ hm_I s 40 = hm_A s0 8 h ∧ (∀ j i, mcA j = true → j ≠ 8 → j ≠ 9 → j ≠ 10 → j ≠ 22 → j ≠ 23 → hm_A s j i = hm_A s0 j i) ∧ (∀ i, i ≠ h → hm_A s 8 i = hm_A s0 8 i) ∧
  (∀ j i, (j = 9 ∨ j = 10) → (i < 60 * h ∨ 60 * h + 60 ≤ i) → hm_A s j i = hm_A s0 j i) ∧ (∀ i, hm_B s 28 i = hm_B s0 28 i) ∧ (∀ i, i < 60 → hm_A s 22 i = hm_A s0 10 (60 * h + i))
/-- what lies there already stays: kinds and int arrays -/
def Ko (x : Nat) (st st' : hk_St) : Prop := (hk_nx st ≤ hk_nx st' ∧ (∀ i, hk_aR st' (x + 2) i = hk_aR st (x + 2) i ∧ hk_aR st' (x + 21) i = hk_aR st (x + 21) i) ∧ ∀ a, a < hk_nx st → hk_k st' a = hk_k st a) ∧ ∀ a, x + 53 ≤ a → a < hk_nx st → hk_k st' a = hk_k st a ∧ ∀ i, hk_aI st' a i = hk_aI st a i
theorem Ko.rf {x : Nat} {st : hk_St} : Ko x st st := ⟨⟨Nat.le_refl _, fun _ => ⟨rfl, rfl⟩, fun _ _ => rfl⟩, fun _ _ _ => ⟨rfl, fun _ => rfl⟩⟩
theorem Ko.trans {x : Nat} {st st1 st2 : hk_St} (h : Ko x st st1) (k : Ko x st1 st2) : Ko x st st2 :=
  ⟨⟨Nat.le_trans h.1.1 k.1.1, fun i => ⟨(k.1.2.1 i).1.trans (h.1.2.1 i).1, (k.1.2.1 i).2.trans (h.1.2.1 i).2⟩, fun a ha => (k.1.2.2 a (Nat.lt_of_lt_of_le ha h.1.1)).trans (h.1.2.2 a ha)⟩, fun a h1 h2 => ⟨(k.2 a h1 (Nat.lt_of_lt_of_le h2 h.1.1)).1.trans (h.2 a h1 h2).1, fun i => ((k.2 a h1 (Nat.lt_of_lt_of_le h2 h.1.1)).2 i).trans ((h.2 a h1 h2).2 i)⟩⟩
theorem Fr.ko {x : Nat} {st st1 : hk_St} {pI pL pR : Nat → Nat → Prop} {pA pB pO : Nat → Prop} (F : Fr pI pL pR pA pB pO st st1) (K : RK x st) (h : ∀ a, x + 53 ≤ a → ¬ pA a) (h2 : ¬ pO (x + 2) ∧ ¬ pO (x + 21)) : Ko x st st1 := ⟨⟨F.1, fun i => ⟨F.2.2.2.2.2.2.2 _ i (K.wk.lt K.k2) h2.1, F.2.2.2.2.2.2.2 _ i (K.wk.lt K.k21) h2.2⟩, F.2.1⟩, fun a h1 h2 => ⟨F.2.1 _ h2, fun i => F.2.2.2.2.2.1 _ i h2 (h a h1)⟩⟩
section S2AF
variable {x c n H dn un N1 N2 M N3 : Nat} {B : Nat → Nat} {st st' : hk_St} {s s' s0 : hk_Ms}
theorem GM.scm {h : Nat} (G : GM h s0 s) (S : ScM s s') : GM h s0 s' :=
  ⟨fun f hf hn => (S.1 f hf).trans (G.1 f hf hn), (S.1 40 rfl).trans G.2.1, fun j i hj a b c d e => (S.2.1 j i hj).trans (G.2.2.1 j i hj a b c d e), fun i hi => (S.2.1 8 i rfl).trans (G.2.2.2.1 i hi), fun j i hj hi => (S.2.1 j i (by rcases hj with rfl | rfl <;> rfl)).trans (G.2.2.2.2.1 j i hj hi), fun i => (S.2.2 i).trans (G.2.2.2.2.2.1 i), fun i hi => (S.2.1 22 i rfl).trans (G.2.2.2.2.2.2 i hi)⟩
theorem GM.frk {h : Nat} (G : GM h s0 s) (S : FrK h s s') : GM h s0 s' :=
  ⟨fun f hf hn => (S.1 f).trans (G.1 f hf hn), (S.1 40).trans G.2.1, fun j i hj a b c d e => (S.2.2.2.1 j i a b c).trans (G.2.2.1 j i hj a b c d e), fun i hi => (S.2.2.2.2.1 i hi).trans (G.2.2.2.1 i hi), fun j i hj hi => (S.2.2.2.2.2 j i hj hi).trans (G.2.2.2.2.1 j i hj hi), fun i => (S.2.2.1 28 i).trans (G.2.2.2.2.2.1 i), fun i hi => (S.2.2.2.1 22 i (by decide) (by decide) (by decide)).trans (G.2.2.2.2.2.2 i hi)⟩
theorem GM.frm {h : Nat} (G : GM h s0 s) : FrM (fun f => mcI f = false ∨ (40 ≤ f ∧ f ≤ 43)) (fun j _ => mcA j = false ∨ j = 8 ∨ j = 9 ∨ j = 10 ∨ j = 22 ∨ j = 23) no1 s0 s :=
  ⟨fun f hf => G.1 f (by
      cases e : mcI f with
      | true => rfl
      | false => exact absurd (Or.inl e) hf) (fun q => hf (Or.inr q)), fun j i hj => G.2.2.1 j i (by
      cases e : mcA j with
      | true => rfl
      | false => exact absurd (Or.inl e) hj) (fun q => hj (by omega)) (fun q => hj (by omega)) (fun q => hj (by omega)) (fun q => hj (by omega)) (fun q => hj (by omega)), fun i _ => G.2.2.2.2.2.1 i⟩
theorem keeps_K {h : Nat} (hh : h < 6) (s : hk_Ms) : ∃ s', m_keeps (nI h) s = some s' ∧ GM h s s' ∧ ∀ j i, j ≠ 22 → hm_A s' j i = hm_A s j i := by
  obtain ⟨s', h1, h2, h3, h4, h5, h6⟩ := keep_L hh (e0 := fun s => some s) 60 hk_F 0 (hm_sI s 40 (hm_A s 8 h)) (pw_F (by decide)) rfl
  have hj : ∀ j i, j ≠ 22 → hm_A s' j i = hm_A s j i := fun j i hj => by rw [h3 j i hj, hmA_sI]
  refine ⟨s', ?_, ⟨fun f hf hn => ?_, ?_, fun j i _ _ _ _ d _ => hj j i d, fun i _ => hj 8 i (by decide), fun j i hq _ => hj j i (by omega), fun i => by rw [h4, hmB_sI], fun i hi => by rw [h6 i (Nat.zero_le _) hi, hmA_sI]⟩, hj⟩
  · simp only [m_keeps, hml (show h < 6 by omega) (show 6 < 2 ^ 31 by decide), hz_ob, hz_nm]
    rw [← nI_0]
    exact h1
  · rw [h2, hmI_sI, if_neg (by omega)]
  · rw [h2, hmI_sI, if_pos rfl]
/-- what the head had is put back -/
theorem backs_K {h : Nat} {t : Nat → Nat} {pl pl' : List qP} (R : RR x c n B H dn un N1 N2 M N3 st s0) (hh : h < 6) (G : GM h s0 s) (D0 : MHd s0 h t pl) (hv : Pv pl) (D : MHd s h t pl') (X : Px pl pl') : ∃ s', m_putsBack (nI h) s = some s' ∧ RR x c n B H dn un N1 N2 M N3 st s' ∧ ∀ f, hm_I s' f = hm_I s f := by
  obtain ⟨s', h1, h2, h3, h4, h5⟩ := back_L hh (e0 := fun s => some s) 60 hk_F 0 (hm_sA s 8 h (hm_I s 40)) (pw_F (by decide)) rfl
  have F := G.frm
  have a8 : ∀ i, hm_A s' 8 i = hm_A s0 8 i := fun i => by
    rw [h3 8 i (Or.inl (by decide)), hmA_sA]
    by_cases e : i = h
    · rw [if_pos ⟨rfl, e⟩, e]; exact G.2.1
    · rw [if_neg (fun q => e q.2)]; exact G.2.2.2.1 i e
  refine ⟨s', ?_, R.mfr ⟨fun f hf => ?_, fun j i hj => ?_, fun i q => ?_⟩ a8 (fun h2 t2 pl2 hh2 hv2 E => ?_), fun f => by rw [h2, hmI_sA]⟩
  · simp only [m_putsBack, hmt (show h < 6 by omega) (show 6 < 2 ^ 31 by decide), hz_ob]
    rw [← nI_0]
    exact h1
  · rw [h2, hmI_sA]; exact F.1 f hf
  · rw [h3 j i (Or.inl (fun q => hj (by omega))), hmA_sA, if_neg (fun q => hj (by omega))]; exact F.2.1 j i hj
  · rw [h4, hmB_sA]; exact F.2.2 i q
  · obtain ⟨E1, E2, E3⟩ := E
    have l2 := hv2.1
    have l1 := hv.1
    refine ⟨fun i hi => ?_, (a8 h2).trans E2, fun k hk => ?_⟩
    · rw [h3 0 _ (Or.inl (by decide)), hmA_sA, if_neg (fun q => absurd q.1 (by decide)), F.2.1 0 _ (show ¬ (mcA 0 = false ∨ 0 = 8 ∨ 0 = 9 ∨ 0 = 10 ∨ 0 = 22 ∨ 0 = 23) by decide)]
      exact E1 i hi
    · have e9 : hm_A s' 9 (60 * h2 + k) = hm_A s 9 (60 * h2 + k) := by rw [h3 9 _ (Or.inl (by decide)), hmA_sA, if_neg (fun q => absurd q.1 (by decide))]
      by_cases e : h2 = h
      · subst e
        have hlen : pl2.length = pl.length := (nI_eq (by omega) (by omega)).mp (E2.symm.trans D0.2.1)
        refine ⟨?_, ?_⟩
        · rw [e9, (D.2.2 k (by have := X.1; omega)).1, (X.2 k (by omega)).1, (X.2 k (by omega)).2, ← (D0.2.2 k (by omega)).1]
          exact (E3 k hk).1
        · rw [h5 k (Nat.zero_le _) (by omega), hmA_sA, if_neg (fun q => absurd q.1 (by decide)), G.2.2.2.2.2.2 k (by omega)]
          exact (E3 k hk).2
      · refine ⟨?_, ?_⟩
        · rw [e9, G.2.2.2.2.1 9 _ (Or.inl rfl) (by omega)]
          exact (E3 k hk).1
        · rw [h3 10 _ (by omega), hmA_sA, if_neg (fun q => absurd q.1 (by decide)), G.2.2.2.2.1 10 _ (Or.inr rfl) (by omega)]
          exact (E3 k hk).2
/-- one ask of the pupil -/
theorem teach_K {h ab : Nat} {t : Nat → Nat} {pl : List qP} (R : RR x c n B H dn un N1 N2 M N3 st s0) (hh : h < 6) (C : CH st (x + 16) t pl M) (hv : Pv pl) (tv : Tv t) (D : MHd s h t pl) (G : GM h s0 s) (hab : Pr ab) (hs : ab / 10000 ≤ 99 ∧ ab % 10000 ≤ 99) :
    ∃ r st' s' pl' M', x_teach x (nI ab) st = some (r, st') ∧ m_asksOne (nI h) (nI ab) s = some (r, s') ∧ RR x c n B H dn un N1 N2 M' N3 st' s0 ∧ CH st' (x + 16) t pl' M' ∧ Pv pl' ∧ Px pl pl' ∧ MHd s' h t pl' ∧ GM h s0 s' ∧ Mk x st st' ∧ Ko x st st' ∧ (∀ i, hm_A s' 23 i = hm_A s 23 i) ∧ (∀ f, f = 42 ∨ f = 43 → hm_I s' f = hm_I s f) ∧ (∀ f, f < 100 → hk_fI st' f x = hk_fI st f x) ∧ ∃ kv, r = nI kv ∧ kv ≤ 228000 := by
  have K := R.1
  have F : Fr no2 no2 no2 no1 no1 no1 st st := Fr.rf
  have Gm := G.frm
  have hL' : RL x st s := R.2.2.2.2.1.fr F Gm K (by first | (intros; exact id) | (intros; decide) | (intros; dsimp only; decide) | (intros; omega) | (intros; dsimp only at *; omega) | (intros; dsimp only; omega) | (intros; simp only [nodeI, nodeR, no1, no2] at *; omega) | (intros; simp only [nodeI, nodeR, no1, no2]; omega) | (intros; constructor <;> first | exact id | omega | (dsimp only at *; omega) | (dsimp only; omega)) | (intros; simp_all [no1, no2, nodeI, nodeR]; done)) (by first | (intros; exact id) | (intros; decide) | (intros; dsimp only; decide) | (intros; omega) | (intros; dsimp only at *; omega) | (intros; dsimp only; omega) | (intros; simp only [nodeI, nodeR, no1, no2] at *; omega) | (intros; simp only [nodeI, nodeR, no1, no2]; omega) | (intros; constructor <;> first | exact id | omega | (dsimp only at *; omega) | (dsimp only; omega)) | (intros; simp_all [no1, no2, nodeI, nodeR]; done)) (by first | (intros; exact id) | (intros; decide) | (intros; dsimp only; decide) | (intros; omega) | (intros; dsimp only at *; omega) | (intros; dsimp only; omega) | (intros; simp only [nodeI, nodeR, no1, no2] at *; omega) | (intros; simp only [nodeI, nodeR, no1, no2]; omega) | (intros; constructor <;> first | exact id | omega | (dsimp only at *; omega) | (dsimp only; omega)) | (intros; simp_all [no1, no2, nodeI, nodeR]; done)) (by first | (intros; exact id) | (intros; decide) | (intros; dsimp only; decide) | (intros; omega) | (intros; dsimp only at *; omega) | (intros; dsimp only; omega) | (intros; simp only [nodeI, nodeR, no1, no2] at *; omega) | (intros; simp only [nodeI, nodeR, no1, no2]; omega) | (intros; constructor <;> first | exact id | omega | (dsimp only at *; omega) | (dsimp only; omega)) | (intros; simp_all [no1, no2, nodeI, nodeR]; done)) (by first | (intros; exact id) | (intros; decide) | (intros; dsimp only; decide) | (intros; omega) | (intros; dsimp only at *; omega) | (intros; dsimp only; omega) | (intros; simp only [nodeI, nodeR, no1, no2] at *; omega) | (intros; simp only [nodeI, nodeR, no1, no2]; omega) | (intros; constructor <;> first | exact id | omega | (dsimp only at *; omega) | (dsimp only; omega)) | (intros; simp_all [no1, no2, nodeI, nodeR]; done))
  obtain ⟨v, w, st1, s1, E1, E2, E3, S1, S2, kv⟩ := cs2 (tb := 0) (t0 := t) K hL' C hv tv.1 (by have := tv.2.1; omega) D hh (fun _ _ => rfl) (Or.inl ⟨by decide, rfl⟩) hab
  have R1 := R.scr S1 (ScM.rf (s := s0))
  have K1 := R1.1
  have C1 := C.scr K S1
  obtain ⟨st2, M', E4, G4, C4, -⟩ := qx_ask (a := ab / 10000) (b := ab % 10000) C1 hv (HG.rf K1.wk K1.li) hs.1 hs.2
  obtain ⟨R2, M2⟩ := R1.pup G4 C4
  obtain ⟨s2, E5, D5, k⟩ := qm_ask (a := ab / 10000) (b := ab % 10000) (D.scm hv.1 S2) hv hh hab.1 rfl rfl hs.1 hs.2
  have e3 := ld_4 hab.1
  have e4 := lm_4 hab.1
  rw [e3] at e4
  refine ⟨v, st2, s2, _, M', ?_, ?_, R2, C4, qAsk_v hv ⟨hab.2.1, hs.1⟩ ⟨hab.2.2.2, hs.2⟩, qAsk_x, D5, (G.scm S2).frk k, (S1.mk K).trans M2, (Fr.ko S1.1 K (by first | (intros; exact id) | (intros; decide) | (intros; dsimp only; decide) | (intros; omega) | (intros; dsimp only at *; omega) | (intros; dsimp only; omega) | (intros; simp only [nodeI, nodeR, no1, no2] at *; omega) | (intros; simp only [nodeI, nodeR, no1, no2]; omega) | (intros; constructor <;> first | exact id | omega | (dsimp only at *; omega) | (dsimp only; omega)) | (intros; simp_all [no1, no2, nodeI, nodeR]; done)) (by first | (intros; exact id) | (intros; decide) | (intros; dsimp only; decide) | (intros; omega) | (intros; dsimp only at *; omega) | (intros; dsimp only; omega) | (intros; simp only [nodeI, nodeR, no1, no2] at *; omega) | (intros; simp only [nodeI, nodeR, no1, no2]; omega) | (intros; constructor <;> first | exact id | omega | (dsimp only at *; omega) | (dsimp only; omega)) | (intros; simp_all [no1, no2, nodeI, nodeR]; done))).trans (Fr.ko G4.1 K1 (by first | (intros; exact id) | (intros; decide) | (intros; dsimp only; decide) | (intros; omega) | (intros; dsimp only at *; omega) | (intros; dsimp only; omega) | (intros; simp only [nodeI, nodeR, no1, no2] at *; omega) | (intros; simp only [nodeI, nodeR, no1, no2]; omega) | (intros; constructor <;> first | exact id | omega | (dsimp only at *; omega) | (dsimp only; omega)) | (intros; simp_all [no1, no2, nodeI, nodeR]; done)) (by first | (intros; exact id) | (intros; decide) | (intros; dsimp only; decide) | (intros; omega) | (intros; dsimp only at *; omega) | (intros; dsimp only; omega) | (intros; simp only [nodeI, nodeR, no1, no2] at *; omega) | (intros; simp only [nodeI, nodeR, no1, no2]; omega) | (intros; constructor <;> first | exact id | omega | (dsimp only at *; omega) | (dsimp only; omega)) | (intros; simp_all [no1, no2, nodeI, nodeR]; done))), fun i => (k.2.2.2.1 23 i (by decide) (by decide) (by decide)).trans (S2.2.1 23 i rfl), fun f hf => (k.1 f).trans (S2.1 f (by rcases hf with rfl | rfl <;> rfl)),
    fun f hf => (G4.1.2.2.1 _ _ (K1.wk.lt K1.x0) (by rintro (⟨q, -⟩ | ⟨q, -⟩) <;> omega)).trans (S1.1.2.2.1 _ _ (K.wk.lt K.x0) (by rintro ⟨q, -⟩; omega)), kv⟩
  · simp only [x_teach, gR_b (bf_k K.x0), K.r14, hz_ob, hz_nn, e3, e4, E1, gdT (bf_k K.x0), gR_b (bf_k K1.x0), K1.r14, E4, gdT (bf_k C1.1.1)]
  · simp only [m_asksOne, E2, hz_ob, E3, E5]
theorem teach_L {h N : Nat} {p1 q1 p3 : Int32} {t : Nat → Nat} {pl0 : List qP} (hh : h < 6) (hN : N ≤ 50) (hN2 : 0 < N2) (tv : Tv t) (hsm : ∀ j, j < N2 → smA s0 j) {eC : Int32 → hk_St → Option (Int32 × hk_St)} {eM : Int32 → hk_Ms → Option (Int32 × hk_Ms)} :
    ∀ m f k v st s pl M, m < f → k + m = N → RR x c n B H dn un N1 N2 M N3 st s0 → CH st (x + 16) t pl M → Pv pl → Px pl0 pl → MHd s h t pl → GM h s0 s →
    ∃ r st' s' pl' M', x_taught_L65 x q1 (nI N) p3 eC f v (nI k) st = eC r st' ∧ m_taught_L60 (nI h) (nI N) p3 eM f v (nI k) s = eM r s' ∧ RR x c n B H dn un N1 N2 M' N3 st' s0 ∧ CH st' (x + 16) t pl' M' ∧ Pv pl' ∧ Px pl0 pl' ∧ MHd s' h t pl' ∧ GM h s0 s' ∧ Mk x st st' := by
  intro m
  induction m with
  | zero =>
    intro f k v st s pl M hf hk R C hv X D G
    obtain ⟨f, rfl⟩ : ∃ g, f = g + 1 := ⟨f - 1, by omega⟩
    have : k = N := by omega
    subst this
    refine ⟨v, st, s, pl, M, ?_, ?_, R, C, hv, X, D, G, Mk.rf⟩
    · show x_taught_L65b _ _ _ _ _ _ _ _ _ = _
      simp only [x_taught_L65b, Int32.le_refl, if_true]
    · show m_taught_L60b _ _ _ _ _ _ _ _ = _
      simp only [m_taught_L60b, Int32.le_refl, if_true]
  | succ m ih =>
    intro f k v st s pl M hf hk R C hv X D G
    obtain ⟨f, rfl⟩ : ∃ g, f = g + 1 := ⟨f - 1, by omega⟩
    have K := R.1
    obtain ⟨z1, z2, z3, z4⟩ := tlN R
    have hmod : k % N2 < N2 := Nat.mod_lt _ hN2
    obtain ⟨ab, hab, htl⟩ := tl R hmod
    obtain ⟨t1, t2⟩ := htl st s0 (Scr.rf K.wk K.li) ScM.rf
    rw [hml (show k % N2 < 8 by omega) (by decide)] at t2
    have hs := hsm _ hmod ab (Option.some.inj t2) hab
    obtain ⟨r, st1, s1, pl1, M1, E1, E2, R1, C1, hv1, X1, D1, G1, K1, -⟩ := teach_K R hh C hv tv D G hab hs
    obtain ⟨r2, st2, s2, pl2, M2, i1, i2, i3, i4, i5, i6, i7, i8, i9⟩ := ih f (k + 1) (v + r) st1 s1 pl1 M1 (by omega) (by omega) R1 C1 hv1 (X.trans X1) D1 G1
    have n0 : ¬ nI N ≤ nI k := nI_ge (show k < N by omega) (by omega)
    have em : nI k - nI k / nI N2 * nI N2 = nI (k % N2) := pk_rem (d := N2) (by omega) hN2 (by omega)
    have nz : ¬ nI N2 = 0 := fun q => absurd ((li_eq0 (by omega)).mp q) (by omega)
    have z2' : hm_I s 37 = nI N2 := (G.1 37 rfl (by decide)).trans z2
    have t3 : hm_lI s 21 8 (nI (k % N2)) = some (nI ab) := by
      rw [hml (show k % N2 < 8 by omega) (by decide), G.2.2.1 21 _ rfl (by decide) (by decide) (by decide) (by decide) (by decide)]; exact t2
    refine ⟨r2, st2, s2, pl2, M2, ?_, ?_, i3, i4, i5, i6, i7, i8, K1.trans i9⟩
    · show x_taught_L65b _ _ _ _ _ (x_taught_L65 x q1 (nI N) p3 eC f) _ _ _ = _
      simp only [x_taught_L65b, n0, if_false, z4, z1, hz_ob, gdT (show decide (¬ nI N2 = 0) = true from decide_eq_true nz), hz_nn, em, t1, E1, gdT (bf_k K.x0), hz_nm, nI_1]
      exact i1
    · show m_taught_L60b _ _ _ _ (m_taught_L60 (nI h) (nI N) p3 eM f) _ _ _ = _
      simp only [m_taught_L60b, n0, if_false, z2', gdT (show decide (¬ nI N2 = 0) = true from decide_eq_true nz), em, t3, hz_ob, E2, hz_nm, nI_1]
      exact i2
theorem ap_taught (p q v : Int32) : AP x (x_taught x p q v) (m_taught p q v) := by
  intro c st s hA
  obtain ⟨n, B, H, dn, un, N1, N2, M, N3, R⟩ := hA
  have K := R.1
  have hH := R.2.2.1
  have n1 : ¬ (1 : Int32) = 0 := by decide
  have w1 : m_within q.toInt64 (1 : Int64) (50 : Int64) = x_in q 1 50 := wi (b := 1) (c := 50) (by decide) (by decide)
  have w2 : m_within v.toInt64 (0 : Int64) (1 : Int64) = x_in v 0 1 := wi (b := 0) (c := 1) (by decide) (by decide)
  obtain ⟨z1, z2, z3, z4⟩ := tlN R
  rcases isHead_c K hH p with ⟨h1, h2⟩ | ⟨h1, h2, h, hh, rfl⟩
  · exact ⟨-1, st, s, by simp only [x_taught, h1, hz_ob, gdT (bf_k K.x0), if_true], by simp only [m_taught, h2, hz_ob, if_true], R.ra, Mk.rf⟩
  rcases in_cases q 1 50 (by decide) (by decide) with ⟨q1, -⟩ | ⟨q1, N, -, hN, rfl⟩
  · have q1 : x_in q 1 50 = 0 := q1
    exact ⟨-1, st, s, by simp only [x_taught, h1, hz_ob, gdT (bf_k K.x0), n1, if_false, q1, if_true], by simp only [m_taught, h2, hz_ob, n1, if_false, w1, q1, if_true], R.ra, Mk.rf⟩
  have q1 : x_in (nI N) 1 50 = 1 := q1
  rcases in_cases v 0 1 (by decide) (by decide) with ⟨v1, -⟩ | ⟨v1, -⟩
  · have v1 : x_in v 0 1 = 0 := v1
    exact ⟨-1, st, s, by simp only [x_taught, h1, hz_ob, gdT (bf_k K.x0), n1, if_false, q1, v1, if_true], by simp only [m_taught, h2, hz_ob, n1, if_false, w1, q1, w2, v1, if_true], R.ra, Mk.rf⟩
  have v1 : x_in v 0 1 = 1 := v1
  obtain ⟨b, b1, b2, b3⟩ := canT R
  cases b with
  | false =>
    have e1 : bI false = 0 := rfl
    have e2 : ¬ bI (!false) = 0 := by decide
    exact ⟨-1, st, s, by simp only [x_taught, h1, hz_ob, gdT (bf_k K.x0), n1, if_false, q1, v1, b1, e1, if_true], by simp only [m_taught, h2, hz_ob, n1, if_false, w1, q1, w2, v1, b2, e2], R.ra, Mk.rf⟩
  | true =>
    have e1 : ¬ bI true = 0 := by decide
    have e2 : bI (!true) = 0 := rfl
    by_cases hN2 : N2 = 0
    · subst hN2
      exact ⟨-5, st, s, by simp only [x_taught, h1, hz_ob, gdT (bf_k K.x0), n1, if_false, q1, v1, b1, e1, z1, show nI 0 = (0 : Int32) from rfl, if_true], by simp only [m_taught, h2, hz_ob, n1, if_false, w1, q1, w2, v1, b2, e2, z2, show nI 0 = (0 : Int32) from rfl, if_true], R.ra, Mk.rf⟩
    · have nz : ¬ nI N2 = 0 := fun q => hN2 ((li_eq0 (by omega)).mp q)
      obtain ⟨hd, t, pl, D⟩ := hH.2.2.2.1 h hh
      have h6 := hH.2.2.1
      obtain ⟨r1, r2, r3, r4, r5, r6⟩ := D
      obtain ⟨t0, pl0, P⟩ := R.2.2.2.2.2.2.2.1
      obtain ⟨st1, M1, E1, G1, C1⟩ := qx_copy r3 P r5 (by omega) K.wk K.li
      obtain ⟨R1, K1⟩ := R.pup G1 C1
      obtain ⟨s1, E2, G2, J2⟩ := keeps_K (show h < 6 by omega) s
      have D1 : MHd s1 h t pl := ⟨fun i hi => (J2 _ _ (by decide)).trans (r4.1 i hi), (J2 _ _ (by decide)).trans r4.2.1, fun k hk => ⟨(J2 _ _ (by decide)).trans (r4.2.2 k hk).1, (J2 _ _ (by decide)).trans (r4.2.2 k hk).2⟩⟩
      obtain ⟨r, st2, s2, pl2, M2, i1, i2, R2, C2, hv2, X2, D2, G3, K2⟩ := teach_L (p1 := nI h) (q1 := nI h) (p3 := v) (pl0 := pl) (show h < 6 by omega) (show N ≤ 50 by omega) (by omega) r6 (b3 rfl)
        (eC := fun (v22 : Int32) (s23 : hk_St) =>
          if v = 0 then
            some (v22, s23)
          else
          (hk_gR [0] 14 s23 x).bind fun x35 =>
            hk_nn x35 fun a36 =>
            (xHead_learnt a36 s23).bind fun x37 =>
            hk_gd (hk_bf [3] s23 a36) <|
            some (x37, s23))
        (eM := fun (v12 : Int32) (s13 : hk_Ms) =>
          (m_learntOf (nI h) s13).bind fun x20 =>
          (m_putsBack (nI h) s13).bind fun s21 =>
          if v = 0 then
            some (v12, s21)
          else
          some (x20, s21)) N hk_F 0 0 st1 s1 pl M1 (pw_F (by omega)) (by omega) R1 C1 r5 Px.rf D1 G2
      obtain ⟨s3, E3, R3, -⟩ := backs_K R2 (show h < 6 by omega) G3 r4 r5 D2 X2
      have l1 := qm_learnt D2 hv2.1 (show h < 6 by omega)
      have l2 := qx_learnt C2
      rw [nI_0] at i1 i2
      have x1 : x_taught x (nI h) (nI N) v st = if v = 0 then some (r, st2) else some (qLn pl2 pl2.length 0 0, st2) := by
        simp only [x_taught, h1, hz_ob, gdT (bf_k K.x0), n1, if_false, q1, v1, b1, e1, z1, nz, gR_b (bf_k K.x0), K.r14, K.r2, hz_nn, hdL R hh (show HdA x h hd st from r1), E1, gdT (bf_k P.1.1)]
        refine i1.trans ?_
        simp only [gR_b (bf_k R2.1.x0), R2.1.r14, hz_ob, hz_nn, l2, gdT (bf_k C2.1.1)]
      have m1 : m_taught (nI h) (nI N) v s = if v = 0 then some (r, s3) else some (qLn pl2 pl2.length 0 0, s3) := by
        simp only [m_taught, h2, hz_ob, n1, if_false, w1, q1, w2, v1, b2, e2, if_true, z2, nz, E2]
        refine i2.trans ?_
        simp only [l1, hz_ob, E3]
      by_cases h0 : v = 0
      · rw [if_pos h0] at x1 m1
        exact ⟨r, st2, s3, x1, m1, R3.ra, K1.trans K2⟩
      · rw [if_neg h0] at x1 m1
        exact ⟨_, st2, s3, x1, m1, R3.ra, K1.trans K2⟩
end S2AF
