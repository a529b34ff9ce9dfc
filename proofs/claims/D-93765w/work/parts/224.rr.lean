set_option maxRecDepth 100000
/-! ===== STAGE 2: the class's state against the reference's ===== -/
/-- the fixed things through a run -/
theorem RK.fr {x : Nat} {st st1 : hk_St} {pI pL pR : Nat → Nat → Prop} {pA pB pO : Nat → Prop} (K : RK x st) (F : Fr pI pL pR pA pB pO st st1) (hR : ∀ f a, pR f a → f = 7 ∨ f = 213) (hw : Wk st1) (hl : Li st1) : RK x st1 := by
  obtain ⟨f0, f1, f2, f3, f4, f5, f6, f7⟩ := F
  have w := K.wk
  have kk : ∀ {a c n}, hk_k st a = some (c, n) → hk_k st1 a = some (c, n) := fun h => (f1 _ (w.lt h)).trans h
  have rr : ∀ {f a c n v}, hk_k st a = some (c, n) → f ≠ 7 → f ≠ 213 → hk_fR st f a = v → hk_fR st1 f a = v := fun h h7 h2 e => (f4 _ _ (w.lt h) (fun q => by rcases hR _ _ q with q | q <;> contradiction)).trans e
  have X := K.x0
  refine ⟨kk X, rr X (by decide) (by decide) K.r0, rr X (by decide) (by decide) K.r2, rr X (by decide) (by decide) K.r4, rr X (by decide) (by decide) K.r8, rr X (by decide) (by decide) K.r9, rr X (by decide) (by decide) K.r10, rr X (by decide) (by decide) K.r12,
    rr X (by decide) (by decide) K.r14, rr X (by decide) (by decide) K.r19, rr X (by decide) (by decide) K.r20, rr X (by decide) (by decide) K.r22, kk K.k1, kk K.k2, kk K.k3, ?_, ?_, kk K.k14, kk K.k15, kk K.k19, kk K.k20, kk K.k21, ?_, hw, hl⟩
  · obtain ⟨h1, h2, h3⟩ := K.fc
    exact ⟨kk h1, rr h1 (by decide) (by decide) h2, kk h3⟩
  · obtain ⟨h1, h2, h3, h4, h5, h6⟩ := K.ka
    exact ⟨kk h1, fun j hj => kk (h2 j hj), fun j hj => kk (h3 j hj), kk h4, fun j hj => rr h1 (by omega) (by omega) (h5 j hj), rr h1 (by decide) (by decide) h6⟩
  · obtain ⟨h1, h2⟩ := K.km
    have hf : ∀ j, 400 + hk_mf j ≠ 7 ∧ 400 + hk_mf j ≠ 213 := fun j => by omega
    exact ⟨kk h1, fun j hj => ⟨kk (h2 j hj).1, rr h1 (hf j).1 (hf j).2 (h2 j hj).2⟩⟩
/-- a valid pair of numbers -/
def Pr (ab : Nat) : Prop := ab < 2 ^ 31 ∧ 1 ≤ ab / 10000 ∧ ab / 10000 ≤ 9999 ∧ 1 ≤ ab % 10000
/-- what a head can be told -/
def Tv (t : Nat → Nat) : Prop := (∀ i, t i ≤ 99) ∧ 9 ≤ t 3 ∧ 1 ≤ t 4 ∧ t 4 ≤ 40
def Tw (w b : Nat) : Prop := b ≤ 99 ∧ (w = 3 → 9 ≤ b) ∧ (w = 4 → 1 ≤ b ∧ b ≤ 40)
/-- the tape -/
def RT (x n : Nat) (B : Nat → Nat) (st : hk_St) (s : hk_Ms) : Prop := TS x n B st ∧ hm_I s 7 = nI n ∧ ∀ i, i < n → hm_A s 4 i = nI (B i)
/-- the head h -/
def RHd (x h hd : Nat) (t : Nat → Nat) (pl : List qP) (st : hk_St) (s : hk_Ms) : Prop := hk_aR st (x + 2) h = some hd ∧ x + 53 ≤ hd ∧ CH st hd t pl pl.length ∧ MHd s h t pl ∧ Pv pl ∧ Tv t
def RH (x H : Nat) (st : hk_St) (s : hk_Ms) : Prop := hk_fI st 3 x = nI H ∧ hm_I s 16 = nI H ∧ H ≤ 6 ∧ (∀ h, h < H → ∃ hd t pl, RHd x h hd t pl st s) ∧ (∀ h h' hd, h < H → h' < H → hk_aR st (x + 2) h = some hd → hk_aR st (x + 2) h' = some hd → h = h') ∧
  ∀ h, H ≤ h → h < 6 → hm_A s 8 h = 0
/-- changes -/
def RG (x H dn un : Nat) (st : hk_St) (s : hk_Ms) : Prop := hk_fI st 5 x = nI dn ∧ hk_fI st 6 x = nI un ∧ hm_I s 5 = nI dn ∧ hm_I s 4 = nI (dn + un) ∧ dn + un ≤ 40 ∧
  ∀ k, k < dn + un → ∃ c hd h w b e, hk_aR st (x + 3) k = some c ∧ hk_k st c = some (5, 0) ∧ hk_fR st 500 c = some hd ∧ hk_fI st 501 c = nI w ∧ w < 5 ∧ h < H ∧ hk_aR st (x + 2) h = some hd ∧ hm_A s 1 k = nI (5 * h + w) ∧
    hk_fI st 502 c = nI b ∧ hm_A s 2 k = nI b ∧ Tw w b ∧ hk_fI st 503 c = nI e ∧ hm_A s 3 k = nI e ∧ Tw w e
/-- the choice -/
def RL (x : Nat) (st : hk_St) (s : hk_Ms) : Prop := (hk_fR st 7 x = none ∧ hm_I s 9 = -1) ∨
  ∃ as L a0 m, hk_fR st 7 x = some a0 ∧ as[0]? = some a0 ∧ LCh x st as L ∧ hm_I s 9 = nI m ∧ m ≤ 120 ∧ L.length ≤ 1000 ∧
    ∀ s2, (∀ i, i < m → hm_A s2 5 i = hm_A s 5 i) → ∃ s3, m_workOut (0 : Int32) (nI m) s2 = some (qGv L (Nm s2), s3) ∧ ScM s2 s3
/-- what is seen -/
def RS (x N : Nat) (st : hk_St) (s : hk_Ms) : Prop := hk_fI st 11 x = nI N ∧ hm_I s 33 = nI N ∧ N ≤ 40 ∧
  ∀ k, k < N → ∃ e ab te an, hk_aR st (x + 14) k = some e ∧ hk_k st e = some (13, 0) ∧ hk_fI st 1300 e = nI (ab / 10000) ∧ hk_fI st 1301 e = nI (ab % 10000) ∧ hk_fI st 1302 e = nI te ∧ hk_fI st 1303 e = an ∧
    Pr ab ∧ te ≤ 9999 ∧ -999999999 ≤ an.toInt ∧ an.toInt ≤ 999999999 ∧ hm_A s 18 k = nI ab ∧ hm_A s 19 k = nI te ∧ hm_A s 20 k = an
/-- what is told -/
def RO (x N : Nat) (st : hk_St) (s : hk_Ms) : Prop := hk_fI st 13 x = nI N ∧ hm_I s 37 = nI N ∧ N ≤ 8 ∧ ∀ k, k < N → ∃ ab, Pr ab ∧ hk_aI st (x + 15) k = nI ab ∧ hm_A s 21 k = nI ab
/-- the pupil -/
def RP (x M : Nat) (st : hk_St) : Prop := ∃ t pl, CH st (x + 16) t pl M
/-- the ways that are kept -/
def RB (x N : Nat) (st : hk_St) (s : hk_Ms) : Prop := hk_fI st 21 x = nI N ∧ hm_I s 45 = nI N ∧ N ≤ 50 ∧
  ∀ b, b < N → ∃ w kd, hk_aR st (x + 20) b = some w ∧ hk_k st w = some (15 + kd, 0) ∧ kd ≤ 7 ∧ hk_fI st 1500 w = nI b ∧ (∀ f, f = 1501 ∨ f = 1600 ∨ f = 1700 ∨ f = 1800 ∨ f = 1900 ∨ f = 2000 ∨ f = 2100 ∨ f = 2200 → hk_fR st f w = some x ∨ hk_fR st f w = none) ∧
    hk_fR st 1501 w = some x ∧ (kd = 1 ∨ kd = 5 → hk_fR st 1600 w = some x) ∧ (kd = 2 ∨ kd = 3 → hk_fR st 1700 w = some x) ∧ (kd = 3 → hk_fR st 1800 w = some x) ∧ (kd = 4 → hk_fR st 1900 w = some x) ∧ (kd = 5 → hk_fR st 2000 w = some x) ∧
    (kd = 6 ∨ kd = 7 → hk_fR st 2100 w = some x) ∧ (kd = 7 → hk_fR st 2200 w = some x) ∧ hm_A s 24 b = nI kd
/-- the trace -/
def RTr (x : Nat) (st : hk_St) (s : hk_Ms) : Prop := ∃ N, N ≤ 1000 ∧ hk_fI st 18 x = nI N ∧ hm_I s 48 = nI N ∧ ∀ i, i < 24 → i < N → hk_aI st (x + 19) i = hm_A s 25 i
def rwF (q : Nat) : Nat := 2300 + 100 * q
def rwT (q : Nat) : Nat := match q with
  | 0 => 101
  | 1 => 102
  | 2 => 100
  | 3 => 104
  | _ => 103
/-- a row's item against the reference's -/
def rwV (st : hk_St) (q r i : Nat) (v : Int64) : Prop := if q = 3 then hk_aL st (r + 1) i = v else hk_nar (rwT q - 100) (hk_aI st (r + 1) i) = hk_aI st (r + 1) i ∧ (hk_aI st (r + 1) i).toInt64 = v
/-- shelves -/
def RV1 (x N d : Nat) (st : hk_St) (s : hk_Ms) : Prop := (hk_aR st (x + 21) d = none ∧ hm_A s 26 d = -1) ∨ (∃ b w kd, b < N ∧ hk_aR st (x + 21) d = some w ∧ hk_aR st (x + 20) b = some w ∧ hm_A s 26 d = nI b ∧ hk_k st w = some (15 + kd, 0) ∧ kd ≤ 7) ∨
  ∃ r q n, hk_aR st (x + 21) d = some r ∧ x + 53 ≤ r ∧ q < 5 ∧ hk_k st r = some (23 + q, 0) ∧ hk_fR st (rwF q) r = some (r + 1) ∧ hk_k st (r + 1) = some (rwT q, n) ∧ n ≤ 60 ∧ hm_A s 26 d = nI (50 + q) ∧ hm_A s 27 d = nI n ∧ ∀ i, i < n → rwV st q r i (hm_B s 28 (60 * d + i))
def RV (x N : Nat) (st : hk_St) (s : hk_Ms) : Prop := (∀ d, d < 6 → RV1 x N d st s) ∧ ∀ d d' r q, d < 6 → d' < 6 → hk_aR st (x + 21) d = some r → hk_aR st (x + 21) d' = some r → hk_k st r = some (23 + q, 0) → q < 5 → d = d'
/-- all of it; c: how much was spent -/
def RR (x c n : Nat) (B : Nat → Nat) (H dn un N1 N2 M N3 : Nat) (st : hk_St) (s : hk_Ms) : Prop :=
  RK x st ∧ RT x n B st s ∧ RH x H st s ∧ RG x H dn un st s ∧ RL x st s ∧ RS x N1 st s ∧ RO x N2 st s ∧ RP x M st ∧ RB x N3 st s ∧ RTr x st s ∧ RV x N3 st s ∧ hk_nc st ≤ c + M ∧ hk_ns st ≤ 1000 * c + 3 * M
def RA (x c : Nat) (st : hk_St) (s : hk_Ms) : Prop := ∃ n B H dn un N1 N2 M N3, RR x c n B H dn un N1 N2 M N3 st s
/-- what the reference can have changed: ints, places of int arrays, items -/
def FrM (P : Nat → Prop) (Q : Nat → Nat → Prop) (W : Nat → Prop) (s s' : hk_Ms) : Prop := (∀ f, ¬ P f → hm_I s' f = hm_I s f) ∧ (∀ j i, ¬ Q j i → hm_A s' j i = hm_A s j i) ∧ ∀ i, ¬ W i → hm_B s' 28 i = hm_B s 28 i
theorem ScM.fr {s s' : hk_Ms} (h : ScM s s') : FrM (fun f => mcI f = false) (fun j _ => mcA j = false) no1 s s' :=
  ⟨fun f hf => h.1 f (by simpa using hf), fun j i hj => h.2.1 j i (by simpa using hj), fun i _ => h.2.2 i⟩
section S2RR
variable {x n H dn un N M : Nat} {B : Nat → Nat} {st st1 : hk_St} {s s1 : hk_Ms} {pI pL pR : Nat → Nat → Prop} {pA pB pO : Nat → Prop} {P : Nat → Prop} {Q : Nat → Nat → Prop} {W : Nat → Prop}
theorem RT.fr (h : RT x n B st s) (F : Fr pI pL pR pA pB pO st st1) (G : FrM P Q W s s1) (K : RK x st) (a1 : ¬ pI 1 x) (a2 : ¬ pR 0 x) (a3 : ¬ pA (x + 1)) (b1 : ¬ P 7) (b2 : ∀ i, ¬ Q 4 i) : RT x n B st1 s1 := by
  obtain ⟨⟨h1, h2, h3, h4, h5, h6⟩, h7, h8⟩ := h
  obtain ⟨f0, f1, f2, f3, f4, f5, f6, f7⟩ := F
  have w := K.wk
  exact ⟨⟨(f1 _ (w.lt h1)).trans h1, (f2 _ _ (w.lt h1) a1).trans h2, (f4 _ _ (w.lt h1) a2).trans h3, (f1 _ (w.lt h4)).trans h4, h5, fun i hi => ⟨(h6 i hi).1, (f5 _ i (w.lt h4) a3).trans (h6 i hi).2⟩⟩, (G.1 _ b1).trans h7, fun i hi => (G.2.1 _ _ (b2 i)).trans (h8 i hi)⟩
theorem CH.fr2 {hd : Nat} {t : Nat → Nat} {pl : List qP} (C : CH st hd t pl M) (F : Fr pI pL pR pA pB pO st st1) (w : Wk st) (a1 : ¬ pI 302 hd) (a2 : ∀ f, f = 1400 ∨ f = 1401 ∨ f = 1402 → ∀ k la, hk_aR st (hd + 2) k = some la → ¬ pI f la) (a3 : ¬ pR 300 hd) (a4 : ¬ pR 301 hd) (a5 : ¬ pA (hd + 1)) (a6 : ¬ pO (hd + 2)) : CH st1 hd t pl M := by
  obtain ⟨⟨C1, C2, C3, C4⟩, C5, C6, C7, C8, C9, CA, CB, CC⟩ := C
  obtain ⟨f0, f1, f2, f3, f4, f5, f6, f7⟩ := F
  have e7 : ∀ k, hk_aR st1 (hd + 2) k = hk_aR st (hd + 2) k := fun k => f7 _ k (w.lt C6) a6
  refine ⟨⟨(f1 _ (w.lt C1)).trans C1, (f4 _ _ (w.lt C1) a3).trans C2, (f1 _ (w.lt C3)).trans C3, fun i hi => (f5 _ _ (w.lt C3) a5).trans (C4 i hi)⟩, (f4 _ _ (w.lt C1) a4).trans C5, (f1 _ (w.lt C6)).trans C6, (f2 _ _ (w.lt C1) a1).trans C7, C8, C9, ?_, ?_, ?_⟩
  · intro k hk
    obtain ⟨la, hla, hkl⟩ := CA k hk
    exact ⟨la, (e7 k).trans hla, (f1 _ (w.lt hkl)).trans hkl⟩
  · intro k hk
    exact (e7 k).trans (CB k hk)
  · intro k la hk hla
    rw [e7] at hla
    obtain ⟨la', hla', hkl⟩ := CA k (by omega)
    rw [hla] at hla'
    cases hla'
    obtain ⟨g0, g1, g2⟩ := CC k la hk hla
    exact ⟨(f2 _ _ (w.lt hkl) (a2 _ (Or.inl rfl) k la hla)).trans g0, (f2 _ _ (w.lt hkl) (a2 _ (Or.inr (Or.inl rfl)) k la hla)).trans g1, (f2 _ _ (w.lt hkl) (a2 _ (Or.inr (Or.inr rfl)) k la hla)).trans g2⟩
theorem MHd.fr {h : Nat} {t : Nat → Nat} {pl : List qP} (D : MHd s h t pl) (G : FrM P Q W s s1) (hl : pl.length ≤ 60) (b : ∀ i, i < 5 → ¬ Q 0 (5 * h + i)) (b1 : ¬ Q 8 h) (b2 : ∀ k, k < 60 → ¬ Q 9 (60 * h + k) ∧ ¬ Q 10 (60 * h + k)) : MHd s1 h t pl :=
  ⟨fun i hi => (G.2.1 _ _ (b i hi)).trans (D.1 i hi), (G.2.1 _ _ b1).trans D.2.1, fun k hk => ⟨(G.2.1 _ _ (b2 k (by omega)).1).trans (D.2.2 k hk).1, (G.2.1 _ _ (b2 k (by omega)).2).trans (D.2.2 k hk).2⟩⟩
/-- nothing of the heads is touched -/
theorem RH.fr (h : RH x H st s) (F : Fr pI pL pR pA pB pO st st1) (G : FrM P Q W s s1) (K : RK x st) (a0 : ¬ pI 3 x) (a1 : ∀ a, x + 53 ≤ a → ¬ pI 302 a) (a2 : ∀ f a, f = 1400 ∨ f = 1401 ∨ f = 1402 → ¬ pI f a) (a3 : ∀ a, ¬ pR 300 a ∧ ¬ pR 301 a) (a5 : ∀ a, x + 53 ≤ a → ¬ pA a ∧ ¬ pO a) (a6 : ¬ pO (x + 2))
    (b1 : ¬ P 16) (b2 : ∀ i, ¬ Q 0 i ∧ ¬ Q 8 i ∧ ¬ Q 9 i ∧ ¬ Q 10 i) : RH x H st1 s1 := by
  obtain ⟨h1, h2, h3, h4, h5, h6⟩ := h
  have w := K.wk
  have e2 : ∀ k, hk_aR st1 (x + 2) k = hk_aR st (x + 2) k := fun k => F.2.2.2.2.2.2.2 _ k (w.lt K.k2) a6
  refine ⟨(F.2.2.1 _ _ (w.lt K.x0) a0).trans h1, (G.1 _ b1).trans h2, h3, ?_, ?_, ?_⟩
  · intro h hh
    obtain ⟨hd, t, pl, r1, r2, r3, r4, r5, r6⟩ := h4 h hh
    refine ⟨hd, t, pl, (e2 h).trans r1, r2, r3.fr2 F w (a1 _ r2) (fun f hf k la _ => a2 f la hf) (a3 hd).1 (a3 hd).2 (a5 _ (by omega)).1 (a5 _ (by omega)).2, r4.fr G r5.1 (fun i _ => (b2 _).1) (b2 _).2.1 (fun k _ => ⟨(b2 _).2.2.1, (b2 _).2.2.2⟩), r5, r6⟩
  · intro h h' hd hh hh' e e'
    rw [e2] at e e'
    exact h5 h h' hd hh hh' e e'
  · intro h q1 q2
    exact (G.2.1 _ _ (b2 _).2.1).trans (h6 h q1 q2)
theorem RG.fr (h : RG x H dn un st s) (F : Fr pI pL pR pA pB pO st st1) (G : FrM P Q W s s1) (K : RK x st) (a1 : ¬ pI 5 x ∧ ¬ pI 6 x) (a2 : ∀ a, ¬ pI 501 a ∧ ¬ pI 502 a ∧ ¬ pI 503 a ∧ ¬ pR 500 a) (a3 : ¬ pO (x + 3)) (a4 : ¬ pO (x + 2)) (b1 : ¬ P 4 ∧ ¬ P 5) (b2 : ∀ i, ¬ Q 1 i ∧ ¬ Q 2 i ∧ ¬ Q 3 i) : RG x H dn un st1 s1 := by
  obtain ⟨h1, h2, h3, h4, h5, h6⟩ := h
  have w := K.wk
  refine ⟨(F.2.2.1 _ _ (w.lt K.x0) a1.1).trans h1, (F.2.2.1 _ _ (w.lt K.x0) a1.2).trans h2, (G.1 _ b1.2).trans h3, (G.1 _ b1.1).trans h4, h5, ?_⟩
  intro k hk
  obtain ⟨c, hd, h, w', b, e, q1, q2, q3, q4, q5, q6, q7, q8, q9, qA, qB, qC, qD, qE⟩ := h6 k hk
  have lc := w.lt q2
  exact ⟨c, hd, h, w', b, e, (F.2.2.2.2.2.2.2 _ _ (w.lt K.k3) a3).trans q1, (F.2.1 _ lc).trans q2, (F.2.2.2.2.1 _ _ lc (a2 c).2.2.2).trans q3, (F.2.2.1 _ _ lc (a2 c).1).trans q4, q5, q6, (F.2.2.2.2.2.2.2 _ _ (w.lt K.k2) a4).trans q7, (G.2.1 _ _ (b2 k).1).trans q8,
    (F.2.2.1 _ _ lc (a2 c).2.1).trans q9, (G.2.1 _ _ (b2 k).2.1).trans qA, qB, (F.2.2.1 _ _ lc (a2 c).2.2.1).trans qC, (G.2.1 _ _ (b2 k).2.2).trans qD, qE⟩
theorem RL.fr (h : RL x st s) (F : Fr pI pL pR pA pB pO st st1) (G : FrM P Q W s s1) (K : RK x st) (a0 : ¬ pR 7 x) (a1 : ∀ f a, nodeI f → ¬ pI f a) (a2 : ∀ f a, nodeR f ∨ f = 700 ∨ f = 701 ∨ f = 702 → ¬ pR f a) (b1 : ¬ P 9) (b2 : ∀ i, ¬ Q 5 i) : RL x st1 s1 := by
  have w := K.wk
  have X : Nx st st1 := Fr.nx F (fun f a hp hn => a1 f a hn hp) (fun f a hp hn => a2 f a (Or.inl hn) hp)
  rcases h with ⟨h1, h2⟩ | ⟨as, L, a0', m, h1, h2, h3, h4, h5, h6, h7⟩
  · exact Or.inl ⟨(F.2.2.2.2.1 _ _ (w.lt K.x0) a0).trans h1, (G.1 _ b1).trans h2⟩
  · refine Or.inr ⟨as, L, a0', m, (F.2.2.2.2.1 _ _ (w.lt K.x0) a0).trans h1, h2, ⟨h3.1, ?_, ?_⟩, (G.1 _ b1).trans h4, h5, h6, fun s2 hs => h7 s2 (fun i hi => (hs i hi).trans (G.2.1 _ _ (b2 i)))⟩
    · intro i a ha
      obtain ⟨q1, q2, q3⟩ := h3.2.1 i a ha
      exact ⟨Nat.lt_of_lt_of_le q1 F.1, (F.2.1 _ q1).trans q2, (F.2.2.2.2.1 _ _ q1 (a2 _ _ (by omega))).trans q3⟩
    · intro i a ln ha hl
      obtain ⟨q1, q2, q3⟩ := h3.2.1 i a ha
      exact (h3.2.2 i a ln ha hl).nx X (F.2.2.2.2.1 _ _ q1 (a2 _ _ (by omega))) (F.2.2.2.2.1 _ _ q1 (a2 _ _ (by omega)))
theorem RS.fr (h : RS x N st s) (F : Fr pI pL pR pA pB pO st st1) (G : FrM P Q W s s1) (K : RK x st) (a1 : ¬ pI 11 x) (a2 : ∀ a, ¬ pI 1300 a ∧ ¬ pI 1301 a ∧ ¬ pI 1302 a ∧ ¬ pI 1303 a) (a3 : ¬ pO (x + 14)) (b1 : ¬ P 33) (b2 : ∀ i, ¬ Q 18 i ∧ ¬ Q 19 i ∧ ¬ Q 20 i) : RS x N st1 s1 := by
  obtain ⟨h1, h2, h3, h4⟩ := h
  have w := K.wk
  refine ⟨(F.2.2.1 _ _ (w.lt K.x0) a1).trans h1, (G.1 _ b1).trans h2, h3, fun k hk => ?_⟩
  obtain ⟨e, ab, te, an, q1, q2, q3, q4, q5, q6, q7, q8, q9, qA, qB, qC, qD⟩ := h4 k hk
  have l := w.lt q2
  exact ⟨e, ab, te, an, (F.2.2.2.2.2.2.2 _ _ (w.lt K.k14) a3).trans q1, (F.2.1 _ l).trans q2, (F.2.2.1 _ _ l (a2 e).1).trans q3, (F.2.2.1 _ _ l (a2 e).2.1).trans q4, (F.2.2.1 _ _ l (a2 e).2.2.1).trans q5, (F.2.2.1 _ _ l (a2 e).2.2.2).trans q6, q7, q8, q9, qA,
    (G.2.1 _ _ (b2 k).1).trans qB, (G.2.1 _ _ (b2 k).2.1).trans qC, (G.2.1 _ _ (b2 k).2.2).trans qD⟩
theorem RO.fr (h : RO x N st s) (F : Fr pI pL pR pA pB pO st st1) (G : FrM P Q W s s1) (K : RK x st) (a1 : ¬ pI 13 x) (a3 : ¬ pA (x + 15)) (b1 : ¬ P 37) (b2 : ∀ i, ¬ Q 21 i) : RO x N st1 s1 := by
  obtain ⟨h1, h2, h3, h4⟩ := h
  have w := K.wk
  refine ⟨(F.2.2.1 _ _ (w.lt K.x0) a1).trans h1, (G.1 _ b1).trans h2, h3, fun k hk => ?_⟩
  obtain ⟨ab, q1, q2, q3⟩ := h4 k hk
  exact ⟨ab, q1, (F.2.2.2.2.2.1 _ _ (w.lt K.k15) a3).trans q2, (G.2.1 _ _ (b2 k)).trans q3⟩
theorem RP.fr (h : RP x M st) (F : Fr pI pL pR pA pB pO st st1) (K : RK x st) (a1 : ¬ pI 302 (x + 16)) (a2 : ∀ f, f = 1400 ∨ f = 1401 ∨ f = 1402 → ∀ k la, hk_aR st (x + 18) k = some la → ¬ pI f la) (a3 : ∀ a, ¬ pR 300 a ∧ ¬ pR 301 a) (a5 : ¬ pA (x + 17)) (a6 : ¬ pO (x + 18)) : RP x M st1 := by
  obtain ⟨t, pl, h⟩ := h
  exact ⟨t, pl, h.fr2 F K.wk a1 a2 (a3 _).1 (a3 _).2 a5 a6⟩
theorem RB.fr (h : RB x N st s) (F : Fr pI pL pR pA pB pO st st1) (G : FrM P Q W s s1) (K : RK x st) (a1 : ¬ pI 21 x) (a2 : ∀ a, ¬ pI 1500 a) (a3 : ∀ f a, 1501 ≤ f → f ≤ 2200 → ¬ pR f a) (a4 : ¬ pO (x + 20)) (b1 : ¬ P 45) (b2 : ∀ i, ¬ Q 24 i) : RB x N st1 s1 := by
  obtain ⟨h1, h2, h3, h4⟩ := h
  have w := K.wk
  refine ⟨(F.2.2.1 _ _ (w.lt K.x0) a1).trans h1, (G.1 _ b1).trans h2, h3, fun k hk => ?_⟩
  obtain ⟨v, kd, q1, q2, q3, q4, q5, q6, q7, q8, q9, qA, qB, qC, qD, qE⟩ := h4 k hk
  have l := w.lt q2
  have e : ∀ f, 1501 ≤ f → f ≤ 2200 → hk_fR st1 f v = hk_fR st f v := fun f i1 i2 => F.2.2.2.2.1 _ _ l (a3 f v i1 i2)
  refine ⟨v, kd, (F.2.2.2.2.2.2.2 _ _ (w.lt K.k20) a4).trans q1, (F.2.1 _ l).trans q2, q3, (F.2.2.1 _ _ l (a2 v)).trans q4, fun f hf => by rw [e f (by omega) (by omega)]; exact q5 f hf, (e 1501 (by decide) (by decide)).trans q6, fun q => (e 1600 (by decide) (by decide)).trans (q7 q), fun q => (e 1700 (by decide) (by decide)).trans (q8 q),
    fun q => (e 1800 (by decide) (by decide)).trans (q9 q), fun q => (e 1900 (by decide) (by decide)).trans (qA q), fun q => (e 2000 (by decide) (by decide)).trans (qB q), fun q => (e 2100 (by decide) (by decide)).trans (qC q), fun q => (e 2200 (by decide) (by decide)).trans (qD q), (G.2.1 _ _ (b2 k)).trans qE⟩
theorem RTr.fr (h : RTr x st s) (F : Fr pI pL pR pA pB pO st st1) (G : FrM P Q W s s1) (K : RK x st) (a1 : ¬ pI 18 x) (a2 : ¬ pA (x + 19)) (b1 : ¬ P 48) (b2 : ∀ i, ¬ Q 25 i) : RTr x st1 s1 := by
  obtain ⟨N, h0, h1, h2, h3⟩ := h
  have w := K.wk
  exact ⟨N, h0, (F.2.2.1 _ _ (w.lt K.x0) a1).trans h1, (G.1 _ b1).trans h2, fun i hi hN => (F.2.2.2.2.2.1 _ _ (w.lt K.k19) a2).trans ((h3 i hi hN).trans (G.2.1 _ _ (b2 i)).symm)⟩
theorem RV.fr (h : RV x N st s) (F : Fr pI pL pR pA pB pO st st1) (G : FrM P Q W s s1) (K : RK x st) (a0 : ¬ pO (x + 20)) (a1 : ¬ pO (x + 21)) (a2 : ∀ f a, 2300 ≤ f → f ≤ 2700 → ¬ pR f a) (a3 : ∀ r q n, x + 53 ≤ r → hk_k st r = some (23 + q, 0) → q < 5 → hk_k st (r + 1) = some (rwT q, n) → ¬ pA (r + 1) ∧ ¬ pB (r + 1)) (b1 : ∀ i, ¬ Q 26 i ∧ ¬ Q 27 i) (b2 : ∀ i, ¬ W i) : RV x N st1 s1 := by
  obtain ⟨h1, h2⟩ := h
  have w := K.wk
  have e1 : ∀ d, hk_aR st1 (x + 21) d = hk_aR st (x + 21) d := fun d => F.2.2.2.2.2.2.2 _ _ (w.lt K.k21) a1
  refine ⟨fun d hd => ?_, fun d d' r q hd hd' e e' hk hq => ?_⟩
  · rcases h1 d hd with ⟨q1, q2⟩ | ⟨b, v, kd, q1, q2, q3, q4, q5, q6⟩ | ⟨r, q, n, q1, q2, q3, q4, q5, q6, q7, q8, q9, qA⟩
    · exact Or.inl ⟨(e1 d).trans q1, (G.2.1 _ _ (b1 d).1).trans q2⟩
    · exact Or.inr (Or.inl ⟨b, v, kd, q1, (e1 d).trans q2, (F.2.2.2.2.2.2.2 _ _ (w.lt K.k20) a0).trans q3, (G.2.1 _ _ (b1 d).1).trans q4, (F.2.1 _ (w.lt q5)).trans q5, q6⟩)
    · have hF : 2300 ≤ rwF q ∧ rwF q ≤ 2700 := by unfold rwF; omega
      obtain ⟨nA, nB⟩ := a3 r q n q2 q4 q3 q6
      refine Or.inr (Or.inr ⟨r, q, n, (e1 d).trans q1, q2, q3, (F.2.1 _ (w.lt q4)).trans q4, (F.2.2.2.2.1 _ _ (w.lt q4) (a2 _ _ hF.1 hF.2)).trans q5, (F.2.1 _ (w.lt q6)).trans q6, q7, (G.2.1 _ _ (b1 d).1).trans q8, (G.2.1 _ _ (b1 d).2).trans q9, fun i hi => ?_⟩)
      have eI := F.2.2.2.2.2.1 _ i (w.lt q6) nA
      have eL := F.2.2.2.2.2.2.1 _ i (w.lt q6) nB
      have := qA i hi
      unfold rwV at this ⊢
      rw [G.2.2 _ (b2 _), eI, eL]
      exact this
  · rw [e1] at e e'
    have hlt : r < hk_nx st := by
      rcases h1 d hd with ⟨q1, q2⟩ | ⟨b, v, kd, q1, q2, q3, q4, q5, q6⟩ | ⟨r', q', n, q1, q2, q3, q4, q5, q6, q7, q8, q9, qA⟩
      · rw [e] at q1; cases q1
      · rw [e] at q2; cases q2
        exact w.lt q5
      · rw [e] at q1; cases q1
        exact w.lt q4
    rw [F.2.1 _ hlt] at hk
    exact h2 d d' r q hd hd' e e' hk hq
end S2RR
