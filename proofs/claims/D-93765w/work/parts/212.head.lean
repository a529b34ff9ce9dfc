set_option maxRecDepth 100000
/-! ===== STAGE 2: heads and their pairs ===== -/
/-- a pair that was asked, and how often -/
abbrev qP : Type := Nat × Nat × Int32
def pe (pl : List qP) (k : Nat) : qP := pl.getD k (0, 0, 0)
theorem pe_lt {pl : List qP} {e : qP} {k : Nat} (h : k < pl.length) : pe (pl ++ [e]) k = pe pl k := by simp [pe, List.getElem?_append_left h]
theorem pe_eq {pl : List qP} {e : qP} : pe (pl ++ [e]) pl.length = e := by simp [pe]
theorem pe_set {pl : List qP} {e : qP} {k j : Nat} (h : k < pl.length) : pe (pl.set k e) j = if j = k then e else pe pl j := by
  by_cases h1 : j = k
  · subst h1; simp [pe, h]
  · have h2 : ¬ k = j := fun q => h1 q.symm
    rw [if_neg h1]
    simp [pe, List.getElem?_set, h2]
def qIs (a b : Nat) (e : qP) : Bool := decide ((e.1 = a ∧ e.2.1 = b) ∨ (e.1 = b ∧ e.2.1 = a))
def qFd (pl : List qP) (a b : Nat) : Nat → Nat → Option Nat
  | 0, _ => none
  | m + 1, k => if qIs a b (pe pl k) = true then some k else qFd pl a b m (k + 1)
def qFnd (pl : List qP) (a b : Nat) : Option Nat := qFd pl a b pl.length 0
theorem qFd_some {pl : List qP} {a b j : Nat} : ∀ m k, qFd pl a b m k = some j → k ≤ j ∧ j < k + m ∧ qIs a b (pe pl j) = true := by
  intro m
  induction m with
  | zero => intro k h; cases h
  | succ m ih =>
    intro k h
    rw [qFd] at h
    by_cases h1 : qIs a b (pe pl k) = true
    · rw [if_pos h1] at h
      cases h
      exact ⟨Nat.le_refl _, by omega, h1⟩
    · rw [if_neg h1] at h
      have := ih _ h
      exact ⟨by omega, by omega, this.2.2⟩
def qLk (pl : List qP) (a b : Nat) : Bool := match qFnd pl a b with
  | none => false
  | some k => decide (¬ (pe pl k).2.2 < 3)
def qKn (t3 : Nat) (pl : List qP) (a b : Nat) : Bool := if a ≤ t3 ∧ b ≤ t3 then true else qLk pl a b
def qAsk (pl : List qP) (a b : Nat) : Int32 × List qP := match qFnd pl a b with
  | some k => ((pe pl k).2.2 + 1, pl.set k ((pe pl k).1, (pe pl k).2.1, (pe pl k).2.2 + 1))
  | none => if pl.length = 60 then (0, pl) else (0 + 1, pl ++ [(a, b, 0 + 1)])
def qLn (pl : List qP) : Nat → Nat → Int32 → Int32
  | 0, _, v => v
  | m + 1, k, v => qLn pl m (k + 1) (if (pe pl k).2.2 < 3 then v + 0 else v + 1)
def cd (a b : Nat) : Nat := if a < b then 100 * a + b else 100 * b + a
/-- small pairs -/
def Pv (pl : List qP) : Prop := pl.length ≤ 60 ∧ ∀ k, k < pl.length → (1 ≤ (pe pl k).1 ∧ (pe pl k).1 ≤ 99) ∧ 1 ≤ (pe pl k).2.1 ∧ (pe pl k).2.1 ≤ 99
theorem cd_inj {a b c d : Nat} (ha : a ≤ 99) (hb : b ≤ 99) (hc : c ≤ 99) (hd : d ≤ 99) : cd c d = cd a b ↔ (c = a ∧ d = b) ∨ (c = b ∧ d = a) := by
  unfold cd
  split <;> split <;> omega
theorem cd_lt {a b : Nat} (ha : a ≤ 99) (hb : b ≤ 99) : cd a b < 10000 := by
  unfold cd
  split <;> omega
theorem qFd_big {pl : List qP} {a b : Nat} (h : 99 < a ∨ 99 < b) (hp : Pv pl) : ∀ m k, k + m ≤ pl.length → qFd pl a b m k = none := by
  intro m
  induction m with
  | zero => intro k _; rfl
  | succ m ih =>
    intro k hk
    have := hp.2 k (by omega)
    rw [qFd, if_neg (by simp only [qIs, decide_eq_true_eq]; omega)]
    exact ih _ (by omega)
/-- what a pair's list begins with stays -/
def Px (p q : List qP) : Prop := p.length ≤ q.length ∧ ∀ k, k < p.length → (pe q k).1 = (pe p k).1 ∧ (pe q k).2.1 = (pe p k).2.1
theorem Px.rf {p : List qP} : Px p p := ⟨Nat.le_refl _, fun _ _ => ⟨rfl, rfl⟩⟩
theorem Px.trans {p q r : List qP} (h : Px p q) (k : Px q r) : Px p r :=
  ⟨Nat.le_trans h.1 k.1, fun i hi => ⟨(k.2 i (Nat.lt_of_lt_of_le hi h.1)).1.trans (h.2 i hi).1, (k.2 i (Nat.lt_of_lt_of_le hi h.1)).2.trans (h.2 i hi).2⟩⟩
theorem qAsk_x {pl : List qP} {a b : Nat} : Px pl (qAsk pl a b).2 := by
  unfold qAsk
  cases hf : qFnd pl a b with
  | some k =>
    have hk := (qFd_some _ _ hf).2.1
    refine ⟨by simp, fun j hj => ?_⟩
    simp only
    rw [pe_set (by omega)]
    by_cases e : j = k
    · subst e; simp
    · simp [e]
  | none =>
    simp only
    split
    · exact Px.rf
    · exact ⟨by simp, fun j hj => by simp only; rw [pe_lt hj]; exact ⟨rfl, rfl⟩⟩
theorem qAsk_v {pl : List qP} {a b : Nat} (hp : Pv pl) (ha : 1 ≤ a ∧ a ≤ 99) (hb : 1 ≤ b ∧ b ≤ 99) : Pv (qAsk pl a b).2 := by
  unfold qAsk
  cases hf : qFnd pl a b with
  | some k =>
    have hk := (qFd_some _ _ hf).2.1
    refine ⟨by simpa using hp.1, fun j hj => ?_⟩
    simp only [List.length_set] at hj
    simp only
    rw [pe_set (by omega)]
    by_cases e : j = k
    · subst e; simpa using hp.2 j hj
    · simpa [e] using hp.2 j hj
  | none =>
    simp only
    split
    · exact hp
    · rename_i h60
      have hl := hp.1
      refine ⟨by simp; omega, fun j hj => ?_⟩
      simp only [List.length_append, List.length_singleton] at hj
      by_cases e : j < pl.length
      · simp only; rw [pe_lt e]; exact hp.2 j e
      · have : j = pl.length := by omega
        subst this
        simp only; rw [pe_eq]
        exact ⟨ha, hb⟩
-- ===== the reference's =====
/-- a head in the reference -/
def MHd (s : hk_Ms) (h : Nat) (t : Nat → Nat) (pl : List qP) : Prop :=
  (∀ i, i < 5 → hm_A s 0 (5 * h + i) = nI (t i)) ∧ hm_A s 8 h = nI pl.length ∧ ∀ k, k < pl.length → hm_A s 9 (60 * h + k) = nI (cd (pe pl k).1 (pe pl k).2.1) ∧ hm_A s 10 (60 * h + k) = (pe pl k).2.2
section S2H
variable {s : hk_Ms} {h a b ab : Nat} {t : Nat → Nat} {pl : List qP}
theorem m_small (hab : ab < 2 ^ 31) (ha : ab / 10000 = a) (hb : ab % 10000 = b) : m_isSmall (nI ab) = if a ≤ 99 ∧ b ≤ 99 then 1 else 0 := by
  unfold m_isSmall
  rw [lm_4 hab, ld_4 hab, ha, hb, show (99 : Int32) = nI 99 from rfl]
  by_cases h1 : a ≤ 99
  · rw [if_neg (nI_nlt h1 (by decide))]
    by_cases h2 : b ≤ 99
    · rw [if_neg (nI_nlt h2 (by decide)), if_pos ⟨h1, h2⟩]
    · rw [if_pos (nI_lt (by omega) (by omega)), if_neg (fun q => h2 q.2)]
  · rw [if_pos (nI_lt (by omega) (by omega)), if_neg (fun q => h1 q.1)]
theorem m_asp (hab : ab < 2 ^ 31) (ha : ab / 10000 = a) (hb : ab % 10000 = b) : m_asPair (nI ab) = nI (cd a b) := by
  unfold m_asPair
  simp only [hz_nm]
  rw [lm_4 hab, ld_4 hab, ha, hb, show (100 : Int32) = nI 100 from rfl, pk_mul, pk_mul, nI_add, nI_add]
  unfold cd
  by_cases h1 : b ≤ a
  · rw [if_pos (nI_le h1 (by omega)), if_neg (by omega)]
  · rw [if_neg (nI_ge (by omega) (by omega)), if_pos (by omega)]
theorem i60 : (60 : Int32) * nI h + nI a = nI (60 * h + a) := by rw [show (60 : Int32) = nI 60 from rfl, pk_mul, nI_add]
theorem qm_pairAt_L (H : MHd s h t pl) (hv : Pv pl) (hh : h < 6) (hab : ab < 2 ^ 31) (ha : ab / 10000 = a) (hb : ab % 10000 = b) (ha9 : a ≤ 99) (hb9 : b ≤ 99) {e0 : Unit → Option Int32} :
    ∀ m f k, m < f → k + m = pl.length → m_pairAt_L2 (nI h) (nI ab) s e0 f (nI k) = match qFd pl a b m k with
      | some j => some (nI j)
      | none => e0 () := by
  have hl := hv.1
  intro m
  induction m with
  | zero =>
    intro f k hf hk
    obtain ⟨f, rfl⟩ : ∃ g, f = g + 1 := ⟨f - 1, by omega⟩
    show m_pairAt_L2b (nI h) (nI ab) s e0 _ _ = _
    simp only [m_pairAt_L2b, hml (show h < 6 by omega) (show 6 < 2 ^ 31 by decide), H.2.1, hz_ob, nI_le (show pl.length ≤ k by omega) (show k < 2 ^ 31 by omega), if_true, qFd]
  | succ m ih =>
    intro f k hf hk
    obtain ⟨f, rfl⟩ : ∃ g, f = g + 1 := ⟨f - 1, by omega⟩
    show m_pairAt_L2b (nI h) (nI ab) s e0 (m_pairAt_L2 (nI h) (nI ab) s e0 f) (nI k) = _
    have hk2 := hv.2 k (by omega)
    have c1 := cd_lt ha9 hb9
    have c2 := cd_lt hk2.1.2 hk2.2.2
    simp only [m_pairAt_L2b, hml (show h < 6 by omega) (show 6 < 2 ^ 31 by decide), H.2.1, hz_ob, nI_ge (show k < pl.length by omega) (show pl.length < 2 ^ 31 by omega), if_false, i60, hml (show 60 * h + k < 360 by omega) (show 360 < 2 ^ 31 by decide),
      (H.2.2 k (by omega)).1, m_asp hab ha hb, hz_nm, nI_1]
    rw [qFd]
    by_cases e : cd (pe pl k).1 (pe pl k).2.1 = cd a b
    · have e2 := (cd_inj ha9 hb9 hk2.1.2 hk2.2.2).mp e
      rw [if_pos (by rw [e]), if_pos (by simp only [qIs, decide_eq_true_eq]; exact e2)]
    · have e2 := fun q => e ((cd_inj ha9 hb9 hk2.1.2 hk2.2.2).mpr q)
      rw [if_neg (fun q => e ((nI_eq (by omega) (by omega)).mp q)), if_neg (by simp only [qIs, decide_eq_true_eq]; exact e2)]
      exact ih f (k + 1) (by omega) (by omega)
theorem qm_pairAt (H : MHd s h t pl) (hv : Pv pl) (hh : h < 6) (hab : ab < 2 ^ 31) (ha : ab / 10000 = a) (hb : ab % 10000 = b) (ha9 : a ≤ 99) (hb9 : b ≤ 99) :
    m_pairAt (nI h) (nI ab) s = some (match qFnd pl a b with
      | some j => nI j
      | none => -1) := by
  unfold m_pairAt
  rw [show (0 : Int32) = nI 0 from rfl, qm_pairAt_L H hv hh hab ha hb ha9 hb9 pl.length hk_F 0 (pw_F (by have := hv.1; omega)) (by omega)]
  show _ = some (match qFd pl a b pl.length 0 with
      | some j => nI j
      | none => -1)
  cases qFd pl a b pl.length 0 <;> rfl
theorem qm_known {t3 : Nat} (H : MHd s h t pl) (hv : Pv pl) (hh : h < 6) (h30 : hm_I s 30 = nI h) (h31 : hm_I s 31 = nI t3) (ht3 : t3 ≤ 99) (ha : a < 10000) (hb : b < 10000) :
    m_isKnown (nI a) (nI b) s = some (if qKn t3 pl a b = true then (1 : Int32) else 0) := by
  have hl := hv.1
  have e1 : (10000 : Int32) * nI a + nI b = nI (10000 * a + b) := by rw [show (10000 : Int32) = nI 10000 from rfl, pk_mul, nI_add]
  have hL : m_isLearnt (nI h) (nI (10000 * a + b)) s = some (if qLk pl a b = true then (1 : Int32) else 0) := by
    have da : (10000 * a + b) / 10000 = a := by omega
    have db : (10000 * a + b) % 10000 = b := by omega
    unfold m_isLearnt
    simp only [hz_nm, m_small (show 10000 * a + b < 2 ^ 31 by omega) da db]
    by_cases h1 : a ≤ 99 ∧ b ≤ 99
    · rw [if_pos h1]
      simp only [show ¬ (1 : Int32) = 0 by decide, if_false, qm_pairAt H hv hh (show 10000 * a + b < 2 ^ 31 by omega) da db h1.1 h1.2, hz_ob]
      cases hf : qFnd pl a b with
      | none =>
        simp only [qLk, hf]
        rfl
      | some k =>
        have hk := (qFd_some _ _ hf).2.1
        simp only [qLk, hf, nI_pos (show k < 2 ^ 31 by omega), if_false, i60, hml (show 60 * h + k < 360 by omega) (show 360 < 2 ^ 31 by decide), (H.2.2 k (by omega)).2, hz_ob]
        by_cases h3 : (pe pl k).2.2 < 3
        · simp only [h3, if_true, not_true_eq_false, decide_false, Bool.false_eq_true, if_false]
        · simp only [h3, if_false, not_false_eq_true, decide_true, if_true]
    · have : qFnd pl a b = none := qFd_big (by omega) hv _ _ (by omega)
      rw [if_neg h1]
      simp only [if_true, show (-1 : Int32) < 0 by decide, qLk, this]
      rfl
  have hb2 : ∀ x : Bool, (if (if x = true then (1 : Int32) else 0) = 0 then some (0 : Int32) else some 1) = some (if x = true then (1 : Int32) else 0) := by
    intro x; cases x <;> rfl
  simp only [m_isKnown, hz_nm, h30, h31, e1, hL, hz_ob, hb2]
  by_cases h1 : a ≤ t3
  · rw [if_neg (nI_nlt h1 (by omega))]
    by_cases h2 : b ≤ t3
    · rw [if_pos (nI_le h2 (by omega)), qKn, if_pos (show a ≤ t3 ∧ b ≤ t3 from ⟨h1, h2⟩)]; rfl
    · rw [if_neg (nI_ge (by omega) (by omega)), qKn, if_neg (show ¬ (a ≤ t3 ∧ b ≤ t3) from fun q => h2 q.2)]
  · rw [if_pos (nI_lt (by omega) (by omega)), qKn, if_neg (show ¬ (a ≤ t3 ∧ b ≤ t3) from fun q => h1 q.1)]
theorem qm_learnt_L (H : MHd s h t pl) (hl : pl.length ≤ 60) (hh : h < 6) {e0 : Int32 → Option Int32} :
    ∀ m f k v, m < f → k + m = pl.length → m_learntOf_L4 (nI h) s e0 f v (nI k) = e0 (qLn pl m k v) := by
  intro m
  induction m with
  | zero =>
    intro f k v hf hk
    obtain ⟨f, rfl⟩ : ∃ g, f = g + 1 := ⟨f - 1, by omega⟩
    show m_learntOf_L4b (nI h) s e0 _ _ _ = _
    simp only [m_learntOf_L4b, hml (show h < 6 by omega) (show 6 < 2 ^ 31 by decide), H.2.1, hz_ob, nI_le (show pl.length ≤ k by omega) (show k < 2 ^ 31 by omega), if_true, qLn]
  | succ m ih =>
    intro f k v hf hk
    obtain ⟨f, rfl⟩ : ∃ g, f = g + 1 := ⟨f - 1, by omega⟩
    show m_learntOf_L4b (nI h) s e0 (m_learntOf_L4 (nI h) s e0 f) v (nI k) = _
    simp only [m_learntOf_L4b, hml (show h < 6 by omega) (show 6 < 2 ^ 31 by decide), H.2.1, hz_ob, nI_ge (show k < pl.length by omega) (show pl.length < 2 ^ 31 by omega), if_false, i60, hml (show 60 * h + k < 360 by omega) (show 360 < 2 ^ 31 by decide),
      (H.2.2 k (by omega)).2, hz_nm, nI_1]
    rw [qLn]
    by_cases h3 : (pe pl k).2.2 < 3
    · rw [if_pos h3, if_pos h3]; exact ih f (k + 1) _ (by omega) (by omega)
    · rw [if_neg h3, if_neg h3]; exact ih f (k + 1) _ (by omega) (by omega)
theorem qm_learnt (H : MHd s h t pl) (hl : pl.length ≤ 60) (hh : h < 6) : m_learntOf (nI h) s = some (qLn pl pl.length 0 0) := by
  unfold m_learntOf
  rw [show (0 : Int32) = nI 0 from rfl, qm_learnt_L H hl hh pl.length hk_F 0 (nI 0) (pw_F (by omega)) (by omega)]
/-- what an ask of the head h can change in the reference -/
def FrK (h : Nat) (s s' : hk_Ms) : Prop := (∀ f, hm_I s' f = hm_I s f) ∧ (∀ f, hm_L s' f = hm_L s f) ∧ (∀ j i, hm_B s' j i = hm_B s j i) ∧ (∀ j i, j ≠ 8 → j ≠ 9 → j ≠ 10 → hm_A s' j i = hm_A s j i) ∧
  (∀ i, i ≠ h → hm_A s' 8 i = hm_A s 8 i) ∧ (∀ j i, (j = 9 ∨ j = 10) → (i < 60 * h ∨ 60 * h + 60 ≤ i) → hm_A s' j i = hm_A s j i)
theorem qm_ask (H : MHd s h t pl) (hv : Pv pl) (hh : h < 6) (hab : ab < 2 ^ 31) (ha : ab / 10000 = a) (hb : ab % 10000 = b) (ha9 : a ≤ 99) (hb9 : b ≤ 99) :
    ∃ s', m_askOf (nI h) (nI ab) s = some ((qAsk pl a b).1, s') ∧ MHd s' h t (qAsk pl a b).2 ∧ FrK h s s' := by
  have hl := hv.1
  have d6 : 6 < 2 ^ 31 := by decide
  have d360 : 360 < 2 ^ 31 := by decide
  cases hf : qFnd pl a b with
  | some k =>
    have hk := (qFd_some _ _ hf).2.1
    have hk60 : 60 * h + k < 360 := by omega
    refine ⟨hm_sA s 10 (60 * h + k) ((pe pl k).2.2 + 1), ?_, ?_, ?_⟩
    · simp only [m_askOf, hz_nm, m_small hab ha hb, if_pos (show a ≤ 99 ∧ b ≤ 99 from ⟨ha9, hb9⟩), show ¬ (1 : Int32) = 0 by decide, if_false, qm_pairAt H hv hh hab ha hb ha9 hb9, hf, hz_ob, nI_pos' (show k < 2 ^ 31 by omega), if_true, i60, hml hk60 d360, hmt hk60 d360,
        (H.2.2 k (by omega)).2, hmA_sA, and_self, qAsk]
    · obtain ⟨H1, H2, H3⟩ := H
      refine ⟨fun i hi => ?_, ?_, fun j hj => ?_⟩
      · rw [hmA_sA, if_neg (by omega)]; exact H1 i hi
      · rw [hmA_sA, if_neg (by omega)]
        simp only [qAsk, hf, List.length_set]; exact H2
      · simp only [qAsk, hf, List.length_set] at hj ⊢
        rw [pe_set (by omega), hmA_sA, hmA_sA, if_neg (by omega)]
        by_cases e : j = k
        · subst e
          simp only [if_true, and_self]
          exact ⟨(H3 j hj).1, trivial⟩
        · rw [if_neg e, if_neg (by omega)]; exact H3 j hj
    · refine ⟨fun _ => rfl, fun _ => rfl, fun _ _ => rfl, fun j i h1 h2 h3 => ?_, fun i hi => ?_, fun j i h1 h2 => ?_⟩
      · rw [hmA_sA, if_neg (by omega)]
      · rw [hmA_sA, if_neg (by omega)]
      · rw [hmA_sA, if_neg (by omega)]
  | none =>
    by_cases h60 : pl.length = 60
    · refine ⟨s, ?_, ?_, ⟨fun _ => rfl, fun _ => rfl, fun _ _ => rfl, fun _ _ _ _ _ => rfl, fun _ _ => rfl, fun _ _ _ _ => rfl⟩⟩
      · simp only [m_askOf, hz_nm, m_small hab ha hb, if_pos (show a ≤ 99 ∧ b ≤ 99 from ⟨ha9, hb9⟩), show ¬ (1 : Int32) = 0 by decide, if_false, qm_pairAt H hv hh hab ha hb ha9 hb9, hf, hz_ob, show ¬ (0 : Int32) ≤ -1 by decide,
          hml hh d6, H.2.1, h60, show nI 60 = (60 : Int32) from rfl, if_true, qAsk]
      · simp only [qAsk, hf, h60, if_true]; exact H
    · have hk60 : 60 * h + pl.length < 360 := by omega
      refine ⟨hm_sA (hm_sA (hm_sA (hm_sA s 9 (60 * h + pl.length) (nI (cd a b))) 10 (60 * h + pl.length) 0) 8 h (nI (pl.length + 1))) 10 (60 * h + pl.length) (0 + 1), ?_, ?_, ?_⟩
      · have n60 : ¬ nI pl.length = (60 : Int32) := fun q => h60 ((nI_eq (by omega) (by decide)).mp q)
        simp only [m_askOf, hz_nm, m_small hab ha hb, if_pos (show a ≤ 99 ∧ b ≤ 99 from ⟨ha9, hb9⟩), show ¬ (1 : Int32) = 0 by decide, if_false, qm_pairAt H hv hh hab ha hb ha9 hb9, hf, hz_ob, show ¬ (0 : Int32) ≤ -1 by decide,
          hml hh d6, hmt hh d6, H.2.1, n60, i60, hml hk60 d360, hmt hk60 d360, m_asp hab ha hb, hmA_sA, Nat.reduceEqDiff, false_and, if_false, and_self, if_true, nI_1, qAsk, h60]
      · obtain ⟨H1, H2, H3⟩ := H
        simp only [qAsk, hf, h60, if_false]
        refine ⟨fun i hi => ?_, ?_, fun j hj => ?_⟩
        · simp only [hmA_sA, show ¬ (0 = 10) by decide, show ¬ (0 = 9) by decide, show ¬ (0 = 8) by decide, false_and, if_false]; exact H1 i hi
        · simp only [hmA_sA, show ¬ (8 = 10) by decide, false_and, if_false, and_self, if_true, List.length_append, List.length_singleton]
        · simp only [List.length_append, List.length_singleton] at hj
          by_cases e : j < pl.length
          · rw [pe_lt e]
            have e2 : ¬ 60 * h + j = 60 * h + pl.length := by omega
            simp only [hmA_sA, e2, and_false, if_false, show ¬ (9 = 8) by decide, show ¬ (10 = 8) by decide, false_and]
            exact H3 j e
          · have : j = pl.length := by omega
            subst this
            rw [pe_eq]
            simp only [hmA_sA, and_self, if_true, show ¬ (9 = 10) by decide, show ¬ (9 = 8) by decide, false_and, if_false]
      · refine ⟨fun _ => rfl, fun _ => rfl, fun _ _ => rfl, fun j i h1 h2 h3 => ?_, fun i hi => ?_, fun j i h1 h2 => ?_⟩
        · simp only [hmA_sA, h1, h2, h3, false_and, if_false]
        · simp only [hmA_sA, show ¬ (8 = 10) by decide, show ¬ (8 = 9) by decide, hi, and_false, false_and, if_false]
        · have e2 : ¬ i = 60 * h + pl.length := by omega
          have e3 : ¬ j = 8 := by omega
          simp only [hmA_sA, e2, e3, and_false, false_and, if_false]
end S2H
