set_option maxRecDepth 100000
/-! ===== STAGE 2: the API: act ===== -/
def TrN (x N : Nat) (st : hk_St) (s : hk_Ms) : Prop := hk_fI st 18 x = nI N ∧ hm_I s 48 = nI N ∧ ∀ i, i < 24 → i < N → hk_aI st (x + 19) i = hm_A s 25 i
/-- a way w of the kind kd, number b -/
def Aw (x w b kd : Nat) (st : hk_St) : Prop := hk_k st w = some (15 + kd, 0) ∧ hk_fI st 1500 w = nI b ∧ hk_fR st 1501 w = some x ∧ (kd = 1 ∨ kd = 5 → hk_fR st 1600 w = some x) ∧ (kd = 2 ∨ kd = 3 → hk_fR st 1700 w = some x) ∧ (kd = 3 → hk_fR st 1800 w = some x) ∧ (kd = 4 → hk_fR st 1900 w = some x) ∧
  (kd = 5 → hk_fR st 2000 w = some x) ∧ (kd = 6 ∨ kd = 7 → hk_fR st 2100 w = some x) ∧ (kd = 7 → hk_fR st 2200 w = some x)
def AC (x c n : Nat) (B : Nat → Nat) (H dn un N1 N2 M N3 w b kd N : Nat) (st : hk_St) (s : hk_Ms) : Prop := RR x c n B H dn un N1 N2 M N3 st s ∧ TrN x N st s ∧ Aw x w b kd st ∧ hm_I s 49 = nI kd ∧ hm_I s 50 = nI b
def Lk (x : Nat) (P : Nat → hk_St → hk_Ms → Prop) (k : Nat) (fx : hk_St → Option (Int32 × hk_St)) (fm : hk_Ms → Option (Int32 × hk_Ms)) : Prop :=
  ∀ N st s, N + k ≤ 1000 → P N st s → ∃ r st' s' N', fx st = some (r, st') ∧ fm s = some (r, s') ∧ N' ≤ N + k ∧ P N' st' s' ∧ Mk x st st'
theorem bfA {l : List Nat} {st : hk_St} {w c : Nat} (h : hk_k st w = some (c, 0)) (hl : l.contains c = true) : hk_bf l st w = true := by
  unfold hk_bf
  rw [h]
  exact hl
theorem bfN {l : List Nat} {st : hk_St} {w c : Nat} (h : hk_k st w = some (c, 0)) (hl : l.contains c = false) : ¬ hk_bf l st w = true := by
  unfold hk_bf
  rw [h]
  simp only [hl]
  decide
section S2AT
variable {x c n H dn un N1 N2 M N3 w b kd : Nat} {B : Nat → Nat} {st st' : hk_St} {s s' s0 : hk_Ms}
/-- the trace changes -/
theorem RR.trc (R : RR x c n B H dn un N1 N2 M N3 st s) {N : Nat} (F : Fr (fun f a => f = 18 ∧ a = x) no2 no2 (fun a => a = x + 19) no1 no1 st st') (G : FrM (fun f => f = 48 ∨ mcI f = false) (fun j _ => j = 25 ∨ mcA j = false) no1 s s') (hw : Wk st') (hl : Li st') (e1 : hk_nc st' = hk_nc st) (e2 : hk_ns st' = hk_ns st) (hN : N ≤ 1000) (T : TrN x N st' s') :
    RR x c n B H dn un N1 N2 M N3 st' s' ∧ Mk x st st' := by
  obtain ⟨K, hT, hH, hG, hL, hS, hO, hP, hB, hTr, hV, hc1, hc2⟩ := R
  exact ⟨⟨(K.fr F (by first | (intros; exact id) | (intros; decide) | (intros; dsimp only; decide) | (intros; omega) | (intros; dsimp only at *; omega) | (intros; dsimp only; omega) | (intros; simp only [nodeI, nodeR, no1, no2] at *; omega) | (intros; simp only [nodeI, nodeR, no1, no2]; omega) | (intros; constructor <;> first | exact id | omega | (dsimp only at *; omega) | (dsimp only; omega)) | (intros; simp_all [no1, no2, nodeI, nodeR]; done)) hw hl), (hT.fr F G K (by first | (intros; exact id) | (intros; decide) | (intros; dsimp only; decide) | (intros; omega) | (intros; dsimp only at *; omega) | (intros; dsimp only; omega) | (intros; simp only [nodeI, nodeR, no1, no2] at *; omega) | (intros; simp only [nodeI, nodeR, no1, no2]; omega) | (intros; constructor <;> first | exact id | omega | (dsimp only at *; omega) | (dsimp only; omega)) | (intros; simp_all [no1, no2, nodeI, nodeR]; done)) (by first | (intros; exact id) | (intros; decide) | (intros; dsimp only; decide) | (intros; omega) | (intros; dsimp only at *; omega) | (intros; dsimp only; omega) | (intros; simp only [nodeI, nodeR, no1, no2] at *; omega) | (intros; simp only [nodeI, nodeR, no1, no2]; omega) | (intros; constructor <;> first | exact id | omega | (dsimp only at *; omega) | (dsimp only; omega)) | (intros; simp_all [no1, no2, nodeI, nodeR]; done)) (by first | (intros; exact id) | (intros; decide) | (intros; dsimp only; decide) | (intros; omega) | (intros; dsimp only at *; omega) | (intros; dsimp only; omega) | (intros; simp only [nodeI, nodeR, no1, no2] at *; omega) | (intros; simp only [nodeI, nodeR, no1, no2]; omega) | (intros; constructor <;> first | exact id | omega | (dsimp only at *; omega) | (dsimp only; omega)) | (intros; simp_all [no1, no2, nodeI, nodeR]; done)) (by first | (intros; exact id) | (intros; decide) | (intros; dsimp only; decide) | (intros; omega) | (intros; dsimp only at *; omega) | (intros; dsimp only; omega) | (intros; simp only [nodeI, nodeR, no1, no2] at *; omega) | (intros; simp only [nodeI, nodeR, no1, no2]; omega) | (intros; constructor <;> first | exact id | omega | (dsimp only at *; omega) | (dsimp only; omega)) | (intros; simp_all [no1, no2, nodeI, nodeR]; done)) (by first | (intros; exact id) | (intros; decide) | (intros; dsimp only; decide) | (intros; omega) | (intros; dsimp only at *; omega) | (intros; dsimp only; omega) | (intros; simp only [nodeI, nodeR, no1, no2] at *; omega) | (intros; simp only [nodeI, nodeR, no1, no2]; omega) | (intros; constructor <;> first | exact id | omega | (dsimp only at *; omega) | (dsimp only; omega)) | (intros; simp_all [no1, no2, nodeI, nodeR]; done))), (hH.fr F G K (by first | (intros; exact id) | (intros; decide) | (intros; dsimp only; decide) | (intros; omega) | (intros; dsimp only at *; omega) | (intros; dsimp only; omega) | (intros; simp only [nodeI, nodeR, no1, no2] at *; omega) | (intros; simp only [nodeI, nodeR, no1, no2]; omega) | (intros; constructor <;> first | exact id | omega | (dsimp only at *; omega) | (dsimp only; omega)) | (intros; simp_all [no1, no2, nodeI, nodeR]; done)) (by first | (intros; exact id) | (intros; decide) | (intros; dsimp only; decide) | (intros; omega) | (intros; dsimp only at *; omega) | (intros; dsimp only; omega) | (intros; simp only [nodeI, nodeR, no1, no2] at *; omega) | (intros; simp only [nodeI, nodeR, no1, no2]; omega) | (intros; constructor <;> first | exact id | omega | (dsimp only at *; omega) | (dsimp only; omega)) | (intros; simp_all [no1, no2, nodeI, nodeR]; done)) (by first | (intros; exact id) | (intros; decide) | (intros; dsimp only; decide) | (intros; omega) | (intros; dsimp only at *; omega) | (intros; dsimp only; omega) | (intros; simp only [nodeI, nodeR, no1, no2] at *; omega) | (intros; simp only [nodeI, nodeR, no1, no2]; omega) | (intros; constructor <;> first | exact id | omega | (dsimp only at *; omega) | (dsimp only; omega)) | (intros; simp_all [no1, no2, nodeI, nodeR]; done)) (by first | (intros; exact id) | (intros; decide) | (intros; dsimp only; decide) | (intros; omega) | (intros; dsimp only at *; omega) | (intros; dsimp only; omega) | (intros; simp only [nodeI, nodeR, no1, no2] at *; omega) | (intros; simp only [nodeI, nodeR, no1, no2]; omega) | (intros; constructor <;> first | exact id | omega | (dsimp only at *; omega) | (dsimp only; omega)) | (intros; simp_all [no1, no2, nodeI, nodeR]; done)) (by first | (intros; exact id) | (intros; decide) | (intros; dsimp only; decide) | (intros; omega) | (intros; dsimp only at *; omega) | (intros; dsimp only; omega) | (intros; simp only [nodeI, nodeR, no1, no2] at *; omega) | (intros; simp only [nodeI, nodeR, no1, no2]; omega) | (intros; constructor <;> first | exact id | omega | (dsimp only at *; omega) | (dsimp only; omega)) | (intros; simp_all [no1, no2, nodeI, nodeR]; done)) (by first | (intros; exact id) | (intros; decide) | (intros; dsimp only; decide) | (intros; omega) | (intros; dsimp only at *; omega) | (intros; dsimp only; omega) | (intros; simp only [nodeI, nodeR, no1, no2] at *; omega) | (intros; simp only [nodeI, nodeR, no1, no2]; omega) | (intros; constructor <;> first | exact id | omega | (dsimp only at *; omega) | (dsimp only; omega)) | (intros; simp_all [no1, no2, nodeI, nodeR]; done)) (by first | (intros; exact id) | (intros; decide) | (intros; dsimp only; decide) | (intros; omega) | (intros; dsimp only at *; omega) | (intros; dsimp only; omega) | (intros; simp only [nodeI, nodeR, no1, no2] at *; omega) | (intros; simp only [nodeI, nodeR, no1, no2]; omega) | (intros; constructor <;> first | exact id | omega | (dsimp only at *; omega) | (dsimp only; omega)) | (intros; simp_all [no1, no2, nodeI, nodeR]; done)) (by first | (intros; exact id) | (intros; decide) | (intros; dsimp only; decide) | (intros; omega) | (intros; dsimp only at *; omega) | (intros; dsimp only; omega) | (intros; simp only [nodeI, nodeR, no1, no2] at *; omega) | (intros; simp only [nodeI, nodeR, no1, no2]; omega) | (intros; constructor <;> first | exact id | omega | (dsimp only at *; omega) | (dsimp only; omega)) | (intros; simp_all [no1, no2, nodeI, nodeR]; done))), (hG.fr F G K (by first | (intros; exact id) | (intros; decide) | (intros; dsimp only; decide) | (intros; omega) | (intros; dsimp only at *; omega) | (intros; dsimp only; omega) | (intros; simp only [nodeI, nodeR, no1, no2] at *; omega) | (intros; simp only [nodeI, nodeR, no1, no2]; omega) | (intros; constructor <;> first | exact id | omega | (dsimp only at *; omega) | (dsimp only; omega)) | (intros; simp_all [no1, no2, nodeI, nodeR]; done)) (by first | (intros; exact id) | (intros; decide) | (intros; dsimp only; decide) | (intros; omega) | (intros; dsimp only at *; omega) | (intros; dsimp only; omega) | (intros; simp only [nodeI, nodeR, no1, no2] at *; omega) | (intros; simp only [nodeI, nodeR, no1, no2]; omega) | (intros; constructor <;> first | exact id | omega | (dsimp only at *; omega) | (dsimp only; omega)) | (intros; simp_all [no1, no2, nodeI, nodeR]; done)) (by first | (intros; exact id) | (intros; decide) | (intros; dsimp only; decide) | (intros; omega) | (intros; dsimp only at *; omega) | (intros; dsimp only; omega) | (intros; simp only [nodeI, nodeR, no1, no2] at *; omega) | (intros; simp only [nodeI, nodeR, no1, no2]; omega) | (intros; constructor <;> first | exact id | omega | (dsimp only at *; omega) | (dsimp only; omega)) | (intros; simp_all [no1, no2, nodeI, nodeR]; done)) (by first | (intros; exact id) | (intros; decide) | (intros; dsimp only; decide) | (intros; omega) | (intros; dsimp only at *; omega) | (intros; dsimp only; omega) | (intros; simp only [nodeI, nodeR, no1, no2] at *; omega) | (intros; simp only [nodeI, nodeR, no1, no2]; omega) | (intros; constructor <;> first | exact id | omega | (dsimp only at *; omega) | (dsimp only; omega)) | (intros; simp_all [no1, no2, nodeI, nodeR]; done)) (by first | (intros; exact id) | (intros; decide) | (intros; dsimp only; decide) | (intros; omega) | (intros; dsimp only at *; omega) | (intros; dsimp only; omega) | (intros; simp only [nodeI, nodeR, no1, no2] at *; omega) | (intros; simp only [nodeI, nodeR, no1, no2]; omega) | (intros; constructor <;> first | exact id | omega | (dsimp only at *; omega) | (dsimp only; omega)) | (intros; simp_all [no1, no2, nodeI, nodeR]; done)) (by first | (intros; exact id) | (intros; decide) | (intros; dsimp only; decide) | (intros; omega) | (intros; dsimp only at *; omega) | (intros; dsimp only; omega) | (intros; simp only [nodeI, nodeR, no1, no2] at *; omega) | (intros; simp only [nodeI, nodeR, no1, no2]; omega) | (intros; constructor <;> first | exact id | omega | (dsimp only at *; omega) | (dsimp only; omega)) | (intros; simp_all [no1, no2, nodeI, nodeR]; done))), (hL.fr F G K (by first | (intros; exact id) | (intros; decide) | (intros; dsimp only; decide) | (intros; omega) | (intros; dsimp only at *; omega) | (intros; dsimp only; omega) | (intros; simp only [nodeI, nodeR, no1, no2] at *; omega) | (intros; simp only [nodeI, nodeR, no1, no2]; omega) | (intros; constructor <;> first | exact id | omega | (dsimp only at *; omega) | (dsimp only; omega)) | (intros; simp_all [no1, no2, nodeI, nodeR]; done)) (by first | (intros; exact id) | (intros; decide) | (intros; dsimp only; decide) | (intros; omega) | (intros; dsimp only at *; omega) | (intros; dsimp only; omega) | (intros; simp only [nodeI, nodeR, no1, no2] at *; omega) | (intros; simp only [nodeI, nodeR, no1, no2]; omega) | (intros; constructor <;> first | exact id | omega | (dsimp only at *; omega) | (dsimp only; omega)) | (intros; simp_all [no1, no2, nodeI, nodeR]; done)) (by first | (intros; exact id) | (intros; decide) | (intros; dsimp only; decide) | (intros; omega) | (intros; dsimp only at *; omega) | (intros; dsimp only; omega) | (intros; simp only [nodeI, nodeR, no1, no2] at *; omega) | (intros; simp only [nodeI, nodeR, no1, no2]; omega) | (intros; constructor <;> first | exact id | omega | (dsimp only at *; omega) | (dsimp only; omega)) | (intros; simp_all [no1, no2, nodeI, nodeR]; done)) (by first | (intros; exact id) | (intros; decide) | (intros; dsimp only; decide) | (intros; omega) | (intros; dsimp only at *; omega) | (intros; dsimp only; omega) | (intros; simp only [nodeI, nodeR, no1, no2] at *; omega) | (intros; simp only [nodeI, nodeR, no1, no2]; omega) | (intros; constructor <;> first | exact id | omega | (dsimp only at *; omega) | (dsimp only; omega)) | (intros; simp_all [no1, no2, nodeI, nodeR]; done)) (by first | (intros; exact id) | (intros; decide) | (intros; dsimp only; decide) | (intros; omega) | (intros; dsimp only at *; omega) | (intros; dsimp only; omega) | (intros; simp only [nodeI, nodeR, no1, no2] at *; omega) | (intros; simp only [nodeI, nodeR, no1, no2]; omega) | (intros; constructor <;> first | exact id | omega | (dsimp only at *; omega) | (dsimp only; omega)) | (intros; simp_all [no1, no2, nodeI, nodeR]; done))), (hS.fr F G K (by first | (intros; exact id) | (intros; decide) | (intros; dsimp only; decide) | (intros; omega) | (intros; dsimp only at *; omega) | (intros; dsimp only; omega) | (intros; simp only [nodeI, nodeR, no1, no2] at *; omega) | (intros; simp only [nodeI, nodeR, no1, no2]; omega) | (intros; constructor <;> first | exact id | omega | (dsimp only at *; omega) | (dsimp only; omega)) | (intros; simp_all [no1, no2, nodeI, nodeR]; done)) (by first | (intros; exact id) | (intros; decide) | (intros; dsimp only; decide) | (intros; omega) | (intros; dsimp only at *; omega) | (intros; dsimp only; omega) | (intros; simp only [nodeI, nodeR, no1, no2] at *; omega) | (intros; simp only [nodeI, nodeR, no1, no2]; omega) | (intros; constructor <;> first | exact id | omega | (dsimp only at *; omega) | (dsimp only; omega)) | (intros; simp_all [no1, no2, nodeI, nodeR]; done)) (by first | (intros; exact id) | (intros; decide) | (intros; dsimp only; decide) | (intros; omega) | (intros; dsimp only at *; omega) | (intros; dsimp only; omega) | (intros; simp only [nodeI, nodeR, no1, no2] at *; omega) | (intros; simp only [nodeI, nodeR, no1, no2]; omega) | (intros; constructor <;> first | exact id | omega | (dsimp only at *; omega) | (dsimp only; omega)) | (intros; simp_all [no1, no2, nodeI, nodeR]; done)) (by first | (intros; exact id) | (intros; decide) | (intros; dsimp only; decide) | (intros; omega) | (intros; dsimp only at *; omega) | (intros; dsimp only; omega) | (intros; simp only [nodeI, nodeR, no1, no2] at *; omega) | (intros; simp only [nodeI, nodeR, no1, no2]; omega) | (intros; constructor <;> first | exact id | omega | (dsimp only at *; omega) | (dsimp only; omega)) | (intros; simp_all [no1, no2, nodeI, nodeR]; done)) (by first | (intros; exact id) | (intros; decide) | (intros; dsimp only; decide) | (intros; omega) | (intros; dsimp only at *; omega) | (intros; dsimp only; omega) | (intros; simp only [nodeI, nodeR, no1, no2] at *; omega) | (intros; simp only [nodeI, nodeR, no1, no2]; omega) | (intros; constructor <;> first | exact id | omega | (dsimp only at *; omega) | (dsimp only; omega)) | (intros; simp_all [no1, no2, nodeI, nodeR]; done))), (hO.fr F G K (by first | (intros; exact id) | (intros; decide) | (intros; dsimp only; decide) | (intros; omega) | (intros; dsimp only at *; omega) | (intros; dsimp only; omega) | (intros; simp only [nodeI, nodeR, no1, no2] at *; omega) | (intros; simp only [nodeI, nodeR, no1, no2]; omega) | (intros; constructor <;> first | exact id | omega | (dsimp only at *; omega) | (dsimp only; omega)) | (intros; simp_all [no1, no2, nodeI, nodeR]; done)) (by first | (intros; exact id) | (intros; decide) | (intros; dsimp only; decide) | (intros; omega) | (intros; dsimp only at *; omega) | (intros; dsimp only; omega) | (intros; simp only [nodeI, nodeR, no1, no2] at *; omega) | (intros; simp only [nodeI, nodeR, no1, no2]; omega) | (intros; constructor <;> first | exact id | omega | (dsimp only at *; omega) | (dsimp only; omega)) | (intros; simp_all [no1, no2, nodeI, nodeR]; done)) (by first | (intros; exact id) | (intros; decide) | (intros; dsimp only; decide) | (intros; omega) | (intros; dsimp only at *; omega) | (intros; dsimp only; omega) | (intros; simp only [nodeI, nodeR, no1, no2] at *; omega) | (intros; simp only [nodeI, nodeR, no1, no2]; omega) | (intros; constructor <;> first | exact id | omega | (dsimp only at *; omega) | (dsimp only; omega)) | (intros; simp_all [no1, no2, nodeI, nodeR]; done)) (by first | (intros; exact id) | (intros; decide) | (intros; dsimp only; decide) | (intros; omega) | (intros; dsimp only at *; omega) | (intros; dsimp only; omega) | (intros; simp only [nodeI, nodeR, no1, no2] at *; omega) | (intros; simp only [nodeI, nodeR, no1, no2]; omega) | (intros; constructor <;> first | exact id | omega | (dsimp only at *; omega) | (dsimp only; omega)) | (intros; simp_all [no1, no2, nodeI, nodeR]; done))), (hP.fr F K (by first | (intros; exact id) | (intros; decide) | (intros; dsimp only; decide) | (intros; omega) | (intros; dsimp only at *; omega) | (intros; dsimp only; omega) | (intros; simp only [nodeI, nodeR, no1, no2] at *; omega) | (intros; simp only [nodeI, nodeR, no1, no2]; omega) | (intros; constructor <;> first | exact id | omega | (dsimp only at *; omega) | (dsimp only; omega)) | (intros; simp_all [no1, no2, nodeI, nodeR]; done)) (by first | (intros; exact id) | (intros; decide) | (intros; dsimp only; decide) | (intros; omega) | (intros; dsimp only at *; omega) | (intros; dsimp only; omega) | (intros; simp only [nodeI, nodeR, no1, no2] at *; omega) | (intros; simp only [nodeI, nodeR, no1, no2]; omega) | (intros; constructor <;> first | exact id | omega | (dsimp only at *; omega) | (dsimp only; omega)) | (intros; simp_all [no1, no2, nodeI, nodeR]; done)) (by first | (intros; exact id) | (intros; decide) | (intros; dsimp only; decide) | (intros; omega) | (intros; dsimp only at *; omega) | (intros; dsimp only; omega) | (intros; simp only [nodeI, nodeR, no1, no2] at *; omega) | (intros; simp only [nodeI, nodeR, no1, no2]; omega) | (intros; constructor <;> first | exact id | omega | (dsimp only at *; omega) | (dsimp only; omega)) | (intros; simp_all [no1, no2, nodeI, nodeR]; done)) (by first | (intros; exact id) | (intros; decide) | (intros; dsimp only; decide) | (intros; omega) | (intros; dsimp only at *; omega) | (intros; dsimp only; omega) | (intros; simp only [nodeI, nodeR, no1, no2] at *; omega) | (intros; simp only [nodeI, nodeR, no1, no2]; omega) | (intros; constructor <;> first | exact id | omega | (dsimp only at *; omega) | (dsimp only; omega)) | (intros; simp_all [no1, no2, nodeI, nodeR]; done)) (by first | (intros; exact id) | (intros; decide) | (intros; dsimp only; decide) | (intros; omega) | (intros; dsimp only at *; omega) | (intros; dsimp only; omega) | (intros; simp only [nodeI, nodeR, no1, no2] at *; omega) | (intros; simp only [nodeI, nodeR, no1, no2]; omega) | (intros; constructor <;> first | exact id | omega | (dsimp only at *; omega) | (dsimp only; omega)) | (intros; simp_all [no1, no2, nodeI, nodeR]; done))), (hB.fr F G K (by first | (intros; exact id) | (intros; decide) | (intros; dsimp only; decide) | (intros; omega) | (intros; dsimp only at *; omega) | (intros; dsimp only; omega) | (intros; simp only [nodeI, nodeR, no1, no2] at *; omega) | (intros; simp only [nodeI, nodeR, no1, no2]; omega) | (intros; constructor <;> first | exact id | omega | (dsimp only at *; omega) | (dsimp only; omega)) | (intros; simp_all [no1, no2, nodeI, nodeR]; done)) (by first | (intros; exact id) | (intros; decide) | (intros; dsimp only; decide) | (intros; omega) | (intros; dsimp only at *; omega) | (intros; dsimp only; omega) | (intros; simp only [nodeI, nodeR, no1, no2] at *; omega) | (intros; simp only [nodeI, nodeR, no1, no2]; omega) | (intros; constructor <;> first | exact id | omega | (dsimp only at *; omega) | (dsimp only; omega)) | (intros; simp_all [no1, no2, nodeI, nodeR]; done)) (by first | (intros; exact id) | (intros; decide) | (intros; dsimp only; decide) | (intros; omega) | (intros; dsimp only at *; omega) | (intros; dsimp only; omega) | (intros; simp only [nodeI, nodeR, no1, no2] at *; omega) | (intros; simp only [nodeI, nodeR, no1, no2]; omega) | (intros; constructor <;> first | exact id | omega | (dsimp only at *; omega) | (dsimp only; omega)) | (intros; simp_all [no1, no2, nodeI, nodeR]; done)) (by first | (intros; exact id) | (intros; decide) | (intros; dsimp only; decide) | (intros; omega) | (intros; dsimp only at *; omega) | (intros; dsimp only; omega) | (intros; simp only [nodeI, nodeR, no1, no2] at *; omega) | (intros; simp only [nodeI, nodeR, no1, no2]; omega) | (intros; constructor <;> first | exact id | omega | (dsimp only at *; omega) | (dsimp only; omega)) | (intros; simp_all [no1, no2, nodeI, nodeR]; done)) (by first | (intros; exact id) | (intros; decide) | (intros; dsimp only; decide) | (intros; omega) | (intros; dsimp only at *; omega) | (intros; dsimp only; omega) | (intros; simp only [nodeI, nodeR, no1, no2] at *; omega) | (intros; simp only [nodeI, nodeR, no1, no2]; omega) | (intros; constructor <;> first | exact id | omega | (dsimp only at *; omega) | (dsimp only; omega)) | (intros; simp_all [no1, no2, nodeI, nodeR]; done)) (by first | (intros; exact id) | (intros; decide) | (intros; dsimp only; decide) | (intros; omega) | (intros; dsimp only at *; omega) | (intros; dsimp only; omega) | (intros; simp only [nodeI, nodeR, no1, no2] at *; omega) | (intros; simp only [nodeI, nodeR, no1, no2]; omega) | (intros; constructor <;> first | exact id | omega | (dsimp only at *; omega) | (dsimp only; omega)) | (intros; simp_all [no1, no2, nodeI, nodeR]; done))), ⟨N, hN, T⟩, (hV.fr F G K (by first | (intros; exact id) | (intros; decide) | (intros; dsimp only; decide) | (intros; omega) | (intros; dsimp only at *; omega) | (intros; dsimp only; omega) | (intros; simp only [nodeI, nodeR, no1, no2] at *; omega) | (intros; simp only [nodeI, nodeR, no1, no2]; omega) | (intros; constructor <;> first | exact id | omega | (dsimp only at *; omega) | (dsimp only; omega)) | (intros; simp_all [no1, no2, nodeI, nodeR]; done)) (by first | (intros; exact id) | (intros; decide) | (intros; dsimp only; decide) | (intros; omega) | (intros; dsimp only at *; omega) | (intros; dsimp only; omega) | (intros; simp only [nodeI, nodeR, no1, no2] at *; omega) | (intros; simp only [nodeI, nodeR, no1, no2]; omega) | (intros; constructor <;> first | exact id | omega | (dsimp only at *; omega) | (dsimp only; omega)) | (intros; simp_all [no1, no2, nodeI, nodeR]; done)) (by first | (intros; exact id) | (intros; decide) | (intros; dsimp only; decide) | (intros; omega) | (intros; dsimp only at *; omega) | (intros; dsimp only; omega) | (intros; simp only [nodeI, nodeR, no1, no2] at *; omega) | (intros; simp only [nodeI, nodeR, no1, no2]; omega) | (intros; constructor <;> first | exact id | omega | (dsimp only at *; omega) | (dsimp only; omega)) | (intros; simp_all [no1, no2, nodeI, nodeR]; done)) (by first | (intros; exact id) | (intros; decide) | (intros; dsimp only; decide) | (intros; omega) | (intros; dsimp only at *; omega) | (intros; dsimp only; omega) | (intros; simp only [nodeI, nodeR, no1, no2] at *; omega) | (intros; simp only [nodeI, nodeR, no1, no2]; omega) | (intros; constructor <;> first | exact id | omega | (dsimp only at *; omega) | (dsimp only; omega)) | (intros; simp_all [no1, no2, nodeI, nodeR]; done)) (by first | (intros; exact id) | (intros; decide) | (intros; dsimp only; decide) | (intros; omega) | (intros; dsimp only at *; omega) | (intros; dsimp only; omega) | (intros; simp only [nodeI, nodeR, no1, no2] at *; omega) | (intros; simp only [nodeI, nodeR, no1, no2]; omega) | (intros; constructor <;> first | exact id | omega | (dsimp only at *; omega) | (dsimp only; omega)) | (intros; simp_all [no1, no2, nodeI, nodeR]; done)) (by first | (intros; exact id) | (intros; decide) | (intros; dsimp only; decide) | (intros; omega) | (intros; dsimp only at *; omega) | (intros; dsimp only; omega) | (intros; simp only [nodeI, nodeR, no1, no2] at *; omega) | (intros; simp only [nodeI, nodeR, no1, no2]; omega) | (intros; constructor <;> first | exact id | omega | (dsimp only at *; omega) | (dsimp only; omega)) | (intros; simp_all [no1, no2, nodeI, nodeR]; done))), by omega, by omega⟩, F.mk2 K (by first | (intros; exact id) | (intros; decide) | (intros; dsimp only; decide) | (intros; omega) | (intros; dsimp only at *; omega) | (intros; dsimp only; omega) | (intros; simp only [nodeI, nodeR, no1, no2] at *; omega) | (intros; simp only [nodeI, nodeR, no1, no2]; omega) | (intros; constructor <;> first | exact id | omega | (dsimp only at *; omega) | (dsimp only; omega)) | (intros; simp_all [no1, no2, nodeI, nodeR]; done)) (by first | (intros; exact id) | (intros; decide) | (intros; dsimp only; decide) | (intros; omega) | (intros; dsimp only at *; omega) | (intros; dsimp only; omega) | (intros; simp only [nodeI, nodeR, no1, no2] at *; omega) | (intros; simp only [nodeI, nodeR, no1, no2]; omega) | (intros; constructor <;> first | exact id | omega | (dsimp only at *; omega) | (dsimp only; omega)) | (intros; simp_all [no1, no2, nodeI, nodeR]; done)) (by first | (intros; exact id) | (intros; decide) | (intros; dsimp only; decide) | (intros; omega) | (intros; dsimp only at *; omega) | (intros; dsimp only; omega) | (intros; simp only [nodeI, nodeR, no1, no2] at *; omega) | (intros; simp only [nodeI, nodeR, no1, no2]; omega) | (intros; constructor <;> first | exact id | omega | (dsimp only at *; omega) | (dsimp only; omega)) | (intros; simp_all [no1, no2, nodeI, nodeR]; done)) (by first | (intros; exact id) | (intros; decide) | (intros; dsimp only; decide) | (intros; omega) | (intros; dsimp only at *; omega) | (intros; dsimp only; omega) | (intros; simp only [nodeI, nodeR, no1, no2] at *; omega) | (intros; simp only [nodeI, nodeR, no1, no2]; omega) | (intros; constructor <;> first | exact id | omega | (dsimp only at *; omega) | (dsimp only; omega)) | (intros; simp_all [no1, no2, nodeI, nodeR]; done))⟩
theorem ran_K {v : Int32} {N : Nat} (hv : v.toInt8.toInt32 = v) (hN : N + 1 ≤ 1000) (A : AC x c n B H dn un N1 N2 M N3 w b kd N st s) :
    ∃ st' s', x_ran x v st = some st' ∧ m_begins v s = some s' ∧ AC x c n B H dn un N1 N2 M N3 w b kd (N + 1) st' s' ∧ Mk x st st' := by
  obtain ⟨R, ⟨T1, T2, T3⟩, W, i49, i50⟩ := A
  have K := R.1
  have g18 : hk_gI [0] 18 st x = some (nI N) := by rw [gI_b (bf_k K.x0), T1]
  by_cases h24 : N < 24
  · have n24 : ¬ (24 : Int32) ≤ nI N := nI_ge (b := 24) h24 (by decide)
    have F : Fr (fun f a => f = 18 ∧ a = x) no2 no2 (fun a => a = x + 19) no1 no1 st (hk_sfI (hk_saI st (x + 19) N v) 18 x (nI (N + 1))) := Fr.sfI (Fr.saI Fr.rf (fun _ => rfl)) (fun _ => ⟨rfl, rfl⟩)
    have G : FrM (fun f => f = 48 ∨ mcI f = false) (fun j _ => j = 25 ∨ mcA j = false) no1 s (hm_sI (hm_sA s 25 N v) 48 (nI (N + 1))) :=
      ⟨fun f hf => by rw [hmI_sI, if_neg (fun q => hf (Or.inl q)), hmI_sA], fun j i hj => by rw [hmA_sI, hmA_sA, if_neg (fun q => hj (Or.inl q.1))], fun i _ => by rw [hmB_sI, hmB_sA]⟩
    have hT : TrN x (N + 1) (hk_sfI (hk_saI st (x + 19) N v) 18 x (nI (N + 1))) (hm_sI (hm_sA s 25 N v) 48 (nI (N + 1))) := by
      refine ⟨by rw [fI_sfI, if_pos ⟨rfl, rfl⟩], by rw [hmI_sI, if_pos rfl], fun i hi hn => ?_⟩
      rw [aI_sfI, aI_saI, hmA_sI, hmA_sA]
      by_cases e : i = N
      · rw [if_pos ⟨rfl, e⟩, if_pos ⟨rfl, e⟩]
      · rw [if_neg (fun q => e q.2), if_neg (fun q => e q.2)]
        exact T3 i hi (by omega)
    obtain ⟨R2, M2⟩ := R.trc F G K.wk K.li rfl rfl hN hT
    refine ⟨_, _, ?_, ?_, ⟨R2, hT, ⟨W.1, by rw [fI_sfI, if_neg (fun q => absurd q.1 (by decide))]; exact W.2.1, W.2.2⟩, by rw [hmI_sI, if_neg (by decide)]; exact i49, by rw [hmI_sI, if_neg (by decide)]; exact i50⟩, M2⟩
    · have t1 : hk_tI 1 st (x + 19) (nI N) v = some (hk_saI st (x + 19) N v) := by
        rw [tI_k (ty := 1) K.k19 h24 (by decide)]
        show some (hk_saI st (x + 19) N v.toInt8.toInt32) = _
        rw [hv]
      have g2 : hk_gI [0] 18 (hk_saI st (x + 19) N v) x = some (nI N) := g18
      simp only [x_ran, g18, hz_ob, n24, if_false, gR_b (bf_k K.x0), K.r19, hz_nn, hv, t1, g2, nI_1, pI_b (st := hk_saI st (x + 19) N v) (bf_k K.x0)]
    · have g3 : hm_I (hm_sA s 25 N v) 48 = nI N := T2
      simp only [m_begins, T2, n24, if_false, hmt h24 (show 24 < 2 ^ 31 by decide), hz_ob, g3, nI_1, hz_nm]
  · have n24 : (24 : Int32) ≤ nI N := nI_le (a := 24) (by omega) (by omega)
    have F : Fr (fun f a => f = 18 ∧ a = x) no2 no2 (fun a => a = x + 19) no1 no1 st (hk_sfI st 18 x (nI (N + 1))) := Fr.sfI Fr.rf (fun _ => ⟨rfl, rfl⟩)
    have G : FrM (fun f => f = 48 ∨ mcI f = false) (fun j _ => j = 25 ∨ mcA j = false) no1 s (hm_sI s 48 (nI (N + 1))) :=
      ⟨fun f hf => by rw [hmI_sI, if_neg (fun q => hf (Or.inl q))], fun j i hj => by rw [hmA_sI], fun i _ => by rw [hmB_sI]⟩
    have hT : TrN x (N + 1) (hk_sfI st 18 x (nI (N + 1))) (hm_sI s 48 (nI (N + 1))) := by
      refine ⟨by rw [fI_sfI, if_pos ⟨rfl, rfl⟩], by rw [hmI_sI, if_pos rfl], fun i hi hn => ?_⟩
      rw [aI_sfI, hmA_sI]
      exact T3 i hi (by omega)
    obtain ⟨R2, M2⟩ := R.trc F G K.wk K.li rfl rfl hN hT
    refine ⟨_, _, ?_, ?_, ⟨R2, hT, ⟨W.1, by rw [fI_sfI, if_neg (fun q => absurd q.1 (by decide))]; exact W.2.1, W.2.2⟩, by rw [hmI_sI, if_neg (by decide)]; exact i49, by rw [hmI_sI, if_neg (by decide)]; exact i50⟩, M2⟩
    · simp only [x_ran, g18, hz_ob, n24, if_true, nI_1, pI_b (bf_k K.x0)]
    · simp only [m_begins, T2, n24, if_true, nI_1, hz_nm]
theorem bw8 (h : kd ≤ 7) : [15, 16, 17, 18, 19, 20, 21, 22].contains (15 + kd) = true := by
  have : kd = 0 ∨ kd = 1 ∨ kd = 2 ∨ kd = 3 ∨ kd = 4 ∨ kd = 5 ∨ kd = 6 ∨ kd = 7 := by omega
  rcases this with rfl | rfl | rfl | rfl | rfl | rfl | rfl | rfl <;> rfl
theorem ac_Way_costs {p q : Int32} {d : Nat} (h7 : kd ≤ 7) (h1 : ¬ q = (5 : Int32)) (h2 : ¬ q = (1 : Int32)) : Lk x (AC x c n B H dn un N1 N2 M N3 w b kd) 1 (xWay_costs w p) (g_costsAs (d + 1) q p) := by
  intro N st s hN A
  obtain ⟨st1, s1, e1, e2, A1, m1⟩ := ran_K (v := (1 : Int32)) (by decide) (by omega) A
  have K := A.1.1
  have K1 := A1.1.1
  have W := A.2.2.1
  have W1 := A1.2.2.1
  refine ⟨p + nI b, st1, s1, N + 1, ?_, ?_, by omega, A1, m1⟩
  · simp only [xWay_costs, gR_b (bfA W.1 (bw8 h7)), W.2.2.1, hz_ob, hz_nn, e1, gdT (bf_k K.x0), gI_b (bfA W1.1 (bw8 h7)), W1.2.1]
  · show m_costsAs (g_costsAs d) q p s = _
    simp only [m_costsAs, hz_nm, e2, hz_ob, h1, h2, if_false, A1.2.2.2.2]
theorem ac_FromLeft_costs {p : Int32} {d : Nat} (h7 : kd ≤ 7) (hk : kd = 1 ∨ kd = 5) : Lk x (AC x c n B H dn un N1 N2 M N3 w b kd) 2 (xFromLeft_costs w p) (g_costsAs (d + 2) 1 p) := by
  intro N st s hN A
  obtain ⟨st1, s1, e1, e2, A1, m1⟩ := ran_K (v := (20 : Int32)) (by decide) (by omega) A
  have K := A.1.1
  have K1 := A1.1.1
  have W := A.2.2.1
  have W1 := A1.2.2.1
  have hl : [16, 20].contains (15 + kd) = true := by rcases hk with rfl | rfl <;> rfl
  obtain ⟨r1, st2, s2, N2_, x1, y1, n1, A2, m2⟩ := ac_Way_costs (p := p) (q := 0) (d := d) h7 (by decide) (by decide) (N + 1) st1 s1 (by omega) A1
  refine ⟨r1 + 3, st2, s2, N2_, ?_, ?_, by omega, A2, m1.trans m2⟩
  · simp only [xFromLeft_costs, gR_b (bfA W.1 hl), W.2.2.2.1 hk, hz_ob, hz_nn, e1, gdT (bf_k K.x0), gdT (bfA W1.1 hl), x1]
  · show m_costsAs (g_costsAs (d + 1)) 1 p s = _
    simp only [m_costsAs, hz_nm, e2, hz_ob, show ¬ (1 : Int32) = 5 by decide, if_false, if_true, y1]
theorem ac_ByFactors_costs {p : Int32} {d : Nat} (h7 : kd ≤ 7) (hk : kd = 5) : Lk x (AC x c n B H dn un N1 N2 M N3 w b kd) 3 (xByFactors_costs w p) (g_costsAs (d + 3) 5 p) := by
  intro N st s hN A
  obtain ⟨st1, s1, e1, e2, A1, m1⟩ := ran_K (v := (60 : Int32)) (by decide) (by omega) A
  have K := A.1.1
  have K1 := A1.1.1
  have W := A.2.2.1
  have W1 := A1.2.2.1
  have hl : [20].contains (15 + kd) = true := by subst hk; rfl
  obtain ⟨r1, st2, s2, N2_, x1, y1, n1, A2, m2⟩ := ac_FromLeft_costs (p := p + 1) (d := d) h7 (Or.inr hk) (N + 1) st1 s1 (by omega) A1
  refine ⟨r1, st2, s2, N2_, ?_, ?_, by omega, A2, m1.trans m2⟩
  · simp only [xByFactors_costs, gR_b (bfA W.1 hl), W.2.2.2.2.2.2.2.1 hk, hz_ob, hz_nn, e1, gdT (bf_k K.x0), gdT (bfA W1.1 hl), x1]
  · show m_costsAs (g_costsAs (d + 2)) 5 p s = _
    simp only [m_costsAs, hz_nm, e2, hz_ob, if_true, y1]
theorem ac_v_costs {p : Int32} (h7 : kd ≤ 7) : Lk x (AC x c n B H dn un N1 N2 M N3 w b kd) 3 (xv_costs w p) (g_costsAs 4 (nI kd) p) := by
  intro N st s hN A
  have W := A.2.2.1
  have : kd = 0 ∨ kd = 1 ∨ kd = 2 ∨ kd = 3 ∨ kd = 4 ∨ kd = 5 ∨ kd = 6 ∨ kd = 7 := by omega
  rcases this with rfl | rfl | rfl | rfl | rfl | rfl | rfl | rfl
  · obtain ⟨r, st2, s2, N2_, x1, y1, n1, A2, m2⟩ := ac_Way_costs (p := p) (q := nI 0) (d := 3) h7 (by decide) (by decide) N st s (by omega) A
    exact ⟨r, st2, s2, N2_, by simp only [xv_costs, bfA (l := [15]) W.1 (by decide), if_true]; exact x1, y1, by omega, A2, m2⟩
  · obtain ⟨r, st2, s2, N2_, x1, y1, n1, A2, m2⟩ := ac_FromLeft_costs (p := p) (d := 2) h7 (Or.inl rfl) N st s (by omega) A
    exact ⟨r, st2, s2, N2_, by simp only [xv_costs, bfN (l := [15]) W.1 (by decide), bfA (l := [16]) W.1 (by decide), if_true, if_false]; exact x1, y1, by omega, A2, m2⟩
  · obtain ⟨r, st2, s2, N2_, x1, y1, n1, A2, m2⟩ := ac_Way_costs (p := p) (q := nI 2) (d := 3) h7 (by decide) (by decide) N st s (by omega) A
    exact ⟨r, st2, s2, N2_, by simp only [xv_costs, bfN (l := [15]) W.1 (by decide), bfN (l := [16]) W.1 (by decide), bfA (l := [17]) W.1 (by decide), if_true, if_false]; exact x1, y1, by omega, A2, m2⟩
  · obtain ⟨r, st2, s2, N2_, x1, y1, n1, A2, m2⟩ := ac_Way_costs (p := p) (q := nI 3) (d := 3) h7 (by decide) (by decide) N st s (by omega) A
    exact ⟨r, st2, s2, N2_, by simp only [xv_costs, bfN (l := [15]) W.1 (by decide), bfN (l := [16]) W.1 (by decide), bfN (l := [17]) W.1 (by decide), bfA (l := [18]) W.1 (by decide), if_true, if_false]; exact x1, y1, by omega, A2, m2⟩
  · obtain ⟨r, st2, s2, N2_, x1, y1, n1, A2, m2⟩ := ac_Way_costs (p := p) (q := nI 4) (d := 3) h7 (by decide) (by decide) N st s (by omega) A
    exact ⟨r, st2, s2, N2_, by simp only [xv_costs, bfN (l := [15]) W.1 (by decide), bfN (l := [16]) W.1 (by decide), bfN (l := [17]) W.1 (by decide), bfN (l := [18]) W.1 (by decide), bfA (l := [19]) W.1 (by decide), if_true, if_false]; exact x1, y1, by omega, A2, m2⟩
  · obtain ⟨r, st2, s2, N2_, x1, y1, n1, A2, m2⟩ := ac_ByFactors_costs (p := p) (d := 1) h7 rfl N st s (by omega) A
    exact ⟨r, st2, s2, N2_, by simp only [xv_costs, bfN (l := [15]) W.1 (by decide), bfN (l := [16]) W.1 (by decide), bfN (l := [17]) W.1 (by decide), bfN (l := [18]) W.1 (by decide), bfN (l := [19]) W.1 (by decide), bfA (l := [20]) W.1 (by decide), if_true, if_false]; exact x1, y1, by omega, A2, m2⟩
  · obtain ⟨r, st2, s2, N2_, x1, y1, n1, A2, m2⟩ := ac_Way_costs (p := p) (q := nI 6) (d := 3) h7 (by decide) (by decide) N st s (by omega) A
    exact ⟨r, st2, s2, N2_, by simp only [xv_costs, bfN (l := [15]) W.1 (by decide), bfN (l := [16]) W.1 (by decide), bfN (l := [17]) W.1 (by decide), bfN (l := [18]) W.1 (by decide), bfN (l := [19]) W.1 (by decide), bfN (l := [20]) W.1 (by decide), bfA (l := [21]) W.1 (by decide), if_true, if_false]; exact x1, y1, by omega, A2, m2⟩
  · obtain ⟨r, st2, s2, N2_, x1, y1, n1, A2, m2⟩ := ac_Way_costs (p := p) (q := nI 7) (d := 3) h7 (by decide) (by decide) N st s (by omega) A
    exact ⟨r, st2, s2, N2_, by simp only [xv_costs, bfN (l := [15]) W.1 (by decide), bfN (l := [16]) W.1 (by decide), bfN (l := [17]) W.1 (by decide), bfN (l := [18]) W.1 (by decide), bfN (l := [19]) W.1 (by decide), bfN (l := [20]) W.1 (by decide), bfN (l := [21]) W.1 (by decide), bfA (l := [22]) W.1 (by decide), if_true, if_false]; exact x1, y1, by omega, A2, m2⟩
theorem ac_Way_keeps {p q : Int32} {d : Nat} (h7 : kd ≤ 7) (h1 : ¬ q = (2 : Int32)) (h2 : ¬ q = (3 : Int32)) (h3 : ¬ q = (7 : Int32)) : Lk x (AC x c n B H dn un N1 N2 M N3 w b kd) 4 (xWay_keeps w p) (g_keepsAs (d + 1) q p) := by
  intro N st s hN A
  obtain ⟨st1, s1, e1, e2, A1, m1⟩ := ran_K (v := (10 : Int32)) (by decide) (by omega) A
  have K := A.1.1
  have K1 := A1.1.1
  have W := A.2.2.1
  have W1 := A1.2.2.1
  obtain ⟨r1, st2, s2, N2_, x1, y1, n1, A2, m2⟩ := ac_v_costs (p := p) h7 (N + 1) st1 s1 (by omega) A1
  refine ⟨r1 * 2, st2, s2, N2_, ?_, ?_, by omega, A2, m1.trans m2⟩
  · simp only [xWay_keeps, gR_b (bfA W.1 (bw8 h7)), W.2.2.1, hz_ob, hz_nn, e1, gdT (bf_k K.x0), x1]
  · show m_keepsAs (g_keepsAs d) q p s = _
    simp only [m_keepsAs, hz_nm, e2, hz_ob, h1, h2, h3, if_false, A1.2.2.2.1, y1]
theorem ac_FromRight_keeps {p q : Int32} {d : Nat} (h7 : kd ≤ 7) (hk : kd = 2 ∨ kd = 3) (hq : q = 2 ∨ q = 3) : Lk x (AC x c n B H dn un N1 N2 M N3 w b kd) 5 (xFromRight_keeps w p) (g_keepsAs (d + 2) q p) := by
  intro N st s hN A
  obtain ⟨st1, s1, e1, e2, A1, m1⟩ := ran_K (v := (30 : Int32)) (by decide) (by omega) A
  have K := A.1.1
  have K1 := A1.1.1
  have W := A.2.2.1
  have W1 := A1.2.2.1
  have hl : [17, 18].contains (15 + kd) = true := by rcases hk with rfl | rfl <;> rfl
  obtain ⟨r1, st2, s2, N2_, x1, y1, n1, A2, m2⟩ := ac_Way_keeps (p := p) (q := 0) (d := d) h7 (by decide) (by decide) (by decide) (N + 1) st1 s1 (by omega) A1
  refine ⟨-r1, st2, s2, N2_, ?_, ?_, by omega, A2, m1.trans m2⟩
  · simp only [xFromRight_keeps, gR_b (bfA W.1 hl), W.2.2.2.2.1 hk, hz_ob, hz_nn, e1, gdT (bf_k K.x0), gdT (bfA W1.1 hl), x1]
  · show m_keepsAs (g_keepsAs (d + 1)) q p s = _
    rcases hq with rfl | rfl
    · simp only [m_keepsAs, hz_nm, e2, hz_ob, if_true, y1]
    · simp only [m_keepsAs, hz_nm, e2, hz_ob, show ¬ (3 : Int32) = 2 by decide, if_false, if_true, y1]
theorem ac_Rooted_keeps {p : Int32} {d : Nat} (h7 : kd ≤ 7) (hk : kd = 7) : Lk x (AC x c n B H dn un N1 N2 M N3 w b kd) 5 (xRooted_keeps w p) (g_keepsAs (d + 2) 7 p) := by
  intro N st s hN A
  obtain ⟨st1, s1, e1, e2, A1, m1⟩ := ran_K (v := (80 : Int32)) (by decide) (by omega) A
  have K := A.1.1
  have K1 := A1.1.1
  have W := A.2.2.1
  have W1 := A1.2.2.1
  have hl : [22].contains (15 + kd) = true := by subst hk; rfl
  obtain ⟨r1, st2, s2, N2_, x1, y1, n1, A2, m2⟩ := ac_Way_keeps (p := p) (q := 6) (d := d) h7 (by decide) (by decide) (by decide) (N + 1) st1 s1 (by omega) A1
  refine ⟨r1 * 2, st2, s2, N2_, ?_, ?_, by omega, A2, m1.trans m2⟩
  · simp only [xRooted_keeps, gR_b (bfA W.1 hl), W.2.2.2.2.2.2.2.2.2 hk, hz_ob, hz_nn, e1, gdT (bf_k K.x0), gdT (bfA W1.1 hl), x1]
  · show m_keepsAs (g_keepsAs (d + 1)) 7 p s = _
    simp only [m_keepsAs, hz_nm, e2, hz_ob, show ¬ (7 : Int32) = 2 by decide, show ¬ (7 : Int32) = 3 by decide, if_false, if_true, y1]
theorem ac_v_keeps {p : Int32} (h7 : kd ≤ 7) : Lk x (AC x c n B H dn un N1 N2 M N3 w b kd) 5 (xv_keeps w p) (g_keepsAs 4 (nI kd) p) := by
  intro N st s hN A
  have W := A.2.2.1
  have : kd = 0 ∨ kd = 1 ∨ kd = 2 ∨ kd = 3 ∨ kd = 4 ∨ kd = 5 ∨ kd = 6 ∨ kd = 7 := by omega
  rcases this with rfl | rfl | rfl | rfl | rfl | rfl | rfl | rfl
  · obtain ⟨r, st2, s2, N2_, x1, y1, n1, A2, m2⟩ := ac_Way_keeps (p := p) (q := nI 0) (d := 3) h7 (by decide) (by decide) (by decide) N st s (by omega) A
    exact ⟨r, st2, s2, N2_, by simp only [xv_keeps, bfA (l := [15]) W.1 (by decide), if_true]; exact x1, y1, by omega, A2, m2⟩
  · obtain ⟨r, st2, s2, N2_, x1, y1, n1, A2, m2⟩ := ac_Way_keeps (p := p) (q := nI 1) (d := 3) h7 (by decide) (by decide) (by decide) N st s (by omega) A
    exact ⟨r, st2, s2, N2_, by simp only [xv_keeps, bfN (l := [15]) W.1 (by decide), bfA (l := [16]) W.1 (by decide), if_true, if_false]; exact x1, y1, by omega, A2, m2⟩
  · obtain ⟨r, st2, s2, N2_, x1, y1, n1, A2, m2⟩ := ac_FromRight_keeps (p := p) (q := nI 2) (d := 2) h7 (Or.inl rfl) (Or.inl rfl) N st s (by omega) A
    exact ⟨r, st2, s2, N2_, by simp only [xv_keeps, bfN (l := [15]) W.1 (by decide), bfN (l := [16]) W.1 (by decide), bfA (l := [17]) W.1 (by decide), if_true, if_false]; exact x1, y1, by omega, A2, m2⟩
  · obtain ⟨r, st2, s2, N2_, x1, y1, n1, A2, m2⟩ := ac_FromRight_keeps (p := p) (q := nI 3) (d := 2) h7 (Or.inr rfl) (Or.inr rfl) N st s (by omega) A
    exact ⟨r, st2, s2, N2_, by simp only [xv_keeps, bfN (l := [15]) W.1 (by decide), bfN (l := [16]) W.1 (by decide), bfN (l := [17]) W.1 (by decide), bfA (l := [18]) W.1 (by decide), if_true, if_false]; exact x1, y1, by omega, A2, m2⟩
  · obtain ⟨r, st2, s2, N2_, x1, y1, n1, A2, m2⟩ := ac_Way_keeps (p := p) (q := nI 4) (d := 3) h7 (by decide) (by decide) (by decide) N st s (by omega) A
    exact ⟨r, st2, s2, N2_, by simp only [xv_keeps, bfN (l := [15]) W.1 (by decide), bfN (l := [16]) W.1 (by decide), bfN (l := [17]) W.1 (by decide), bfN (l := [18]) W.1 (by decide), bfA (l := [19]) W.1 (by decide), if_true, if_false]; exact x1, y1, by omega, A2, m2⟩
  · obtain ⟨r, st2, s2, N2_, x1, y1, n1, A2, m2⟩ := ac_Way_keeps (p := p) (q := nI 5) (d := 3) h7 (by decide) (by decide) (by decide) N st s (by omega) A
    exact ⟨r, st2, s2, N2_, by simp only [xv_keeps, bfN (l := [15]) W.1 (by decide), bfN (l := [16]) W.1 (by decide), bfN (l := [17]) W.1 (by decide), bfN (l := [18]) W.1 (by decide), bfN (l := [19]) W.1 (by decide), bfA (l := [20]) W.1 (by decide), if_true, if_false]; exact x1, y1, by omega, A2, m2⟩
  · obtain ⟨r, st2, s2, N2_, x1, y1, n1, A2, m2⟩ := ac_Way_keeps (p := p) (q := nI 6) (d := 3) h7 (by decide) (by decide) (by decide) N st s (by omega) A
    exact ⟨r, st2, s2, N2_, by simp only [xv_keeps, bfN (l := [15]) W.1 (by decide), bfN (l := [16]) W.1 (by decide), bfN (l := [17]) W.1 (by decide), bfN (l := [18]) W.1 (by decide), bfN (l := [19]) W.1 (by decide), bfN (l := [20]) W.1 (by decide), bfA (l := [21]) W.1 (by decide), if_true, if_false]; exact x1, y1, by omega, A2, m2⟩
  · obtain ⟨r, st2, s2, N2_, x1, y1, n1, A2, m2⟩ := ac_Rooted_keeps (p := p) (d := 2) h7 rfl N st s (by omega) A
    exact ⟨r, st2, s2, N2_, by simp only [xv_keeps, bfN (l := [15]) W.1 (by decide), bfN (l := [16]) W.1 (by decide), bfN (l := [17]) W.1 (by decide), bfN (l := [18]) W.1 (by decide), bfN (l := [19]) W.1 (by decide), bfN (l := [20]) W.1 (by decide), bfN (l := [21]) W.1 (by decide), bfA (l := [22]) W.1 (by decide), if_true, if_false]; exact x1, y1, by omega, A2, m2⟩
theorem ac_Way_slips {p q : Int32} {d : Nat} (h7 : kd ≤ 7) (h1 : ¬ q = (3 : Int32)) (h2 : ¬ q = (5 : Int32)) (h3 : ¬ q = (6 : Int32)) (h4 : ¬ q = (7 : Int32)) : Lk x (AC x c n B H dn un N1 N2 M N3 w b kd) 1 (xWay_slips w p) (g_slipsAs (d + 1) q p) := by
  intro N st s hN A
  obtain ⟨st1, s1, e1, e2, A1, m1⟩ := ran_K (v := (11 : Int32)) (by decide) (by omega) A
  have K := A.1.1
  have K1 := A1.1.1
  have W := A.2.2.1
  have W1 := A1.2.2.1
  refine ⟨p ^^^ nI b, st1, s1, N + 1, ?_, ?_, by omega, A1, m1⟩
  · simp only [xWay_slips, gR_b (bfA W.1 (bw8 h7)), W.2.2.1, hz_ob, hz_nn, e1, gdT (bf_k K.x0), gI_b (bfA W1.1 (bw8 h7)), W1.2.1]
  · show m_slipsAs (g_slipsAs d) q p s = _
    simp only [m_slipsAs, hz_nm, e2, hz_ob, h1, h2, h3, h4, if_false, A1.2.2.2.2]
theorem ac_Crosswise_slips {p : Int32} {d : Nat} (h7 : kd ≤ 7) (hk : kd = 3) : Lk x (AC x c n B H dn un N1 N2 M N3 w b kd) 2 (xCrosswise_slips w p) (g_slipsAs (d + 2) 3 p) := by
  intro N st s hN A
  obtain ⟨st1, s1, e1, e2, A1, m1⟩ := ran_K (v := (40 : Int32)) (by decide) (by omega) A
  have K := A.1.1
  have K1 := A1.1.1
  have W := A.2.2.1
  have W1 := A1.2.2.1
  have hl : [18].contains (15 + kd) = true := by subst hk; rfl
  obtain ⟨r1, st2, s2, N2_, x1, y1, n1, A2, m2⟩ := ac_Way_slips (p := p) (q := 2) (d := d) h7 (by decide) (by decide) (by decide) (by decide) (N + 1) st1 s1 (by omega) A1
  refine ⟨r1 * 3, st2, s2, N2_, ?_, ?_, by omega, A2, m1.trans m2⟩
  · simp only [xCrosswise_slips, gR_b (bfA W.1 hl), W.2.2.2.2.2.1 hk, hz_ob, hz_nn, e1, gdT (bf_k K.x0), gdT (bfA W1.1 hl), x1]
  · show m_slipsAs (g_slipsAs (d + 1)) 3 p s = _
    simp only [m_slipsAs, hz_nm, e2, hz_ob, if_true, y1]
theorem ac_ByFactors_slips {p : Int32} {d : Nat} (h7 : kd ≤ 7) (hk : kd = 5) : Lk x (AC x c n B H dn un N1 N2 M N3 w b kd) 5 (xByFactors_slips w p) (g_slipsAs (d + 2) 5 p) := by
  intro N st s hN A
  obtain ⟨st1, s1, e1, e2, A1, m1⟩ := ran_K (v := (61 : Int32)) (by decide) (by omega) A
  have K := A.1.1
  have K1 := A1.1.1
  have W := A.2.2.1
  have W1 := A1.2.2.1
  have hl : [20].contains (15 + kd) = true := by subst hk; rfl
  obtain ⟨r1, st2, s2, N2_, x1, y1, n1, A2, m2⟩ := ac_Way_slips (p := p) (q := 1) (d := d) h7 (by decide) (by decide) (by decide) (by decide) (N + 1) st1 s1 (by omega) A1
  obtain ⟨r2, st3, s3, N3_, x2, y2, n2, A3, m3⟩ := ac_ByFactors_costs (p := 2) (d := 1) h7 hk N2_ st2 s2 (by omega) A2
  have y2 : g_costsAs 4 (nI kd) 2 s2 = some (r2, s3) := by subst hk; exact y2
  refine ⟨r1 + r2, st3, s3, N3_, ?_, ?_, by omega, A3, (m1.trans m2).trans m3⟩
  · simp only [xByFactors_slips, gR_b (bfA W.1 hl), W.2.2.2.2.2.2.2.1 hk, hz_ob, hz_nn, e1, gdT (bf_k K.x0), gdT (bfA W1.1 hl), x1, x2, gdT (bfA A2.2.2.1.1 hl)]
  · show m_slipsAs (g_slipsAs (d + 1)) 5 p s = _
    simp only [m_slipsAs, hz_nm, e2, hz_ob, show ¬ (5 : Int32) = 3 by decide, if_false, if_true, y1, A2.2.2.2.1, y2]
theorem ac_ByHeart_slips {p q : Int32} {d : Nat} (h7 : kd ≤ 7) (hk : kd = 6 ∨ kd = 7) (hq : q = 6 ∨ q = 7) : Lk x (AC x c n B H dn un N1 N2 M N3 w b kd) 2 (xByHeart_slips w p) (g_slipsAs (d + 2) q p) := by
  intro N st s hN A
  obtain ⟨st1, s1, e1, e2, A1, m1⟩ := ran_K (v := (70 : Int32)) (by decide) (by omega) A
  have K := A.1.1
  have K1 := A1.1.1
  have W := A.2.2.1
  have W1 := A1.2.2.1
  have hl : [21, 22].contains (15 + kd) = true := by rcases hk with rfl | rfl <;> rfl
  obtain ⟨r1, st2, s2, N2_, x1, y1, n1, A2, m2⟩ := ac_Way_slips (p := p) (q := 0) (d := d) h7 (by decide) (by decide) (by decide) (by decide) (N + 1) st1 s1 (by omega) A1
  refine ⟨r1 - 1, st2, s2, N2_, ?_, ?_, by omega, A2, m1.trans m2⟩
  · simp only [xByHeart_slips, gR_b (bfA W.1 hl), W.2.2.2.2.2.2.2.2.1 hk, hz_ob, hz_nn, e1, gdT (bf_k K.x0), gdT (bfA W1.1 hl), x1]
  · show m_slipsAs (g_slipsAs (d + 1)) q p s = _
    rcases hq with rfl | rfl
    · simp only [m_slipsAs, hz_nm, e2, hz_ob, show ¬ (6 : Int32) = 3 by decide, show ¬ (6 : Int32) = 5 by decide, if_false, if_true, y1]
    · simp only [m_slipsAs, hz_nm, e2, hz_ob, show ¬ (7 : Int32) = 3 by decide, show ¬ (7 : Int32) = 5 by decide, show ¬ (7 : Int32) = 6 by decide, if_false, if_true, y1]
theorem ac_v_slips {p : Int32} (h7 : kd ≤ 7) : Lk x (AC x c n B H dn un N1 N2 M N3 w b kd) 5 (xv_slips w p) (g_slipsAs 4 (nI kd) p) := by
  intro N st s hN A
  have W := A.2.2.1
  have : kd = 0 ∨ kd = 1 ∨ kd = 2 ∨ kd = 3 ∨ kd = 4 ∨ kd = 5 ∨ kd = 6 ∨ kd = 7 := by omega
  rcases this with rfl | rfl | rfl | rfl | rfl | rfl | rfl | rfl
  · obtain ⟨r, st2, s2, N2_, x1, y1, n1, A2, m2⟩ := ac_Way_slips (p := p) (q := nI 0) (d := 3) h7 (by decide) (by decide) (by decide) (by decide) N st s (by omega) A
    exact ⟨r, st2, s2, N2_, by simp only [xv_slips, bfA (l := [15]) W.1 (by decide), if_true]; exact x1, y1, by omega, A2, m2⟩
  · obtain ⟨r, st2, s2, N2_, x1, y1, n1, A2, m2⟩ := ac_Way_slips (p := p) (q := nI 1) (d := 3) h7 (by decide) (by decide) (by decide) (by decide) N st s (by omega) A
    exact ⟨r, st2, s2, N2_, by simp only [xv_slips, bfN (l := [15]) W.1 (by decide), bfA (l := [16]) W.1 (by decide), if_true, if_false]; exact x1, y1, by omega, A2, m2⟩
  · obtain ⟨r, st2, s2, N2_, x1, y1, n1, A2, m2⟩ := ac_Way_slips (p := p) (q := nI 2) (d := 3) h7 (by decide) (by decide) (by decide) (by decide) N st s (by omega) A
    exact ⟨r, st2, s2, N2_, by simp only [xv_slips, bfN (l := [15]) W.1 (by decide), bfN (l := [16]) W.1 (by decide), bfA (l := [17]) W.1 (by decide), if_true, if_false]; exact x1, y1, by omega, A2, m2⟩
  · obtain ⟨r, st2, s2, N2_, x1, y1, n1, A2, m2⟩ := ac_Crosswise_slips (p := p) (d := 2) h7 rfl N st s (by omega) A
    exact ⟨r, st2, s2, N2_, by simp only [xv_slips, bfN (l := [15]) W.1 (by decide), bfN (l := [16]) W.1 (by decide), bfN (l := [17]) W.1 (by decide), bfA (l := [18]) W.1 (by decide), if_true, if_false]; exact x1, y1, by omega, A2, m2⟩
  · obtain ⟨r, st2, s2, N2_, x1, y1, n1, A2, m2⟩ := ac_Way_slips (p := p) (q := nI 4) (d := 3) h7 (by decide) (by decide) (by decide) (by decide) N st s (by omega) A
    exact ⟨r, st2, s2, N2_, by simp only [xv_slips, bfN (l := [15]) W.1 (by decide), bfN (l := [16]) W.1 (by decide), bfN (l := [17]) W.1 (by decide), bfN (l := [18]) W.1 (by decide), bfA (l := [19]) W.1 (by decide), if_true, if_false]; exact x1, y1, by omega, A2, m2⟩
  · obtain ⟨r, st2, s2, N2_, x1, y1, n1, A2, m2⟩ := ac_ByFactors_slips (p := p) (d := 2) h7 rfl N st s (by omega) A
    exact ⟨r, st2, s2, N2_, by simp only [xv_slips, bfN (l := [15]) W.1 (by decide), bfN (l := [16]) W.1 (by decide), bfN (l := [17]) W.1 (by decide), bfN (l := [18]) W.1 (by decide), bfN (l := [19]) W.1 (by decide), bfA (l := [20]) W.1 (by decide), if_true, if_false]; exact x1, y1, by omega, A2, m2⟩
  · obtain ⟨r, st2, s2, N2_, x1, y1, n1, A2, m2⟩ := ac_ByHeart_slips (p := p) (q := nI 6) (d := 2) h7 (Or.inl rfl) (Or.inl rfl) N st s (by omega) A
    exact ⟨r, st2, s2, N2_, by simp only [xv_slips, bfN (l := [15]) W.1 (by decide), bfN (l := [16]) W.1 (by decide), bfN (l := [17]) W.1 (by decide), bfN (l := [18]) W.1 (by decide), bfN (l := [19]) W.1 (by decide), bfN (l := [20]) W.1 (by decide), bfA (l := [21]) W.1 (by decide), if_true, if_false]; exact x1, y1, by omega, A2, m2⟩
  · obtain ⟨r, st2, s2, N2_, x1, y1, n1, A2, m2⟩ := ac_ByHeart_slips (p := p) (q := nI 7) (d := 2) h7 (Or.inr rfl) (Or.inr rfl) N st s (by omega) A
    exact ⟨r, st2, s2, N2_, by simp only [xv_slips, bfN (l := [15]) W.1 (by decide), bfN (l := [16]) W.1 (by decide), bfN (l := [17]) W.1 (by decide), bfN (l := [18]) W.1 (by decide), bfN (l := [19]) W.1 (by decide), bfN (l := [20]) W.1 (by decide), bfN (l := [21]) W.1 (by decide), bfA (l := [22]) W.1 (by decide), if_true, if_false]; exact x1, y1, by omega, A2, m2⟩
theorem ac_Way_tells {p q : Int32} {d : Nat} (h7 : kd ≤ 7) (h1 : ¬ q = (4 : Int32)) (h2 : ¬ q = (7 : Int32)) : Lk x (AC x c n B H dn un N1 N2 M N3 w b kd) 11 (xWay_tells w p) (g_tellsAs (d + 1) q p) := by
  intro N st s hN A
  obtain ⟨st1, s1, e1, e2, A1, m1⟩ := ran_K (v := (2 : Int32)) (by decide) (by omega) A
  have K := A.1.1
  have K1 := A1.1.1
  have W := A.2.2.1
  have W1 := A1.2.2.1
  obtain ⟨r1, st2, s2, N2_, x1, y1, n1, A2, m2⟩ := ac_v_keeps (p := p) h7 (N + 1) st1 s1 (by omega) A1
  obtain ⟨r2, st3, s3, N3_, x2, y2, n2, A3, m3⟩ := ac_v_slips (p := 1) h7 N2_ st2 s2 (by omega) A2
  refine ⟨r1 - r2, st3, s3, N3_, ?_, ?_, by omega, A3, (m1.trans m2).trans m3⟩
  · simp only [xWay_tells, gR_b (bfA W.1 (bw8 h7)), W.2.2.1, hz_ob, hz_nn, e1, gdT (bf_k K.x0), x1, x2]
  · show m_tellsAs (g_tellsAs d) q p s = _
    simp only [m_tellsAs, hz_nm, e2, hz_ob, h1, h2, if_false, A1.2.2.2.1, y1, A2.2.2.2.1, y2]
theorem ac_BySquares_tells {p : Int32} {d : Nat} (h7 : kd ≤ 7) (hk : kd = 4) : Lk x (AC x c n B H dn un N1 N2 M N3 w b kd) 12 (xBySquares_tells w p) (g_tellsAs (d + 2) 4 p) := by
  intro N st s hN A
  obtain ⟨st1, s1, e1, e2, A1, m1⟩ := ran_K (v := (50 : Int32)) (by decide) (by omega) A
  have K := A.1.1
  have K1 := A1.1.1
  have W := A.2.2.1
  have W1 := A1.2.2.1
  have hl : [19].contains (15 + kd) = true := by subst hk; rfl
  obtain ⟨r1, st2, s2, N2_, x1, y1, n1, A2, m2⟩ := ac_Way_tells (p := p) (q := 0) (d := d) h7 (by decide) (by decide) (N + 1) st1 s1 (by omega) A1
  refine ⟨r1 ^^^ 5, st2, s2, N2_, ?_, ?_, by omega, A2, m1.trans m2⟩
  · simp only [xBySquares_tells, gR_b (bfA W.1 hl), W.2.2.2.2.2.2.1 hk, hz_ob, hz_nn, e1, gdT (bf_k K.x0), gdT (bfA W1.1 hl), x1]
  · show m_tellsAs (g_tellsAs (d + 1)) 4 p s = _
    simp only [m_tellsAs, hz_nm, e2, hz_ob, if_true, y1]
theorem ac_Rooted_tells {p : Int32} {d : Nat} (h7 : kd ≤ 7) (hk : kd = 7) : Lk x (AC x c n B H dn un N1 N2 M N3 w b kd) 14 (xRooted_tells w p) (g_tellsAs (d + 2) 7 p) := by
  intro N st s hN A
  obtain ⟨st1, s1, e1, e2, A1, m1⟩ := ran_K (v := (81 : Int32)) (by decide) (by omega) A
  have K := A.1.1
  have K1 := A1.1.1
  have W := A.2.2.1
  have W1 := A1.2.2.1
  have hl : [22].contains (15 + kd) = true := by subst hk; rfl
  obtain ⟨r1, st2, s2, N2_, x1, y1, n1, A2, m2⟩ := ac_Way_tells (p := p) (q := 6) (d := d) h7 (by decide) (by decide) (N + 1) st1 s1 (by omega) A1
  obtain ⟨r2, st3, s3, N3_, x2, y2, n2, A3, m3⟩ := ac_ByHeart_slips (p := 2) (q := 7) (d := 2) h7 (Or.inr hk) (Or.inr rfl) N2_ st2 s2 (by omega) A2
  have y2 : g_slipsAs 4 (nI kd) 2 s2 = some (r2, s3) := by subst hk; exact y2
  refine ⟨r1 - r2, st3, s3, N3_, ?_, ?_, by omega, A3, (m1.trans m2).trans m3⟩
  · simp only [xRooted_tells, gR_b (bfA W.1 hl), W.2.2.2.2.2.2.2.2.2 hk, hz_ob, hz_nn, e1, gdT (bf_k K.x0), gdT (bfA W1.1 hl), x1, gdT (bfA A2.2.2.1.1 hl), x2]
  · show m_tellsAs (g_tellsAs (d + 1)) 7 p s = _
    simp only [m_tellsAs, hz_nm, e2, hz_ob, show ¬ (7 : Int32) = 4 by decide, if_false, if_true, y1, A2.2.2.2.1, y2]
theorem ac_v_tells {p : Int32} (h7 : kd ≤ 7) : Lk x (AC x c n B H dn un N1 N2 M N3 w b kd) 14 (xv_tells w p) (g_tellsAs 4 (nI kd) p) := by
  intro N st s hN A
  have W := A.2.2.1
  have : kd = 0 ∨ kd = 1 ∨ kd = 2 ∨ kd = 3 ∨ kd = 4 ∨ kd = 5 ∨ kd = 6 ∨ kd = 7 := by omega
  rcases this with rfl | rfl | rfl | rfl | rfl | rfl | rfl | rfl
  · obtain ⟨r, st2, s2, N2_, x1, y1, n1, A2, m2⟩ := ac_Way_tells (p := p) (q := nI 0) (d := 3) h7 (by decide) (by decide) N st s (by omega) A
    exact ⟨r, st2, s2, N2_, by simp only [xv_tells, bfA (l := [15]) W.1 (by decide), if_true]; exact x1, y1, by omega, A2, m2⟩
  · obtain ⟨r, st2, s2, N2_, x1, y1, n1, A2, m2⟩ := ac_Way_tells (p := p) (q := nI 1) (d := 3) h7 (by decide) (by decide) N st s (by omega) A
    exact ⟨r, st2, s2, N2_, by simp only [xv_tells, bfN (l := [15]) W.1 (by decide), bfA (l := [16]) W.1 (by decide), if_true, if_false]; exact x1, y1, by omega, A2, m2⟩
  · obtain ⟨r, st2, s2, N2_, x1, y1, n1, A2, m2⟩ := ac_Way_tells (p := p) (q := nI 2) (d := 3) h7 (by decide) (by decide) N st s (by omega) A
    exact ⟨r, st2, s2, N2_, by simp only [xv_tells, bfN (l := [15]) W.1 (by decide), bfN (l := [16]) W.1 (by decide), bfA (l := [17]) W.1 (by decide), if_true, if_false]; exact x1, y1, by omega, A2, m2⟩
  · obtain ⟨r, st2, s2, N2_, x1, y1, n1, A2, m2⟩ := ac_Way_tells (p := p) (q := nI 3) (d := 3) h7 (by decide) (by decide) N st s (by omega) A
    exact ⟨r, st2, s2, N2_, by simp only [xv_tells, bfN (l := [15]) W.1 (by decide), bfN (l := [16]) W.1 (by decide), bfN (l := [17]) W.1 (by decide), bfA (l := [18]) W.1 (by decide), if_true, if_false]; exact x1, y1, by omega, A2, m2⟩
  · obtain ⟨r, st2, s2, N2_, x1, y1, n1, A2, m2⟩ := ac_BySquares_tells (p := p) (d := 2) h7 rfl N st s (by omega) A
    exact ⟨r, st2, s2, N2_, by simp only [xv_tells, bfN (l := [15]) W.1 (by decide), bfN (l := [16]) W.1 (by decide), bfN (l := [17]) W.1 (by decide), bfN (l := [18]) W.1 (by decide), bfA (l := [19]) W.1 (by decide), if_true, if_false]; exact x1, y1, by omega, A2, m2⟩
  · obtain ⟨r, st2, s2, N2_, x1, y1, n1, A2, m2⟩ := ac_Way_tells (p := p) (q := nI 5) (d := 3) h7 (by decide) (by decide) N st s (by omega) A
    exact ⟨r, st2, s2, N2_, by simp only [xv_tells, bfN (l := [15]) W.1 (by decide), bfN (l := [16]) W.1 (by decide), bfN (l := [17]) W.1 (by decide), bfN (l := [18]) W.1 (by decide), bfN (l := [19]) W.1 (by decide), bfA (l := [20]) W.1 (by decide), if_true, if_false]; exact x1, y1, by omega, A2, m2⟩
  · obtain ⟨r, st2, s2, N2_, x1, y1, n1, A2, m2⟩ := ac_Way_tells (p := p) (q := nI 6) (d := 3) h7 (by decide) (by decide) N st s (by omega) A
    exact ⟨r, st2, s2, N2_, by simp only [xv_tells, bfN (l := [15]) W.1 (by decide), bfN (l := [16]) W.1 (by decide), bfN (l := [17]) W.1 (by decide), bfN (l := [18]) W.1 (by decide), bfN (l := [19]) W.1 (by decide), bfN (l := [20]) W.1 (by decide), bfA (l := [21]) W.1 (by decide), if_true, if_false]; exact x1, y1, by omega, A2, m2⟩
  · obtain ⟨r, st2, s2, N2_, x1, y1, n1, A2, m2⟩ := ac_Rooted_tells (p := p) (d := 2) h7 rfl N st s (by omega) A
    exact ⟨r, st2, s2, N2_, by simp only [xv_tells, bfN (l := [15]) W.1 (by decide), bfN (l := [16]) W.1 (by decide), bfN (l := [17]) W.1 (by decide), bfN (l := [18]) W.1 (by decide), bfN (l := [19]) W.1 (by decide), bfN (l := [20]) W.1 (by decide), bfN (l := [21]) W.1 (by decide), bfA (l := [22]) W.1 (by decide), if_true, if_false]; exact x1, y1, by omega, A2, m2⟩
theorem ap_act (p q v : Int32) : AP x (x_act x p q v) (m_act p q v) := by
  intro c st s hA
  obtain ⟨n, B, H, dn, un, N1, N2, M, N3, R⟩ := hA
  have K := R.1
  have F : Fr (fun f a => f = 18 ∧ a = x) no2 no2 (fun a => a = x + 19) no1 no1 st (hk_sfI st 18 x 0) := Fr.sfI Fr.rf (fun _ => ⟨rfl, rfl⟩)
  have G : FrM (fun f => f = 48 ∨ mcI f = false) (fun j _ => j = 25 ∨ mcA j = false) no1 s (hm_sI s 48 0) :=
    ⟨fun f hf => by rw [hmI_sI, if_neg (fun q => hf (Or.inl q))], fun j i hj => by rw [hmA_sI], fun i _ => by rw [hmB_sI]⟩
  have T0 : TrN x 0 (hk_sfI st 18 x 0) (hm_sI s 48 0) := ⟨by rw [fI_sfI, if_pos ⟨rfl, rfl⟩]; rfl, by rw [hmI_sI, if_pos rfl]; rfl, fun i _ h => absurd h (Nat.not_lt_zero _)⟩
  obtain ⟨R1, M1⟩ := R.trc F G K.wk K.li rfl rfl (Nat.zero_le _) T0
  have hB1 := R1.2.2.2.2.2.2.2.2.1
  have p18 : hk_pI [0] 18 st x 0 = some (hk_sfI st 18 x 0) := pI_b (bf_k K.x0)
  have n1 : ¬ (1 : Int32) = 0 := by decide
  rcases isBody_c R1.1 hB1 p with ⟨h1, h2⟩ | ⟨h1, h2, k, hk, rfl⟩
  · exact ⟨0, _, _, by simp only [x_act, p18, hz_ob, h1, gdT (bf_k R1.1.x0), if_true], by simp only [m_act, hz_nm, h2, hz_ob, if_true], R1.ra, M1⟩
  · obtain ⟨w, kd, q1, q2, q3, q4, q5, q6, q7, q8, q9, qA, qB, qC, qD, qE⟩ := hB1.2.2.2 k hk
    have h50 := hB1.2.2.1
    have l24 : hm_lI (hm_sI s 48 0) 24 50 (nI k) = some (nI kd) := by rw [hml (show k < 50 by omega) (by decide), qE]
    have R2 := R1.scr (Scr.rf R1.1.wk R1.1.li) (ScM.sI (ScM.sI (ScM.rf (s := hm_sI s 48 0)) (f := 49) (v := nI kd) rfl) (f := 50) (v := nI k) rfl)
    have i49 : hm_I (hm_sI (hm_sI (hm_sI s 48 0) 49 (nI kd)) 50 (nI k)) 49 = nI kd := by rw [hmI_sI, if_neg (by decide), hmI_sI, if_pos rfl]
    have A : AC x c n B H dn un N1 N2 M N3 w k kd 0 (hk_sfI st 18 x 0) (hm_sI (hm_sI (hm_sI s 48 0) 49 (nI kd)) 50 (nI k)) :=
      ⟨R2, ⟨T0.1, by rw [hmI_sI, if_neg (by decide), hmI_sI, if_neg (by decide)]; exact T0.2.1, fun i _ h => absurd h (Nat.not_lt_zero _)⟩, ⟨q2, q4, q6, q7, q8, q9, qA, qB, qC, qD⟩, i49, by rw [hmI_sI, if_pos rfl]⟩
    have l20 : hk_lR 9 (hk_sfI st 18 x 0) (x + 20) (nI k) = some (some w) := by rw [lR_k (ty := 9) R1.1.k20 (show k < 50 by omega) (by decide), q1]
    rcases in_cases q 0 3 (by decide) (by decide) with ⟨i1, i2⟩ | ⟨i1, j, -, j3, rfl⟩
    · have i1 : x_in q 0 3 = 0 := i1
      have a0 : ¬ q = 0 := i2 0 (by decide) (by decide)
      have a1 : ¬ q = 1 := i2 1 (by decide) (by decide)
      have a2 : ¬ q = 2 := i2 2 (by decide) (by decide)
      have a3 : ¬ q = 3 := i2 3 (by decide) (by decide)
      exact ⟨0, _, _, by simp only [x_act, p18, hz_ob, h1, gdT (bf_k R1.1.x0), n1, if_false, i1, if_true], by simp only [m_act, hz_nm, h2, hz_ob, n1, if_false, l24, a0, a1, a2, a3], R2.ra, M1⟩
    · have i1 : x_in (nI j) 0 3 = 1 := i1
      have hj : j = 0 ∨ j = 1 ∨ j = 2 ∨ j = 3 := by omega
      have e0 : ∀ a b, a < 4 → b < 4 → a ≠ b → ¬ nI a = nI b := fun a b h1 h2 h3 q => h3 ((nI_eq (by omega) (by omega)).mp q)
      rcases hj with rfl | rfl | rfl | rfl
      · obtain ⟨r, st2, s2, N', x1, y1, hn, A2, m2⟩ := ac_v_costs (p := v) q3 0 _ _ (by omega) A
        exact ⟨r, st2, s2, by simp only [x_act, p18, hz_ob, h1, gdT (bf_k R1.1.x0), n1, if_false, show x_in (0 : Int32) 0 3 = 1 from i1, gR_b (bf_k R1.1.x0), R1.1.r20, hz_nn, l20, show nI 0 = (0 : Int32) from rfl, if_true, x1], by simp only [m_act, hz_nm, h2, hz_ob, n1, if_false, l24, show nI 0 = (0 : Int32) from rfl, if_true, i49, y1], A2.1.ra, M1.trans m2⟩
      · obtain ⟨r, st2, s2, N', x1, y1, hn, A2, m2⟩ := ac_v_keeps (p := v) q3 0 _ _ (by omega) A
        exact ⟨r, st2, s2, by simp only [x_act, p18, hz_ob, h1, gdT (bf_k R1.1.x0), n1, if_false, show x_in (1 : Int32) 0 3 = 1 from i1, gR_b (bf_k R1.1.x0), R1.1.r20, hz_nn, l20, show nI 1 = (1 : Int32) from rfl, show ¬ (1 : Int32) = 3 by decide, if_true, x1], by simp only [m_act, hz_nm, h2, hz_ob, n1, if_false, l24, show nI 1 = (1 : Int32) from rfl, if_true, i49, y1], A2.1.ra, M1.trans m2⟩
      · obtain ⟨r, st2, s2, N', x1, y1, hn, A2, m2⟩ := ac_v_slips (p := v) q3 0 _ _ (by omega) A
        exact ⟨r, st2, s2, by simp only [x_act, p18, hz_ob, h1, gdT (bf_k R1.1.x0), n1, if_false, show x_in (2 : Int32) 0 3 = 1 from i1, gR_b (bf_k R1.1.x0), R1.1.r20, hz_nn, l20, show nI 2 = (2 : Int32) from rfl, show ¬ (2 : Int32) = 0 by decide, show ¬ (2 : Int32) = 3 by decide, show ¬ (2 : Int32) = 1 by decide, x1], by simp only [m_act, hz_nm, h2, hz_ob, n1, if_false, l24, show nI 2 = (2 : Int32) from rfl, show ¬ (2 : Int32) = 0 by decide, show ¬ (2 : Int32) = 1 by decide, if_true, i49, y1], A2.1.ra, M1.trans m2⟩
      · obtain ⟨r, st2, s2, N', x1, y1, hn, A2, m2⟩ := ac_v_tells (p := v) q3 0 _ _ (by omega) A
        exact ⟨r, st2, s2, by simp only [x_act, p18, hz_ob, h1, gdT (bf_k R1.1.x0), n1, if_false, show x_in (3 : Int32) 0 3 = 1 from i1, gR_b (bf_k R1.1.x0), R1.1.r20, hz_nn, l20, show nI 3 = (3 : Int32) from rfl, show ¬ (3 : Int32) = 0 by decide, if_true, x1], by simp only [m_act, hz_nm, h2, hz_ob, n1, if_false, l24, show nI 3 = (3 : Int32) from rfl, show ¬ (3 : Int32) = 0 by decide, show ¬ (3 : Int32) = 1 by decide, show ¬ (3 : Int32) = 2 by decide, if_true, i49, y1], A2.1.ra, M1.trans m2⟩
end S2AT
