set_option maxRecDepth 100000
/-! ===== STAGE 2: the class's fixed things (printed by s2_rk.py) ===== -/
def RK (x : Nat) (st : hk_St) : Prop :=
  hk_k st x = some (0, 0) ∧
  hk_fR st 0 x = some (x + 1) ∧
  hk_fR st 2 x = some (x + 2) ∧
  hk_fR st 4 x = some (x + 3) ∧
  hk_fR st 8 x = some (x + 4) ∧
  hk_fR st 9 x = some (x + 6) ∧
  hk_fR st 10 x = some (x + 14) ∧
  hk_fR st 12 x = some (x + 15) ∧
  hk_fR st 14 x = some (x + 16) ∧
  hk_fR st 19 x = some (x + 19) ∧
  hk_fR st 20 x = some (x + 20) ∧
  hk_fR st 22 x = some (x + 21) ∧
  hk_k st (x + 1) = some (101, 120) ∧
  hk_k st (x + 2) = some (106, 6) ∧
  hk_k st (x + 3) = some (107, 40) ∧
  FcS x st ∧
  hk_KA (x + 6) st ∧
  hk_k st (x + 14) = some (108, 40) ∧
  hk_k st (x + 15) = some (100, 8) ∧
  hk_k st (x + 19) = some (101, 24) ∧
  hk_k st (x + 20) = some (109, 50) ∧
  hk_k st (x + 21) = some (110, 6) ∧
  hk_KM (x + 22) st ∧
  Wk st ∧
  Li st
section S2RK
variable {x : Nat} {st : hk_St}
theorem RK.x0 (K : RK x st) : hk_k st x = some (0, 0) := K.1
theorem RK.r0 (K : RK x st) : hk_fR st 0 x = some (x + 1) := K.2.1
theorem RK.r2 (K : RK x st) : hk_fR st 2 x = some (x + 2) := K.2.2.1
theorem RK.r4 (K : RK x st) : hk_fR st 4 x = some (x + 3) := K.2.2.2.1
theorem RK.r8 (K : RK x st) : hk_fR st 8 x = some (x + 4) := K.2.2.2.2.1
theorem RK.r9 (K : RK x st) : hk_fR st 9 x = some (x + 6) := K.2.2.2.2.2.1
theorem RK.r10 (K : RK x st) : hk_fR st 10 x = some (x + 14) := K.2.2.2.2.2.2.1
theorem RK.r12 (K : RK x st) : hk_fR st 12 x = some (x + 15) := K.2.2.2.2.2.2.2.1
theorem RK.r14 (K : RK x st) : hk_fR st 14 x = some (x + 16) := K.2.2.2.2.2.2.2.2.1
theorem RK.r19 (K : RK x st) : hk_fR st 19 x = some (x + 19) := K.2.2.2.2.2.2.2.2.2.1
theorem RK.r20 (K : RK x st) : hk_fR st 20 x = some (x + 20) := K.2.2.2.2.2.2.2.2.2.2.1
theorem RK.r22 (K : RK x st) : hk_fR st 22 x = some (x + 21) := K.2.2.2.2.2.2.2.2.2.2.2.1
theorem RK.k1 (K : RK x st) : hk_k st (x + 1) = some (101, 120) := K.2.2.2.2.2.2.2.2.2.2.2.2.1
theorem RK.k2 (K : RK x st) : hk_k st (x + 2) = some (106, 6) := K.2.2.2.2.2.2.2.2.2.2.2.2.2.1
theorem RK.k3 (K : RK x st) : hk_k st (x + 3) = some (107, 40) := K.2.2.2.2.2.2.2.2.2.2.2.2.2.2.1
theorem RK.fc (K : RK x st) : FcS x st := K.2.2.2.2.2.2.2.2.2.2.2.2.2.2.2.1
theorem RK.ka (K : RK x st) : hk_KA (x + 6) st := K.2.2.2.2.2.2.2.2.2.2.2.2.2.2.2.2.1
theorem RK.k14 (K : RK x st) : hk_k st (x + 14) = some (108, 40) := K.2.2.2.2.2.2.2.2.2.2.2.2.2.2.2.2.2.1
theorem RK.k15 (K : RK x st) : hk_k st (x + 15) = some (100, 8) := K.2.2.2.2.2.2.2.2.2.2.2.2.2.2.2.2.2.2.1
theorem RK.k19 (K : RK x st) : hk_k st (x + 19) = some (101, 24) := K.2.2.2.2.2.2.2.2.2.2.2.2.2.2.2.2.2.2.2.1
theorem RK.k20 (K : RK x st) : hk_k st (x + 20) = some (109, 50) := K.2.2.2.2.2.2.2.2.2.2.2.2.2.2.2.2.2.2.2.2.1
theorem RK.k21 (K : RK x st) : hk_k st (x + 21) = some (110, 6) := K.2.2.2.2.2.2.2.2.2.2.2.2.2.2.2.2.2.2.2.2.2.1
theorem RK.km (K : RK x st) : hk_KM (x + 22) st := K.2.2.2.2.2.2.2.2.2.2.2.2.2.2.2.2.2.2.2.2.2.2.1
theorem RK.wk (K : RK x st) : Wk st := K.2.2.2.2.2.2.2.2.2.2.2.2.2.2.2.2.2.2.2.2.2.2.2.1
theorem RK.li (K : RK x st) : Li st := K.2.2.2.2.2.2.2.2.2.2.2.2.2.2.2.2.2.2.2.2.2.2.2.2
end S2RK
