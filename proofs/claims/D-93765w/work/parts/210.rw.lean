set_option maxRecDepth 100000
/-! ===== STAGE 2: reads over writes (printed by s2_gen.py) ===== -/
theorem k_sfI (st : hk_St) (f a : Nat) (v : Int32) : hk_k (hk_sfI st f a v) = hk_k st := Eq.trans rfl rfl
theorem nx_sfI (st : hk_St) (f a : Nat) (v : Int32) : hk_nx (hk_sfI st f a v) = hk_nx st := Eq.trans rfl rfl
theorem nc_sfI (st : hk_St) (f a : Nat) (v : Int32) : hk_nc (hk_sfI st f a v) = hk_nc st := Eq.trans rfl rfl
theorem ns_sfI (st : hk_St) (f a : Nat) (v : Int32) : hk_ns (hk_sfI st f a v) = hk_ns st := Eq.trans rfl rfl
theorem fI_sfI (st : hk_St) (f a : Nat) (v : Int32) (g c : Nat) : hk_fI (hk_sfI st f a v) g c = if g = f ∧ c = a then v else hk_fI st g c := Eq.trans rfl rfl
theorem fL_sfI (st : hk_St) (f a : Nat) (v : Int32) : hk_fL (hk_sfI st f a v) = hk_fL st := Eq.trans rfl rfl
theorem fR_sfI (st : hk_St) (f a : Nat) (v : Int32) : hk_fR (hk_sfI st f a v) = hk_fR st := Eq.trans rfl rfl
theorem aI_sfI (st : hk_St) (f a : Nat) (v : Int32) : hk_aI (hk_sfI st f a v) = hk_aI st := Eq.trans rfl rfl
theorem aL_sfI (st : hk_St) (f a : Nat) (v : Int32) : hk_aL (hk_sfI st f a v) = hk_aL st := Eq.trans rfl rfl
theorem aR_sfI (st : hk_St) (f a : Nat) (v : Int32) : hk_aR (hk_sfI st f a v) = hk_aR st := Eq.trans rfl rfl
theorem k_sfL (st : hk_St) (f a : Nat) (v : Int64) : hk_k (hk_sfL st f a v) = hk_k st := Eq.trans rfl rfl
theorem nx_sfL (st : hk_St) (f a : Nat) (v : Int64) : hk_nx (hk_sfL st f a v) = hk_nx st := Eq.trans rfl rfl
theorem nc_sfL (st : hk_St) (f a : Nat) (v : Int64) : hk_nc (hk_sfL st f a v) = hk_nc st := Eq.trans rfl rfl
theorem ns_sfL (st : hk_St) (f a : Nat) (v : Int64) : hk_ns (hk_sfL st f a v) = hk_ns st := Eq.trans rfl rfl
theorem fI_sfL (st : hk_St) (f a : Nat) (v : Int64) : hk_fI (hk_sfL st f a v) = hk_fI st := Eq.trans rfl rfl
theorem fL_sfL (st : hk_St) (f a : Nat) (v : Int64) (g c : Nat) : hk_fL (hk_sfL st f a v) g c = if g = f ∧ c = a then v else hk_fL st g c := Eq.trans rfl rfl
theorem fR_sfL (st : hk_St) (f a : Nat) (v : Int64) : hk_fR (hk_sfL st f a v) = hk_fR st := Eq.trans rfl rfl
theorem aI_sfL (st : hk_St) (f a : Nat) (v : Int64) : hk_aI (hk_sfL st f a v) = hk_aI st := Eq.trans rfl rfl
theorem aL_sfL (st : hk_St) (f a : Nat) (v : Int64) : hk_aL (hk_sfL st f a v) = hk_aL st := Eq.trans rfl rfl
theorem aR_sfL (st : hk_St) (f a : Nat) (v : Int64) : hk_aR (hk_sfL st f a v) = hk_aR st := Eq.trans rfl rfl
theorem k_sfR (st : hk_St) (f a : Nat) (v : Option Nat) : hk_k (hk_sfR st f a v) = hk_k st := Eq.trans rfl rfl
theorem nx_sfR (st : hk_St) (f a : Nat) (v : Option Nat) : hk_nx (hk_sfR st f a v) = hk_nx st := Eq.trans rfl rfl
theorem nc_sfR (st : hk_St) (f a : Nat) (v : Option Nat) : hk_nc (hk_sfR st f a v) = hk_nc st := Eq.trans rfl rfl
theorem ns_sfR (st : hk_St) (f a : Nat) (v : Option Nat) : hk_ns (hk_sfR st f a v) = hk_ns st := Eq.trans rfl rfl
theorem fI_sfR (st : hk_St) (f a : Nat) (v : Option Nat) : hk_fI (hk_sfR st f a v) = hk_fI st := Eq.trans rfl rfl
theorem fL_sfR (st : hk_St) (f a : Nat) (v : Option Nat) : hk_fL (hk_sfR st f a v) = hk_fL st := Eq.trans rfl rfl
theorem fR_sfR (st : hk_St) (f a : Nat) (v : Option Nat) (g c : Nat) : hk_fR (hk_sfR st f a v) g c = if g = f ∧ c = a then v else hk_fR st g c := Eq.trans rfl rfl
theorem aI_sfR (st : hk_St) (f a : Nat) (v : Option Nat) : hk_aI (hk_sfR st f a v) = hk_aI st := Eq.trans rfl rfl
theorem aL_sfR (st : hk_St) (f a : Nat) (v : Option Nat) : hk_aL (hk_sfR st f a v) = hk_aL st := Eq.trans rfl rfl
theorem aR_sfR (st : hk_St) (f a : Nat) (v : Option Nat) : hk_aR (hk_sfR st f a v) = hk_aR st := Eq.trans rfl rfl
theorem k_saI (st : hk_St) (f a : Nat) (v : Int32) : hk_k (hk_saI st f a v) = hk_k st := Eq.trans rfl rfl
theorem nx_saI (st : hk_St) (f a : Nat) (v : Int32) : hk_nx (hk_saI st f a v) = hk_nx st := Eq.trans rfl rfl
theorem nc_saI (st : hk_St) (f a : Nat) (v : Int32) : hk_nc (hk_saI st f a v) = hk_nc st := Eq.trans rfl rfl
theorem ns_saI (st : hk_St) (f a : Nat) (v : Int32) : hk_ns (hk_saI st f a v) = hk_ns st := Eq.trans rfl rfl
theorem fI_saI (st : hk_St) (f a : Nat) (v : Int32) : hk_fI (hk_saI st f a v) = hk_fI st := Eq.trans rfl rfl
theorem fL_saI (st : hk_St) (f a : Nat) (v : Int32) : hk_fL (hk_saI st f a v) = hk_fL st := Eq.trans rfl rfl
theorem fR_saI (st : hk_St) (f a : Nat) (v : Int32) : hk_fR (hk_saI st f a v) = hk_fR st := Eq.trans rfl rfl
theorem aI_saI (st : hk_St) (f a : Nat) (v : Int32) (g c : Nat) : hk_aI (hk_saI st f a v) g c = if g = f ∧ c = a then v else hk_aI st g c := Eq.trans rfl rfl
theorem aL_saI (st : hk_St) (f a : Nat) (v : Int32) : hk_aL (hk_saI st f a v) = hk_aL st := Eq.trans rfl rfl
theorem aR_saI (st : hk_St) (f a : Nat) (v : Int32) : hk_aR (hk_saI st f a v) = hk_aR st := Eq.trans rfl rfl
theorem k_saL (st : hk_St) (f a : Nat) (v : Int64) : hk_k (hk_saL st f a v) = hk_k st := Eq.trans rfl rfl
theorem nx_saL (st : hk_St) (f a : Nat) (v : Int64) : hk_nx (hk_saL st f a v) = hk_nx st := Eq.trans rfl rfl
theorem nc_saL (st : hk_St) (f a : Nat) (v : Int64) : hk_nc (hk_saL st f a v) = hk_nc st := Eq.trans rfl rfl
theorem ns_saL (st : hk_St) (f a : Nat) (v : Int64) : hk_ns (hk_saL st f a v) = hk_ns st := Eq.trans rfl rfl
theorem fI_saL (st : hk_St) (f a : Nat) (v : Int64) : hk_fI (hk_saL st f a v) = hk_fI st := Eq.trans rfl rfl
theorem fL_saL (st : hk_St) (f a : Nat) (v : Int64) : hk_fL (hk_saL st f a v) = hk_fL st := Eq.trans rfl rfl
theorem fR_saL (st : hk_St) (f a : Nat) (v : Int64) : hk_fR (hk_saL st f a v) = hk_fR st := Eq.trans rfl rfl
theorem aI_saL (st : hk_St) (f a : Nat) (v : Int64) : hk_aI (hk_saL st f a v) = hk_aI st := Eq.trans rfl rfl
theorem aL_saL (st : hk_St) (f a : Nat) (v : Int64) (g c : Nat) : hk_aL (hk_saL st f a v) g c = if g = f ∧ c = a then v else hk_aL st g c := Eq.trans rfl rfl
theorem aR_saL (st : hk_St) (f a : Nat) (v : Int64) : hk_aR (hk_saL st f a v) = hk_aR st := Eq.trans rfl rfl
theorem k_saR (st : hk_St) (f a : Nat) (v : Option Nat) : hk_k (hk_saR st f a v) = hk_k st := Eq.trans rfl rfl
theorem nx_saR (st : hk_St) (f a : Nat) (v : Option Nat) : hk_nx (hk_saR st f a v) = hk_nx st := Eq.trans rfl rfl
theorem nc_saR (st : hk_St) (f a : Nat) (v : Option Nat) : hk_nc (hk_saR st f a v) = hk_nc st := Eq.trans rfl rfl
theorem ns_saR (st : hk_St) (f a : Nat) (v : Option Nat) : hk_ns (hk_saR st f a v) = hk_ns st := Eq.trans rfl rfl
theorem fI_saR (st : hk_St) (f a : Nat) (v : Option Nat) : hk_fI (hk_saR st f a v) = hk_fI st := Eq.trans rfl rfl
theorem fL_saR (st : hk_St) (f a : Nat) (v : Option Nat) : hk_fL (hk_saR st f a v) = hk_fL st := Eq.trans rfl rfl
theorem fR_saR (st : hk_St) (f a : Nat) (v : Option Nat) : hk_fR (hk_saR st f a v) = hk_fR st := Eq.trans rfl rfl
theorem aI_saR (st : hk_St) (f a : Nat) (v : Option Nat) : hk_aI (hk_saR st f a v) = hk_aI st := Eq.trans rfl rfl
theorem aL_saR (st : hk_St) (f a : Nat) (v : Option Nat) : hk_aL (hk_saR st f a v) = hk_aL st := Eq.trans rfl rfl
theorem aR_saR (st : hk_St) (f a : Nat) (v : Option Nat) (g c : Nat) : hk_aR (hk_saR st f a v) g c = if g = f ∧ c = a then v else hk_aR st g c := Eq.trans rfl rfl
theorem k_mk (st : hk_St) (t len sl : Nat) (a : Nat) : hk_k (hk_mk st t len sl) a = if a = hk_nx st then some (t, len) else hk_k st a := Eq.trans rfl rfl
theorem fI_mk (st : hk_St) (t len sl : Nat) (f a : Nat) : hk_fI (hk_mk st t len sl) f a = if a = hk_nx st then 0 else hk_fI st f a := Eq.trans rfl rfl
theorem fL_mk (st : hk_St) (t len sl : Nat) (f a : Nat) : hk_fL (hk_mk st t len sl) f a = if a = hk_nx st then 0 else hk_fL st f a := Eq.trans rfl rfl
theorem fR_mk (st : hk_St) (t len sl : Nat) (f a : Nat) : hk_fR (hk_mk st t len sl) f a = if a = hk_nx st then none else hk_fR st f a := Eq.trans rfl rfl
theorem aI_mk (st : hk_St) (t len sl : Nat) (a j : Nat) : hk_aI (hk_mk st t len sl) a j = if a = hk_nx st then 0 else hk_aI st a j := Eq.trans rfl rfl
theorem aL_mk (st : hk_St) (t len sl : Nat) (a j : Nat) : hk_aL (hk_mk st t len sl) a j = if a = hk_nx st then 0 else hk_aL st a j := Eq.trans rfl rfl
theorem aR_mk (st : hk_St) (t len sl : Nat) (a j : Nat) : hk_aR (hk_mk st t len sl) a j = if a = hk_nx st then none else hk_aR st a j := Eq.trans rfl rfl
theorem nx_mk (st : hk_St) (t len sl : Nat) : hk_nx (hk_mk st t len sl) = hk_nx st + 1 := Eq.trans rfl rfl
theorem nc_mk (st : hk_St) (t len sl : Nat) : hk_nc (hk_mk st t len sl) = hk_nc st + 1 := Eq.trans rfl rfl
theorem ns_mk (st : hk_St) (t len sl : Nat) : hk_ns (hk_mk st t len sl) = hk_ns st + sl := Eq.trans rfl rfl
