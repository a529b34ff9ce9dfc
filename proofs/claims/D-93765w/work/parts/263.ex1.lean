set_option maxRecDepth 100000
/-! ===== STAGE 1, methods that throw: rules ===== -/
section HX1
variable {Gd : hk_G} {N : hk_N} {E : hk_E} {pc : Nat} {L : List (Nat × Value)} {S : List Value} {st : hk_St} {F : hk_K → Prop}
theorem hx_iald {hh : List (Nat × Nat × Nat × Nat)} {a n : Nat} {i : Int32} (hE : hk_EF E (hx_F Gd hh)) (hk : hk_k st a = some (100, n)) (hn : n < 2 ^ 31) (hout : ¬ vp_in i n) (hfr : 8 < N.2.2.2.2.2.1) (hlo : 10300 ≤ N.2.2.2.2.2.2.1) (hr : (S.map fun v => v.category).sum ≤ 60) (d : decode N.2.1 pc = .ok (.iaload, 1))
    (k : hk_VT Gd N E (hx_F Gd hh) pc L (hk_cs st 3 222) "java/lang/ArrayIndexOutOfBoundsException") : hk_V Gd N E pc L (.int i :: .ref a :: S) st := by
  refine ⟨Nat.le_trans (Nat.le_add_right _ 3) k.1, Nat.le_trans (Nat.le_add_right _ 222) k.2.1, fun p l e R s m args below meth c X H locs cells slots ls hl hR hS h1 h2 => hx_by hE fun hF => ?_⟩
  have hat := hk_arrI (ty := 0) (hR.2.2.2 a _ n hk).2.2 (by decide)
  refine vx_ialdZ X.1 X.2.1 X.2.2.2.2.2.2.2.1.1 (hk_P1 (q := (a, .inl (Gd.2.1 0, n, .inl (hk_aI st a)))) hat) 0 0 rfl (hk_tys_at Gd (by decide) rfl) hout d (fun tx htx => ?_)
  subst htx
  exact hx_note (nb := 212) k (by decide +kernel) (by decide +kernel) (by decide +kernel) (by decide +kernel) (by decide) hx_wAI (index_text_modelled i n) (index_text_bytes i hn) (by decide) hfr hlo hr X hF hl hR hS h1 h2
theorem hx_bald {hh : List (Nat × Nat × Nat × Nat)} {a n : Nat} {i : Int32} (hE : hk_EF E (hx_F Gd hh)) (hk : hk_k st a = some (101, n)) (hn : n < 2 ^ 31) (hout : ¬ vp_in i n) (hfr : 8 < N.2.2.2.2.2.1) (hlo : 10300 ≤ N.2.2.2.2.2.2.1) (hr : (S.map fun v => v.category).sum ≤ 60) (d : decode N.2.1 pc = .ok (.baload, 1))
    (k : hk_VT Gd N E (hx_F Gd hh) pc L (hk_cs st 3 222) "java/lang/ArrayIndexOutOfBoundsException") : hk_V Gd N E pc L (.int i :: .ref a :: S) st := by
  refine ⟨Nat.le_trans (Nat.le_add_right _ 3) k.1, Nat.le_trans (Nat.le_add_right _ 222) k.2.1, fun p l e R s m args below meth c X H locs cells slots ls hl hR hS h1 h2 => hx_by hE fun hF => ?_⟩
  have hat := hk_arrI (ty := 1) (hR.2.2.2 a _ n hk).2.2 (by decide)
  refine vx_baldZ X.1 X.2.1 X.2.2.2.2.2.2.2.1.1 (hk_P1 (q := (a, .inl (Gd.2.1 1, n, .inl (hk_aI st a)))) hat) 0 1 rfl (hk_tys_at Gd (by decide) rfl) hout d (fun tx htx => ?_)
  subst htx
  exact hx_note (nb := 212) k (by decide +kernel) (by decide +kernel) (by decide +kernel) (by decide +kernel) (by decide) hx_wAI (index_text_modelled i n) (index_text_bytes i hn) (by decide) hfr hlo hr X hF hl hR hS h1 h2
theorem hx_sald {hh : List (Nat × Nat × Nat × Nat)} {a n : Nat} {i : Int32} (hE : hk_EF E (hx_F Gd hh)) (hk : hk_k st a = some (102, n)) (hn : n < 2 ^ 31) (hout : ¬ vp_in i n) (hfr : 8 < N.2.2.2.2.2.1) (hlo : 10300 ≤ N.2.2.2.2.2.2.1) (hr : (S.map fun v => v.category).sum ≤ 60) (d : decode N.2.1 pc = .ok (.saload, 1))
    (k : hk_VT Gd N E (hx_F Gd hh) pc L (hk_cs st 3 222) "java/lang/ArrayIndexOutOfBoundsException") : hk_V Gd N E pc L (.int i :: .ref a :: S) st := by
  refine ⟨Nat.le_trans (Nat.le_add_right _ 3) k.1, Nat.le_trans (Nat.le_add_right _ 222) k.2.1, fun p l e R s m args below meth c X H locs cells slots ls hl hR hS h1 h2 => hx_by hE fun hF => ?_⟩
  have hat := hk_arrI (ty := 2) (hR.2.2.2 a _ n hk).2.2 (by decide)
  refine vx_saldZ X.1 X.2.1 X.2.2.2.2.2.2.2.1.1 (hk_P1 (q := (a, .inl (Gd.2.1 2, n, .inl (hk_aI st a)))) hat) 0 2 rfl (hk_tys_at Gd (by decide) rfl) hout d (fun tx htx => ?_)
  subst htx
  exact hx_note (nb := 212) k (by decide +kernel) (by decide +kernel) (by decide +kernel) (by decide +kernel) (by decide) hx_wAI (index_text_modelled i n) (index_text_bytes i hn) (by decide) hfr hlo hr X hF hl hR hS h1 h2
theorem hx_zald {hh : List (Nat × Nat × Nat × Nat)} {a n : Nat} {i : Int32} (hE : hk_EF E (hx_F Gd hh)) (hk : hk_k st a = some (103, n)) (hn : n < 2 ^ 31) (hout : ¬ vp_in i n) (hfr : 8 < N.2.2.2.2.2.1) (hlo : 10300 ≤ N.2.2.2.2.2.2.1) (hr : (S.map fun v => v.category).sum ≤ 60) (d : decode N.2.1 pc = .ok (.baload, 1))
    (k : hk_VT Gd N E (hx_F Gd hh) pc L (hk_cs st 3 222) "java/lang/ArrayIndexOutOfBoundsException") : hk_V Gd N E pc L (.int i :: .ref a :: S) st := by
  refine ⟨Nat.le_trans (Nat.le_add_right _ 3) k.1, Nat.le_trans (Nat.le_add_right _ 222) k.2.1, fun p l e R s m args below meth c X H locs cells slots ls hl hR hS h1 h2 => hx_by hE fun hF => ?_⟩
  have hat := hk_arrI (ty := 3) (hR.2.2.2 a _ n hk).2.2 (by decide)
  refine vx_zaldZ X.1 X.2.1 X.2.2.2.2.2.2.2.1.1 (hk_P1 (q := (a, .inl (Gd.2.1 3, n, .inl (hk_aI st a)))) hat) 0 3 rfl (hk_tys_at Gd (by decide) rfl) hout d (fun tx htx => ?_)
  subst htx
  exact hx_note (nb := 212) k (by decide +kernel) (by decide +kernel) (by decide +kernel) (by decide +kernel) (by decide) hx_wAI (index_text_modelled i n) (index_text_bytes i hn) (by decide) hfr hlo hr X hF hl hR hS h1 h2
theorem hx_lald {hh : List (Nat × Nat × Nat × Nat)} {a n : Nat} {i : Int32} (hE : hk_EF E (hx_F Gd hh)) (hk : hk_k st a = some (104, n)) (hn : n < 2 ^ 31) (hout : ¬ vp_in i n) (hfr : 8 < N.2.2.2.2.2.1) (hlo : 10300 ≤ N.2.2.2.2.2.2.1) (hr : (S.map fun v => v.category).sum ≤ 60) (d : decode N.2.1 pc = .ok (.laload, 1))
    (k : hk_VT Gd N E (hx_F Gd hh) pc L (hk_cs st 3 222) "java/lang/ArrayIndexOutOfBoundsException") : hk_V Gd N E pc L (.int i :: .ref a :: S) st := by
  refine ⟨Nat.le_trans (Nat.le_add_right _ 3) k.1, Nat.le_trans (Nat.le_add_right _ 222) k.2.1, fun p l e R s m args below meth c X H locs cells slots ls hl hR hS h1 h2 => hx_by hE fun hF => ?_⟩
  have hat := hk_arrL (hR.2.2.2 a _ n hk).2.2
  refine vx_laldZ X.1 X.2.1 X.2.2.2.2.2.2.2.1.1 (hk_P1 (q := (a, .inl (Gd.2.1 4, n, .inr (.inl (hk_aL st a))))) hat) 0 4 rfl (hk_tys_at Gd (by decide) rfl) hout d (fun tx htx => ?_)
  subst htx
  exact hx_note (nb := 212) k (by decide +kernel) (by decide +kernel) (by decide +kernel) (by decide +kernel) (by decide) hx_wAI (index_text_modelled i n) (index_text_bytes i hn) (by decide) hfr hlo hr X hF hl hR hS h1 h2
theorem hx_iast {hh : List (Nat × Nat × Nat × Nat)} {a n : Nat} {i : Int32} {x : Int32} (hE : hk_EF E (hx_F Gd hh)) (hk : hk_k st a = some (100, n)) (hn : n < 2 ^ 31) (hout : ¬ vp_in i n) (hfr : 8 < N.2.2.2.2.2.1) (hlo : 10300 ≤ N.2.2.2.2.2.2.1) (hr : (S.map fun v => v.category).sum ≤ 60) (d : decode N.2.1 pc = .ok (.iastore, 1))
    (k : hk_VT Gd N E (hx_F Gd hh) pc L (hk_cs st 3 222) "java/lang/ArrayIndexOutOfBoundsException") : hk_V Gd N E pc L (.int x :: .int i :: .ref a :: S) st := by
  refine ⟨Nat.le_trans (Nat.le_add_right _ 3) k.1, Nat.le_trans (Nat.le_add_right _ 222) k.2.1, fun p l e R s m args below meth c X H locs cells slots ls hl hR hS h1 h2 => hx_by hE fun hF => ?_⟩
  have hat := hk_arrI (ty := 0) (hR.2.2.2 a _ n hk).2.2 (by decide)
  refine vx_iastZ X.1 X.2.1 X.2.2.2.2.2.2.2.1.1 (hk_P1 (q := (a, .inl (Gd.2.1 0, n, .inl (hk_aI st a)))) hat) 0 0 rfl (hk_tys_at Gd (by decide) rfl) hout d (fun tx htx => ?_)
  subst htx
  exact hx_note (nb := 212) k (by decide +kernel) (by decide +kernel) (by decide +kernel) (by decide +kernel) (by decide) hx_wAI (index_text_modelled i n) (index_text_bytes i hn) (by decide) hfr hlo hr X hF hl hR hS h1 h2
theorem hx_bast {hh : List (Nat × Nat × Nat × Nat)} {a n : Nat} {i : Int32} {x : Int32} (hE : hk_EF E (hx_F Gd hh)) (hk : hk_k st a = some (101, n)) (hn : n < 2 ^ 31) (hout : ¬ vp_in i n) (hfr : 8 < N.2.2.2.2.2.1) (hlo : 10300 ≤ N.2.2.2.2.2.2.1) (hr : (S.map fun v => v.category).sum ≤ 60) (d : decode N.2.1 pc = .ok (.bastore, 1))
    (k : hk_VT Gd N E (hx_F Gd hh) pc L (hk_cs st 3 222) "java/lang/ArrayIndexOutOfBoundsException") : hk_V Gd N E pc L (.int x :: .int i :: .ref a :: S) st := by
  refine ⟨Nat.le_trans (Nat.le_add_right _ 3) k.1, Nat.le_trans (Nat.le_add_right _ 222) k.2.1, fun p l e R s m args below meth c X H locs cells slots ls hl hR hS h1 h2 => hx_by hE fun hF => ?_⟩
  have hat := hk_arrI (ty := 1) (hR.2.2.2 a _ n hk).2.2 (by decide)
  refine vx_bastZ X.1 X.2.1 X.2.2.2.2.2.2.2.1.1 (hk_P1 (q := (a, .inl (Gd.2.1 1, n, .inl (hk_aI st a)))) hat) 0 1 rfl (hk_tys_at Gd (by decide) rfl) hout d (fun tx htx => ?_)
  subst htx
  exact hx_note (nb := 212) k (by decide +kernel) (by decide +kernel) (by decide +kernel) (by decide +kernel) (by decide) hx_wAI (index_text_modelled i n) (index_text_bytes i hn) (by decide) hfr hlo hr X hF hl hR hS h1 h2
theorem hx_sast {hh : List (Nat × Nat × Nat × Nat)} {a n : Nat} {i : Int32} {x : Int32} (hE : hk_EF E (hx_F Gd hh)) (hk : hk_k st a = some (102, n)) (hn : n < 2 ^ 31) (hout : ¬ vp_in i n) (hfr : 8 < N.2.2.2.2.2.1) (hlo : 10300 ≤ N.2.2.2.2.2.2.1) (hr : (S.map fun v => v.category).sum ≤ 60) (d : decode N.2.1 pc = .ok (.sastore, 1))
    (k : hk_VT Gd N E (hx_F Gd hh) pc L (hk_cs st 3 222) "java/lang/ArrayIndexOutOfBoundsException") : hk_V Gd N E pc L (.int x :: .int i :: .ref a :: S) st := by
  refine ⟨Nat.le_trans (Nat.le_add_right _ 3) k.1, Nat.le_trans (Nat.le_add_right _ 222) k.2.1, fun p l e R s m args below meth c X H locs cells slots ls hl hR hS h1 h2 => hx_by hE fun hF => ?_⟩
  have hat := hk_arrI (ty := 2) (hR.2.2.2 a _ n hk).2.2 (by decide)
  refine vx_sastZ X.1 X.2.1 X.2.2.2.2.2.2.2.1.1 (hk_P1 (q := (a, .inl (Gd.2.1 2, n, .inl (hk_aI st a)))) hat) 0 2 rfl (hk_tys_at Gd (by decide) rfl) hout d (fun tx htx => ?_)
  subst htx
  exact hx_note (nb := 212) k (by decide +kernel) (by decide +kernel) (by decide +kernel) (by decide +kernel) (by decide) hx_wAI (index_text_modelled i n) (index_text_bytes i hn) (by decide) hfr hlo hr X hF hl hR hS h1 h2
theorem hx_zast {hh : List (Nat × Nat × Nat × Nat)} {a n : Nat} {i : Int32} {x : Int32} (hE : hk_EF E (hx_F Gd hh)) (hk : hk_k st a = some (103, n)) (hn : n < 2 ^ 31) (hout : ¬ vp_in i n) (hfr : 8 < N.2.2.2.2.2.1) (hlo : 10300 ≤ N.2.2.2.2.2.2.1) (hr : (S.map fun v => v.category).sum ≤ 60) (d : decode N.2.1 pc = .ok (.bastore, 1))
    (k : hk_VT Gd N E (hx_F Gd hh) pc L (hk_cs st 3 222) "java/lang/ArrayIndexOutOfBoundsException") : hk_V Gd N E pc L (.int x :: .int i :: .ref a :: S) st := by
  refine ⟨Nat.le_trans (Nat.le_add_right _ 3) k.1, Nat.le_trans (Nat.le_add_right _ 222) k.2.1, fun p l e R s m args below meth c X H locs cells slots ls hl hR hS h1 h2 => hx_by hE fun hF => ?_⟩
  have hat := hk_arrI (ty := 3) (hR.2.2.2 a _ n hk).2.2 (by decide)
  refine vx_zastZ X.1 X.2.1 X.2.2.2.2.2.2.2.1.1 (hk_P1 (q := (a, .inl (Gd.2.1 3, n, .inl (hk_aI st a)))) hat) 0 3 rfl (hk_tys_at Gd (by decide) rfl) hout d (fun tx htx => ?_)
  subst htx
  exact hx_note (nb := 212) k (by decide +kernel) (by decide +kernel) (by decide +kernel) (by decide +kernel) (by decide) hx_wAI (index_text_modelled i n) (index_text_bytes i hn) (by decide) hfr hlo hr X hF hl hR hS h1 h2
theorem hx_last {hh : List (Nat × Nat × Nat × Nat)} {a n : Nat} {i : Int32} {x : Int64} (hE : hk_EF E (hx_F Gd hh)) (hk : hk_k st a = some (104, n)) (hn : n < 2 ^ 31) (hout : ¬ vp_in i n) (hfr : 8 < N.2.2.2.2.2.1) (hlo : 10300 ≤ N.2.2.2.2.2.2.1) (hr : (S.map fun v => v.category).sum ≤ 60) (d : decode N.2.1 pc = .ok (.lastore, 1))
    (k : hk_VT Gd N E (hx_F Gd hh) pc L (hk_cs st 3 222) "java/lang/ArrayIndexOutOfBoundsException") : hk_V Gd N E pc L (.long x :: .int i :: .ref a :: S) st := by
  refine ⟨Nat.le_trans (Nat.le_add_right _ 3) k.1, Nat.le_trans (Nat.le_add_right _ 222) k.2.1, fun p l e R s m args below meth c X H locs cells slots ls hl hR hS h1 h2 => hx_by hE fun hF => ?_⟩
  have hat := hk_arrL (hR.2.2.2 a _ n hk).2.2
  refine vx_lastZ X.1 X.2.1 X.2.2.2.2.2.2.2.1.1 (hk_P1 (q := (a, .inl (Gd.2.1 4, n, .inr (.inl (hk_aL st a))))) hat) 0 4 rfl (hk_tys_at Gd (by decide) rfl) hout d (fun tx htx => ?_)
  subst htx
  exact hx_note (nb := 212) k (by decide +kernel) (by decide +kernel) (by decide +kernel) (by decide +kernel) (by decide) hx_wAI (index_text_modelled i n) (index_text_bytes i hn) (by decide) hfr hlo hr X hF hl hR hS h1 h2
theorem hx_newaZ {hh : List (Nat × Nat × Nat × Nat)} {atype : ArrayType} {n : Int32} (hE : hk_EF E (hx_F Gd hh)) (h0 : n < 0) (hfr : 8 < N.2.2.2.2.2.1) (hlo : 10300 ≤ N.2.2.2.2.2.2.1) (hr : (S.map fun v => v.category).sum ≤ 60) (d : decode N.2.1 pc = .ok (.newarray atype, 2))
    (k : hk_VT Gd N E (hx_F Gd hh) pc L (hk_cs st 3 54) "java/lang/NegativeArraySizeException") : hk_V Gd N E pc L (.int n :: S) st := by
  refine ⟨Nat.le_trans (Nat.le_add_right _ 3) k.1, Nat.le_trans (Nat.le_add_right _ 54) k.2.1, fun p l e R s m args below meth c X H locs cells slots ls hl hR hS h1 h2 => hx_by hE fun hF => ?_⟩
  refine vx_newarrayZ X.1 X.2.1 h0 d (fun tx htx => ?_)
  subst htx
  exact hx_note (nb := 44) k (by decide +kernel) (by decide +kernel) (by decide +kernel) (by decide +kernel) (by decide) hx_wNA (negative_text_modelled h0) (negative_text_bytes n) (by decide) hfr hlo hr X hF hl hR hS h1 h2
/-- a call on null, the named method has code -/
theorem hx_invN {hh : List (Nat × Nat × Nat × Nat)} {C : String} {index maxL : Nat} {y : MethodName} {bytes : ByteArray} {ret : Option FieldType} (As rest : List Value) (hE : hk_EF E (hx_F Gd hh)) (q1 : Cond.methodLink N.2.2.1 index y ∈ lw_all) (q2 : Cond.instanceMethod y ∈ lw_all) (q3 : Cond.code y bytes maxL ret ∈ lw_all) (q4 : Cond.selects C y y ∈ lw_all)
    (hx : y.cls ≠ "java/lang/invoke/MethodHandle" ∧ y.cls ≠ "java/lang/invoke/VarHandle") (hlen : (parseMethodDescriptor y.desc).map (fun d => d.parameters.length) = some As.length) (hst : S = As.reverse ++ .null :: rest) (hfr : 8 < N.2.2.2.2.2.1) (hlo : 10300 ≤ N.2.2.2.2.2.2.1) (hr : (rest.map fun v => v.category).sum ≤ 60) (d : decode N.2.1 pc = .ok (.invokevirtual index, 3))
    (k : hk_VT Gd N E (hx_F Gd hh) pc L (hk_cs st 1 8) "java/lang/NullPointerException") : hk_V Gd N E pc L S st := by
  refine ⟨Nat.le_trans (Nat.le_add_right _ 1) k.1, Nat.le_trans (Nat.le_add_right _ 8) k.2.1, fun p l e R s m args below meth c X H locs cells slots ls hl hR hS h1 h2 => hx_by hE fun hF => ?_⟩
  have hts := X.2.2.2.1
  exact vx_invokeN X.1 X.2.1 X.2.2.1 (hts _ q1) (hts _ q2) (hts _ q3) (hts _ q4) hx hlen d (hx_npe k hfr hlo hr X hF hl hR hS h1 h2) hst
/-- a call on null, the named method is abstract -/
theorem hx_invNA {hh : List (Nat × Nat × Nat × Nat)} {index : Nat} {y : MethodName} (As rest : List Value) (hE : hk_EF E (hx_F Gd hh)) (q1 : Cond.methodLink N.2.2.1 index y ∈ lw_all) (q2 : Cond.declares y ∈ lw_tbl) (q3 : Cond.sameMethod y.cls y.cls y.name y.desc ∈ lw_all)
    (hx : y.cls ≠ "java/lang/invoke/MethodHandle" ∧ y.cls ≠ "java/lang/invoke/VarHandle") (hlen : (parseMethodDescriptor y.desc).map (fun d => d.parameters.length) = some As.length) (hst : S = As.reverse ++ .null :: rest) (hfr : 8 < N.2.2.2.2.2.1) (hlo : 10300 ≤ N.2.2.2.2.2.2.1) (hr : (rest.map fun v => v.category).sum ≤ 60) (d : decode N.2.1 pc = .ok (.invokevirtual index, 3))
    (k : hk_VT Gd N E (hx_F Gd hh) pc L (hk_cs st 1 8) "java/lang/NullPointerException") : hk_V Gd N E pc L S st := by
  refine ⟨Nat.le_trans (Nat.le_add_right _ 1) k.1, Nat.le_trans (Nat.le_add_right _ 8) k.2.1, fun p l e R s m args below meth c X H locs cells slots ls hl hR hS h1 h2 => hx_by hE fun hF => ?_⟩
  have hts := X.2.2.2.1
  have kN := hx_npe (rest := rest) k hfr hlo hr X hF hl hR hS h1 h2
  intro T hT X9
  obtain ⟨r0, r, hn, hrm, hstR, hsigR⟩ := va_Decl.abs (X.2.2.2.2.2.2.2.1.2.1 _ q2 rfl)
  obtain ⟨cn, ck, r1, hcn, hck, hni, hf, hn1⟩ := Cond.sameMethod_found (hts _ q3)
  have hc2 : s.vm.findClass y.cls = some r0.cls := findClass_of_methodNamed hn
  have e2 : cn = r0.cls := Option.some.inj (hcn.symm.trans hc2)
  subst e2
  have hl9 : As.length = r.sig.parameters.length := by
    rw [hsigR] at hlen
    exact (Option.some.inj hlen).symm
  obtain ⟨vm', X1, st1⟩ := X9.invokevirtualNull X.1 X.2.2.1 (hts _ q1) hn hrm hstR hck hni hx (g := F0 m pc ls S) rfl (argsL := As) (rest := rest) hl9 hst (by rw [X.2.1]; exact d)
  obtain ⟨t, st9, q⟩ := kN (T.setVm vm') hT X1
  exact ⟨t, st1 t st9, q⟩
/-- caught by a row of the table -/
theorem hx_catch {EC name : String} {A B : List (Nat × Nat × Nat × Nat)} {b : Nat × Nat × Nat × Nat} (hb : b.1 ≤ pc ∧ pc < b.2.1) (h0 : b.2.2.2 ≠ 0) (q1 : Cond.classLink N.2.2.1 b.2.2.2 name ∈ lw_all) (q2 : Cond.castable EC name ∈ lw_tbl)
    (hA : ∀ z ∈ A, ¬ (z.1 ≤ pc ∧ pc < z.2.1) ∨ (z.2.2.2 ≠ 0 ∧ ∃ nm : String, Cond.classLink N.2.2.1 z.2.2.2 nm ∈ lw_all ∧ (EC, nm) ∈ hx_ncs)) (k : ∀ q z, hk_nx st ≤ z → hk_V Gd N E b.2.2.1 L [.ref q] (hk_bz st z)) : hk_VT Gd N E (hx_F Gd (A ++ b :: B)) pc L st EC := by
  refine ⟨(k 0 _ (Nat.le_refl _)).1, (k 0 _ (Nat.le_refl _)).2.1, fun p l e R s m args below meth c X hF H locs cells slots ls rest q ce z hl hz hR hS h1 h2 h3 h4 h5 => ?_⟩
  have hts := X.2.2.2.1
  have kW := (k q z hz).2.2 p l e R s m args below meth c X H locs cells slots ls hl hR hS h1 h2
  have ht : c.exceptionTable.toList = tableOf A ++ (⟨b.1, b.2.1, b.2.2.1, b.2.2.2⟩ : ExceptionTableEntry) :: tableOf B := by
    rw [hF.2.2]
    simp [tableOf]
  refine vx_catch (name := name) X.2.2.1 _ _ _ ht (fun z hz => ?_) ?_ h0 (hts _ q1) (va_Nw.use rfl (X.2.2.2.2.2.2.2.1.2.1 _ q2 rfl)) h3 h4 h5 kW
  · obtain ⟨y, hy, rfl⟩ : ∃ y ∈ A, (⟨y.1, y.2.1, y.2.2.1, y.2.2.2⟩ : ExceptionTableEntry) = z := by
      simp only [tableOf, List.mem_map] at hz
      exact hz
    rcases hA y hy with h | ⟨h6, nm, h7, h8⟩
    · exact Or.inl (by simp [covers]; omega)
    · exact Or.inr ⟨h6, nm, hts _ h7, hF.2.1.2.2.1 _ h8⟩
  · simp [covers]
    omega
end HX1
