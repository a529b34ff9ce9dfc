set_option maxRecDepth 100000
/-! ===== STAGE 1, methods that throw: a cast that fails ===== -/
theorem hx_mod {vm : Vm} {k : Class} {mi : ModuleInfo} (hl : k.loader = none) (hp : packageOf k.name = "") (hm : (vm.modules.all fun m => m.loader.isSome || m.name == "java.base" || !(castPackages_1.any fun p => m.packages.contains p)) = true) (h : vm.moduleOf k = some mi) : mi.name = "java.base" := by
  unfold Vm.moduleOf at h
  split at h
  · have h1 := List.find?_some h
    exact eq_of_beq (show (mi.name == "java.base") = true from h1)
  · have h1 := List.find?_some h
    have h2 := List.mem_of_find?_eq_some h
    have h3 := List.all_eq_true.mp hm _ h2
    rw [hl, hp] at h1
    simp only [Bool.and_eq_true] at h1
    have h4 : mi.loader = none := eq_of_beq h1.1
    have h5 : (castPackages_1.any fun p => mi.packages.contains p) = true := List.any_eq_true.mpr ⟨"", by unfold castPackages_1; exact List.mem_cons_self, h1.2⟩
    rw [h4, h5] at h3
    simpa using h3
theorem hx_home {vm : Vm} {k : Class} (hl : k.loader = none) (hp : packageOf k.name = "") (hm : (vm.modules.all fun m => m.loader.isSome || m.name == "java.base" || !(castPackages_1.any fun p => m.packages.contains p)) = true) : (vm.home k).toList.length ≤ 40 := by
  unfold Vm.home
  rw [hl]
  have h1 : (vm.loaderName none).toList.length = 11 := by show ("'bootstrap'").toList.length = 11; decide
  have h2 : (" of loader ").toList.length = 11 := by decide
  cases h : vm.moduleOf k with
  | none =>
    have h3 : ("unnamed module").toList.length = 14 := by decide
    simp only [String.toList_append, List.length_append]
    omega
  | some m =>
    have hn := hx_mod hl hp hm h
    have h3 : ("module ").toList.length = 7 := by decide
    have h4 : ("java.base").toList.length = 9 := by decide
    simp only [String.toList_append, List.length_append, hn]
    omega
theorem hx_shown {k : Class} (hh : k.hidden = none) : k.shown.toList.length = k.name.toList.length := by
  unfold Class.shown
  rw [hh]
  show (String.ofList (k.name.toList.map _)).toList.length = _
  rw [String.toList_ofList, List.length_map]
theorem hx_msg {vm : Vm} {a b : Class} (a1 : a.hidden = none) (a2 : a.loader = none) (a3 : packageOf a.name = "") (a4 : a.name.toList.length ≤ 24) (b1 : b.hidden = none) (b2 : b.loader = none) (b3 : packageOf b.name = "") (b4 : b.name.toList.length ≤ 24)
    (hm : (vm.modules.all fun m => m.loader.isSome || m.name == "java.base" || !(castPackages_1.any fun p => m.packages.contains p)) = true) : ((Op.checkcast.message vm a b) == notModelled) = false ∧ (stringBytes (stringToUtf16 (Op.checkcast.message vm a b))).size ≤ 1000 := by
  have ha := hx_shown a1
  have hb := hx_shown b1
  have hh : (vm.homes a b).toList.length ≤ 144 := by
    have e1 := hx_home a2 a3 hm
    have e2 := hx_home b2 b3 hm
    unfold Vm.homes
    split
    · show (toString a.shown ++ toString " and " ++ toString b.shown ++ toString " are in " ++ toString (vm.home a)).toList.length ≤ 144
      have t1 : (toString " and ").toList.length = 5 := by decide
      have t2 : (toString " are in ").toList.length = 8 := by decide
      simp only [String.toList_append, List.length_append]
      show a.shown.toList.length + _ + b.shown.toList.length + _ + (vm.home a).toList.length ≤ 144
      omega
    · show (toString a.shown ++ toString " is in " ++ toString (vm.home a) ++ toString "; " ++ toString b.shown ++ toString " is in " ++ toString (vm.home b)).toList.length ≤ 144
      have t1 : (toString " is in ").toList.length = 7 := by decide
      have t2 : (toString "; ").toList.length = 2 := by decide
      simp only [String.toList_append, List.length_append]
      show a.shown.toList.length + _ + (vm.home a).toList.length + _ + b.shown.toList.length + _ + (vm.home b).toList.length ≤ 144
      omega
  have hs : (Op.checkcast.message vm a b).toList = "class ".toList ++ a.shown.toList ++ " cannot be cast to class ".toList ++ b.shown.toList ++ " (".toList ++ (vm.homes a b).toList ++ ")".toList := by
    show (toString "class " ++ toString a.shown ++ toString " cannot be cast to class " ++ toString b.shown ++ toString " (" ++ toString (vm.homes a b) ++ toString ")").toList = _
    simp only [String.toList_append]
    rfl
  refine ⟨?_, ?_⟩
  · rw [beq_eq_false_iff_ne]
    intro h
    have h2 := congrArg String.toList h
    have h4 : notModelled.toList = '\u0000' :: " a message that is not modelled".toList := by decide
    rw [hs, h4, show "class ".toList = 'c' :: "lass ".toList by decide] at h2
    simp at h2
  · have b1 := stringBytes_size_le (stringToUtf16 (Op.checkcast.message vm a b))
    have b2 := utf16_size_le (Op.checkcast.message vm a b)
    have hl : (Op.checkcast.message vm a b).toList.length ≤ 250 := by
      rw [hs]
      have t1 : ("class ").toList.length = 6 := by decide
      have t2 : (" cannot be cast to class ").toList.length = 25 := by decide
      have t3 : (" (").toList.length = 2 := by decide
      have t4 : (")").toList.length = 1 := by decide
      simp only [List.length_append]
      omega
    omega
theorem hx_find {vm : Vm} {name : String} {c : ClassId} (h : vm.findClass name = some c) : ∃ k, vm.classes[c]? = some k ∧ k.name = name ∧ k.hidden = none ∧ k.loader = none := by
  obtain ⟨hlt, hp, _⟩ := Array.findIdx?_eq_some_iff_getElem.mp h
  refine ⟨vm.classes[c], by simp [hlt], ?_⟩
  simp only [Bool.and_eq_true, beq_iff_eq] at hp
  exact ⟨hp.1.1.1, Option.isNone_iff_eq_none.mp hp.1.1.2, Option.isNone_iff_eq_none.mp hp.2⟩
section HX2
variable {p : Program} {l : Launch} {e : Env} {R : Room} {s : State} {m : MethodId} {args : Array Value} {below : List Frame} {meth : Method} {c : Code} {T : State} {locs : List Loc} {cells slots : Nat}
theorem hx_castNo (X : Stand p l e R s m args below meth c T locs cells slots) (hexec : p.tables.exec = Jvm.exec) {own name C : String} {index : Nat} (hown : s.vm.findClass own = some m.cls) (hlink : (Cond.classLink own index name).before args s = true)
    {a : Addr} {cell : Cell} (hcell : T.heap[a]? = some cell) (hobj : cell.vm.isStatics = false) (hC : s.vm.findClass C = some cell.cls) (hnc : va_Nc C name s) (hm : modulesRight_1 s = true) (hpk : packageOf C = "" ∧ packageOf name = "") (hln : C.toList.length ≤ 24 ∧ name.toList.length ≤ 24)
    {g : JFrame} (hg : g.method = m) {rest : List Value} (hstack : g.stack = .ref a :: rest) (hdg : decode c.code g.pc = .ok (.checkcast index, 3)) :
    ∃ vm' tx, Stand p l e R s m args below meth c (T.setVm vm') locs cells slots ∧ (tx == notModelled) = false ∧ (stringBytes (stringToUtf16 tx)).size ≤ 1000 ∧
      ∀ target, Steps p.tables e below (((T.setVm vm').setTop g).pushFrame (.throwNew "java/lang/ClassCastException" (some tx) none)) target → Steps p.tables e below (T.setTop g) target := by
  have hpl : e.platform.magicAccessors = ({} : Platform).magicAccessors := by rw [X.admits.platform]
  obtain ⟨cT, hcT, hcl⟩ := Cond.classLink_spec hown hlink e.platform hpl
  obtain ⟨c1, c2, n1, n2, n3⟩ := hnc
  cases hC.symm.trans n1
  cases hcT.symm.trans n2
  obtain ⟨dk, _, _, kt0, hd, _, _, _, _, hkt0, _, hopen⟩ := hcl.here
  have hcl₀ := X.warmed.classLinks hcl
  have hW' : s.WarmedH (T.vm.noted m.cls index (.cls cT)) := X.warmed.noted hd hopen (State.rightAt_cls hcl)
  obtain ⟨ks, hks, s1, s2, s3⟩ := hx_find hC
  obtain ⟨kt, hkt, t1, t2, t3⟩ := hx_find hcT
  obtain ⟨ks', hks', es⟩ := hW'.alike.2.2 _ _ hks
  obtain ⟨kt', hkt', et⟩ := hW'.alike.2.2 _ _ hkt
  have hm2 : ((T.vm.noted m.cls index (.cls cT)).modules.all fun m => m.loader.isSome || m.name == "java.base" || !(castPackages_1.any fun p => m.packages.contains p)) = true := by
    have e1 : (T.vm.noted m.cls index (.cls cT)).modules = s.vm.modules := by rw [hW'.alike.1]
    rw [e1]
    exact hm
  have hq := hx_msg (vm := T.vm.noted m.cls index (.cls cT)) (a := ks') (b := kt') (by rw [es]; exact s2) (by rw [es]; exact s3) (by rw [es]; show packageOf ks.name = ""; rw [s1]; exact hpk.1) (by rw [es]; show ks.name.toList.length ≤ 24; rw [s1]; exact hln.1)
    (by rw [et]; exact t2) (by rw [et]; exact t3) (by rw [et]; show packageOf kt.name = ""; rw [t1]; exact hpk.2) (by rw [et]; show kt.name.toList.length ≤ 24; rw [t1]; exact hln.2) hm2
  refine ⟨_, _, X.noted hW', hq.1, hq.2, fun target hrest => ?_⟩
  subst hg
  jvm_step X.here [hexec, hdg, Op.checkcast.wp_cold (e := e) (s := T) (f := g) X.here.top hstack (resolveClass_links e.toSetting hcl₀) hcl₀.ready,
    Op.checkcast.wp_ready (e := e) (s := T.setVm (T.vm.noted g.method.cls index (.cls cT))) (f := g) X.here.top hcl₀.ready hstack]
  refine ⟨cell, hcell, VmData.noStatics_of hobj, ks', hks', kt', hkt', ?_⟩
  rw [if_neg (by rw [hW'.alike.assignable, n3]; decide)]
  exact hrest
end HX2
section HX3
variable {Gd : hk_G} {N : hk_N} {E : hk_E} {pc : Nat} {L : List (Nat × Value)} {S : List Value} {st : hk_St} {F : hk_K → Prop}
/-- a cast that fails -/
theorem hx_cast {hh : List (Nat × Nat × Nat × Nat)} {name : String} {a ci index : Nat} {r : vw_C} (hE : hk_EF E (hx_F Gd hh)) (hk : hk_k st a = some (ci, 0)) (h100 : ci < 100) (hc : hk_cl[ci]? = some r) (q1 : Cond.classLink N.2.2.1 index name ∈ lw_all) (hnc : (r.1, name) ∈ hx_ncs)
    (hpk : packageOf r.1 = "" ∧ packageOf name = "") (hln : r.1.toList.length ≤ 24 ∧ name.toList.length ≤ 24) (hfr : 8 < N.2.2.2.2.2.1) (hlo : 10300 ≤ N.2.2.2.2.2.2.1) (hr : (S.map fun v => v.category).sum ≤ 50) (d : decode N.2.1 pc = .ok (.checkcast index, 3))
    (k : hk_VT Gd N E (hx_F Gd hh) pc L (hk_cs st 3 1010) "java/lang/ClassCastException") : hk_V Gd N E pc L (.ref a :: S) st := by
  refine ⟨Nat.le_trans (Nat.le_add_right _ 3) k.1, Nat.le_trans (Nat.le_add_right _ 1010) k.2.1, fun p l e R s m args below meth c X H locs cells slots ls hl hR hS h1 h2 => hx_by hE fun hF => ?_⟩
  obtain ⟨cell, z1, z2, z3⟩ := hk_recv X.2.2.2.2.2.2.2.1 hR h100 hc (bf_k hk)
  intro T hT X9
  obtain ⟨vm', tx, X1, t1, t2, st9⟩ := hx_castNo X9 X.1 X.2.2.1 (X.2.2.2.1 _ q1) (by rw [hT]; exact z1) z2 z3 (hF.2.1.2.2.1 _ hnc) hF.2.1.2.2.2 hpk hln (g := F0 m pc ls (.ref a :: S)) rfl rfl (by rw [X.2.1]; exact d)
  obtain ⟨t, a1, b1⟩ := hx_note (nb := 1000) (rest := .ref a :: S) k (by decide +kernel) (by decide +kernel) (by decide +kernel) (by decide +kernel) (by decide) hx_wCC t1 t2 (by decide) hfr hlo (by simp only [List.map_cons, List.sum_cons]; show 1 + _ ≤ 60; omega) X hF hl hR hS h1 h2 (T.setVm vm') hT X1
  exact ⟨t, st9 t a1, b1⟩
end HX3
