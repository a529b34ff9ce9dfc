set_option maxRecDepth 100000
theorem hk_cat (x : Option Nat) : (va_rf x).category = 1 := by cases x <;> rfl
/-! ===== HK: super.m(..) where the superclass itself inherits m ===== -/
def hk_CSI (own : String) (index : Nat) (x y : MethodName) (bytes : ByteArray) (maxL : Nat) (ret : Option FieldType) (n : Nat) : Prop :=
  GoodIn lw_all (ws_ y bytes maxL ret) ∧ Cond.methodLink own index x ∈ lw_all ∧ Cond.sameMethod x.cls y.cls x.name x.desc ∈ lw_all ∧ Cond.superclass own x.cls ∈ lw_all ∧ Cond.superclass x.cls y.cls ∈ lw_all ∧ Cond.instanceMethod y ∈ lw_all ∧ Cond.initialized y.cls ∈ lw_all ∧ y = ⟨y.cls, x.name, x.desc⟩ ∧ x.name ≠ "<init>" ∧ (parseMethodDescriptor y.desc).map (fun d => d.parameters.length) = some n
section HKSI
variable {p : Program} {l : Launch} {e : Env} {R : Room} {s : State} {m : MethodId} {args : Array Value} {below : List Frame} {meth : Method} {c : Code}
theorem hk_sub1 {vm : Vm} {c p : ClassId} {k kp : Class} (hk : vm.classes[c]? = some k) (hs : k.super = some p) (hp : vm.classes[p]? = some kp) : vm.isSubclass c p = true := by
  have hc : c < vm.classes.size := (Array.getElem?_eq_some_iff.mp hk).1
  obtain ⟨n, hn⟩ : ∃ n, vm.classes.size = n + 1 := ⟨vm.classes.size - 1, (Nat.succ_pred_eq_of_pos (Nat.lt_of_le_of_lt (Nat.zero_le _) hc)).symm⟩
  simp [Vm.isSubclass, Vm.isSubclassAux, hk, hs, hn]
theorem hk_callSI {T : State} {locs : List Loc} {cells slots : Nat} (X : Stand p l e R s m args below meth c T locs cells slots) (hexec : p.tables.exec = Jvm.exec) {own : String} {index : Nat} {x y : MethodName} {bytes : ByteArray} {maxL : Nat} {ret : Option FieldType}
    (hown : s.vm.findClass own = some m.cls) (hlink : (Cond.methodLink own index x).before args s = true) (hsame : (Cond.sameMethod x.cls y.cls x.name x.desc).before args s = true) (hsup : (Cond.superclass own x.cls).before args s = true) (hsup2 : (Cond.superclass x.cls y.cls).before args s = true) (hy : y = ⟨y.cls, x.name, x.desc⟩)
    (hinst : (Cond.instanceMethod y).before args s = true) (hcode : (Cond.code y bytes maxL ret).before args s = true) (hno : x.name ≠ "<init>")
    {W : Nat} {Pre : Pt → Array Value → Prop} {Post : Pt → Array Value → Option Value → Pt → Prop} (hK : Back l R p e below s args y 3 W Pre Post)
    {b : Addr} {cellB : Cell} {kB : Class} (hcell : T.heap[b]? = some cellB) (hobj : cellB.vm.isStatics = false) (hkB : s.vm.classes[cellB.cls]? = some kB)
    {g : JFrame} (hg : g.method = m) (hsize : g.locals.size = c.maxLocals) {argsL rest : List Value} (hlen : ∀ sig, parseMethodDescriptor y.desc = some sig → argsL.length = sig.parameters.length)
    (hstack : g.stack = argsL.reverse ++ .ref b :: rest) (hW : 2 * g.monitorRoom + (rest.map fun v => v.category).sum ≤ W) (hdg : decode c.code g.pc = .ok (.invokespecial index, 3))
    (hpre : ∀ vm₁, s.WarmedH vm₁ → Pre ⟨T.setVm vm₁, locs, cells, slots⟩ (Value.ref b :: argsL).toArray) :
    ∃ (v : Option Value) (vm₁ : Vm) (B : Pt), s.WarmedH vm₁ ∧ Stand p l e R s m args below meth c B.U B.locs B.cells B.slots ∧ Post ⟨T.setVm vm₁, locs, cells, slots⟩ (Value.ref b :: argsL).toArray v B ∧
      ∀ target, Steps p.tables e below (B.U.setTop { g with pc := g.pc + 3, stack := v.toList ++ rest }) target → Steps p.tables e below (T.setTop g) target := by
  obtain ⟨mk, methM, hnamed, hmethM, hstM, habM⟩ := Cond.instanceMethod_spec hinst
  obtain ⟨methM', cM, hmethM', -, -, -, -, -, -, hsigM⟩ := Cond.code_spec hnamed hcode
  cases hmethM.symm.trans hmethM'
  obtain ⟨ps, dk, kp, hps, hdk, hkp, hsuper, -, -, hnid⟩ := Cond.superclass_spec hown hsup
  obtain ⟨ps2, dk2, kp2, hps2, hdk2, hkp2, hsuper2, -, -, -⟩ := Cond.superclass_spec hps hsup2
  have hn : s.methodNamed? ⟨y.cls, x.name, x.desc⟩ = some mk := by rw [← hy]; exact hnamed
  have hpm : ps2 = mk.cls := Option.some.inj (hps2.symm.trans (findClass_of_methodNamed hnamed))
  have hsub : s.vm.isSubclass ps mk.cls = true := by rw [← hpm]; exact hk_sub1 hdk2 hsuper2 hkp2
  obtain ⟨vm₁, X₁, hstep₁⟩ := X.invokespecialUp hexec hown hlink hsame hn hmethM hstM habM hno hdk hnid hps hsuper hsub (a := b) (cell := cellB) hcell
    (fun z h => by rw [h] at hobj; cases hobj) hkB (g := g) hg (argsL := argsL) (rest := rest) (hlen _ hsigM) hstack hdg
  obtain ⟨v, B, X', hpost, hsteps⟩ := hK m meth c ⟨T.setVm vm₁, locs, cells, slots⟩ { g with stack := rest } (.invokespecial index) mk (Value.ref b :: argsL).toArray X₁ hg hsize hdg hW (X₁.named hnamed) (hpre vm₁ X₁.warmed)
  exact ⟨v, vm₁, B, X₁.warmed, X', hpost, fun target h => hstep₁ _ (by rw [doInvoke_state]; exact hsteps.trans h)⟩
end HKSI
section HKSJ
variable {Gd : hk_G} {N : hk_N} {E : hk_E} {pc : Nat} {L : List (Nat × Value)} {S : List Value} {st : hk_St}
theorem hv_callSI {x y : MethodName} {bytes : ByteArray} {maxL fr' lo' n index : Nat} {r : Option Value} {st2 : hk_St} {ret' : Option FieldType} {b : Nat} (As rest S2 : List Value) (hM : hk_Met Gd N.1 y bytes maxL ret' fr' lo' (.ref b :: As) st r st2) (cs : hk_CSI N.2.2.1 index x y bytes maxL ret' n) (cl : List Nat) (h100 : ∀ ci ∈ cl, ci < 100) (hb : hk_bf cl st b = true) (hn : As.length = n) (hroom : fr' + 1 ≤ N.2.2.2.2.2.1 ∧ 8 + (maxL + 11) + lo' ≤ N.2.2.2.2.2.2.1) (hst : S = As.reverse ++ .ref b :: rest) (hr : (rest.map fun v => v.category).sum ≤ 8) (hS2 : r.toList ++ rest = S2) (d : decode N.2.1 pc = .ok (.invokespecial index, 3))
    (k : hk_V Gd N E (pc + 3) L S2 st2) : hk_V Gd N E pc L S st := by
  subst hst
  subst hS2
  refine ⟨Nat.le_trans hM.1 k.1, Nat.le_trans hM.2.1 k.2.1, fun p l e R s m args below meth c X H locs cells slots ls hl hR hS h1 h2 => ?_⟩
  have kW := k.2.2 p l e R s m args below meth c X
  have k1 := k.1
  have k2 := k.2.1
  obtain ⟨hx, hbc, hown, hts, -, -, hml, hWW, hfr, hlo, hN1, hN2, -, hl', -⟩ := X
  subst hl'
  have g1 := hM.1
  have g2 := hM.2.1
  rw [← hfr, ← hlo] at hroom
  obtain ⟨hg, w1, w2, w3, w4, w5, w6, hy, hno, hlen⟩ := cs
  obtain ⟨ci, n', hk, ht⟩ := hk_bf_of hb
  obtain ⟨q, hc, -⟩ := (hR.2.2.2 b ci n' hk).2.2.1 (h100 ci ht)
  have hb : hk_bf [ci] st b = true := by simp [hk_bf, hk]
  have h100 := h100 ci ht
  have hcw : Cond.code y bytes maxL ret' ∈ ws_ y bytes maxL ret' := List.mem_cons_self
  have hK : Back N.1 R p e below s args y 3 8 (PreOf R (hk_nc st2 - hk_nc st) (hk_ns st2 - hk_ns st) (va_Pc (.ref b :: As) (fun U => hk_WW Gd U ∧ hk_R Gd st U.heap))) (PostOf (hk_Q Gd r st2) (hk_nc st2 - hk_nc st) (hk_ns st2 - hk_ns st) (hk_A Gd)) :=
    back_of (bytes := bytes) (maxL := maxL) (ret := ret') hM.2.2 (hk_blind _ _) rfl rfl hroom.1 hroom.2 (pay_in hts hg) hcw (fun a' U hW => word_at hW (Or.inl (by first | rfl | simp [Cond.onTables, Cond.keeps, Cond.steady])) (hts _ w6))
  obtain ⟨cellB, hcB, hoB, hclB⟩ := hk_recv hWW hR h100 hc hb
  obtain ⟨hfc, kB, hkB, -⟩ := (hWW.1.1 ci q hc).2
  have e9 : Gd.1.1 ci = cellB.cls := Option.some.inj (hfc.symm.trans hclB)
  rw [e9] at hkB
  have hrun : va_Run p N.1 e R s m args below meth c H locs cells slots (hk_nc st2 - hk_nc st) (hk_ns st2 - hk_ns st) (F0 m pc ls (As.reverse ++ .ref b :: rest)) rest (hk_Q Gd r st2 (Value.ref b :: As).toArray) (hk_A Gd) := by
    intro T hT X
    obtain ⟨v, vm₁, ⟨U', l2, c2, s2⟩, hW₁, X', ⟨g', mk, t, L, e1, e2, hq, h1', hL, h2', h3'⟩, st'⟩ := hk_callSI X hx (bytes := bytes) (maxL := maxL) (ret := ret') hown (hts _ w1) (hts _ w2) (hts _ w3) (hts _ w4) hy (hts _ w5) (hts _ (hg _ hcw).1) hno hK (by rw [hT]; exact hcB) hoB hkB (g := F0 m pc ls (As.reverse ++ .ref b :: rest)) rfl hl.1 (argsL := As) (rest := rest) (fun sig h => by rw [h] at hlen; exact hn.trans (Option.some.inj hlen).symm) rfl (lv_room hr) (by rw [hbc]; exact d)
      (fun vm₁ hW₁ => ⟨by show cells + (hk_nc st2 - hk_nc st) ≤ R.cells; omega, by show slots + (hk_ns st2 - hk_ns st) ≤ R.slots; omega, hk_given hWW hR (T.setVm vm₁) hT hW₁⟩)
    dsimp only [Pt.U, Pt.locs, Pt.cells, Pt.slots] at X' e1 e2 h1' h2' h3' st'
    subst h1'; subst h2'; subst h3'
    exact ⟨v, (T.setVm vm₁).calling g' mk (Value.ref b :: As).toArray, t, U', L, hT, X', hL, e1, e2, hq, st'⟩
  exact hv_run hrun hS (fun H1 locs1 hR1 hS1 => kW H1 locs1 _ _ ls hl hR1 hS1 (by omega) (by omega))
end HKSJ
theorem fl_X0_9 : hk_FL "HeadReckons" 9 0 2 [0] := List.forall_mem_cons.mpr ⟨⟨by decide, (RX0, TX0, 23), 0, rfl, hk_ok0, by decide, rfl, Or.inl q252⟩, fun _ h => absurd h List.not_mem_nil⟩
theorem fp_X0_9 : hk_FP "HeadReckons" 9 0 2 [0] true := List.forall_mem_cons.mpr ⟨⟨by decide, (RX0, TX0, 23), 0, rfl, hk_ok0, by decide, rfl, Or.inl ⟨q252, Or.inr ⟨rfl, rfl, rfl⟩⟩⟩, fun _ h => absurd h List.not_mem_nil⟩
theorem fl_X0_15 : hk_FL "HeadReckons" 15 2 2 [0] := List.forall_mem_cons.mpr ⟨⟨by decide, (RX0, TX0, 23), 2, rfl, hk_ok0, by decide, rfl, Or.inl q256⟩, fun _ h => absurd h List.not_mem_nil⟩
theorem fp_X0_15 : hk_FP "HeadReckons" 15 2 2 [0] true := List.forall_mem_cons.mpr ⟨⟨by decide, (RX0, TX0, 23), 2, rfl, hk_ok0, by decide, rfl, Or.inl ⟨q256, Or.inr ⟨rfl, rfl, rfl⟩⟩⟩, fun _ h => absurd h List.not_mem_nil⟩
theorem fl_X0_21 : hk_FL "HeadReckons" 21 4 2 [0] := List.forall_mem_cons.mpr ⟨⟨by decide, (RX0, TX0, 23), 4, rfl, hk_ok0, by decide, rfl, Or.inl q258⟩, fun _ h => absurd h List.not_mem_nil⟩
theorem fp_X0_21 : hk_FP "HeadReckons" 21 4 2 [0] true := List.forall_mem_cons.mpr ⟨⟨by decide, (RX0, TX0, 23), 4, rfl, hk_ok0, by decide, rfl, Or.inl ⟨q258, Or.inr ⟨rfl, rfl, rfl⟩⟩⟩, fun _ h => absurd h List.not_mem_nil⟩
theorem fl_X0_28 : hk_FL "HeadReckons" 28 8 2 [0] := List.forall_mem_cons.mpr ⟨⟨by decide, (RX0, TX0, 23), 8, rfl, hk_ok0, by decide, rfl, Or.inl q262⟩, fun _ h => absurd h List.not_mem_nil⟩
theorem fp_X0_28 : hk_FP "HeadReckons" 28 8 2 [0] true := List.forall_mem_cons.mpr ⟨⟨by decide, (RX0, TX0, 23), 8, rfl, hk_ok0, by decide, rfl, Or.inl ⟨q262, Or.inr ⟨rfl, rfl, rfl⟩⟩⟩, fun _ h => absurd h List.not_mem_nil⟩
theorem fl_X0_37 : hk_FL "HeadReckons" 37 9 2 [0] := List.forall_mem_cons.mpr ⟨⟨by decide, (RX0, TX0, 23), 9, rfl, hk_ok0, by decide, rfl, Or.inl q263⟩, fun _ h => absurd h List.not_mem_nil⟩
theorem fp_X0_37 : hk_FP "HeadReckons" 37 9 2 [0] true := List.forall_mem_cons.mpr ⟨⟨by decide, (RX0, TX0, 23), 9, rfl, hk_ok0, by decide, rfl, Or.inl ⟨q263, Or.inr ⟨rfl, rfl, rfl⟩⟩⟩, fun _ h => absurd h List.not_mem_nil⟩
theorem fl_X0_43 : hk_FL "HeadReckons" 43 10 2 [0] := List.forall_mem_cons.mpr ⟨⟨by decide, (RX0, TX0, 23), 10, rfl, hk_ok0, by decide, rfl, Or.inl q264⟩, fun _ h => absurd h List.not_mem_nil⟩
theorem fp_X0_43 : hk_FP "HeadReckons" 43 10 2 [0] true := List.forall_mem_cons.mpr ⟨⟨by decide, (RX0, TX0, 23), 10, rfl, hk_ok0, by decide, rfl, Or.inl ⟨q264, Or.inr ⟨rfl, rfl, rfl⟩⟩⟩, fun _ h => absurd h List.not_mem_nil⟩
theorem fl_X0_47 : hk_FL "HeadReckons" 47 12 2 [0] := List.forall_mem_cons.mpr ⟨⟨by decide, (RX0, TX0, 23), 12, rfl, hk_ok0, by decide, rfl, Or.inl q266⟩, fun _ h => absurd h List.not_mem_nil⟩
theorem fp_X0_47 : hk_FP "HeadReckons" 47 12 2 [0] true := List.forall_mem_cons.mpr ⟨⟨by decide, (RX0, TX0, 23), 12, rfl, hk_ok0, by decide, rfl, Or.inl ⟨q266, Or.inr ⟨rfl, rfl, rfl⟩⟩⟩, fun _ h => absurd h List.not_mem_nil⟩
theorem fl_X0_52 : hk_FL "HeadReckons" 52 14 2 [0] := List.forall_mem_cons.mpr ⟨⟨by decide, (RX0, TX0, 23), 14, rfl, hk_ok0, by decide, rfl, Or.inl q268⟩, fun _ h => absurd h List.not_mem_nil⟩
theorem fp_X0_52 : hk_FP "HeadReckons" 52 14 2 [0] true := List.forall_mem_cons.mpr ⟨⟨by decide, (RX0, TX0, 23), 14, rfl, hk_ok0, by decide, rfl, Or.inl ⟨q268, Or.inr ⟨rfl, rfl, rfl⟩⟩⟩, fun _ h => absurd h List.not_mem_nil⟩
theorem fl_X0_56 : hk_FL "HeadReckons" 56 19 2 [0] := List.forall_mem_cons.mpr ⟨⟨by decide, (RX0, TX0, 23), 19, rfl, hk_ok0, by decide, rfl, Or.inl q273⟩, fun _ h => absurd h List.not_mem_nil⟩
theorem fp_X0_56 : hk_FP "HeadReckons" 56 19 2 [0] true := List.forall_mem_cons.mpr ⟨⟨by decide, (RX0, TX0, 23), 19, rfl, hk_ok0, by decide, rfl, Or.inl ⟨q273, Or.inr ⟨rfl, rfl, rfl⟩⟩⟩, fun _ h => absurd h List.not_mem_nil⟩
theorem fl_X0_61 : hk_FL "HeadReckons" 61 20 2 [0] := List.forall_mem_cons.mpr ⟨⟨by decide, (RX0, TX0, 23), 20, rfl, hk_ok0, by decide, rfl, Or.inl q274⟩, fun _ h => absurd h List.not_mem_nil⟩
theorem fp_X0_61 : hk_FP "HeadReckons" 61 20 2 [0] true := List.forall_mem_cons.mpr ⟨⟨by decide, (RX0, TX0, 23), 20, rfl, hk_ok0, by decide, rfl, Or.inl ⟨q274, Or.inr ⟨rfl, rfl, rfl⟩⟩⟩, fun _ h => absurd h List.not_mem_nil⟩
theorem fl_X0_67 : hk_FL "HeadReckons" 67 22 2 [0] := List.forall_mem_cons.mpr ⟨⟨by decide, (RX0, TX0, 23), 22, rfl, hk_ok0, by decide, rfl, Or.inl q276⟩, fun _ h => absurd h List.not_mem_nil⟩
theorem fp_X0_67 : hk_FP "HeadReckons" 67 22 2 [0] true := List.forall_mem_cons.mpr ⟨⟨by decide, (RX0, TX0, 23), 22, rfl, hk_ok0, by decide, rfl, Or.inl ⟨q276, Or.inr ⟨rfl, rfl, rfl⟩⟩⟩, fun _ h => absurd h List.not_mem_nil⟩
theorem fl_X0_77 : hk_FL "HeadReckons" 77 1 0 [0] := List.forall_mem_cons.mpr ⟨⟨by decide, (RX0, TX0, 23), 1, rfl, hk_ok0, by decide, rfl, Or.inl q255⟩, fun _ h => absurd h List.not_mem_nil⟩
theorem fp_X0_77 : hk_FP "HeadReckons" 77 1 0 [0] false := List.forall_mem_cons.mpr ⟨⟨by decide, (RX0, TX0, 23), 1, rfl, hk_ok0, by decide, rfl, Or.inl ⟨q255, Or.inl rfl⟩⟩, fun _ h => absurd h List.not_mem_nil⟩
theorem fl_X0_81 : hk_FL "HeadReckons" 81 3 0 [0] := List.forall_mem_cons.mpr ⟨⟨by decide, (RX0, TX0, 23), 3, rfl, hk_ok0, by decide, rfl, Or.inl q257⟩, fun _ h => absurd h List.not_mem_nil⟩
theorem fp_X0_81 : hk_FP "HeadReckons" 81 3 0 [0] false := List.forall_mem_cons.mpr ⟨⟨by decide, (RX0, TX0, 23), 3, rfl, hk_ok0, by decide, rfl, Or.inl ⟨q257, Or.inl rfl⟩⟩, fun _ h => absurd h List.not_mem_nil⟩
theorem fl_X0_88 : hk_FL "HeadReckons" 88 300 2 [3] := List.forall_mem_cons.mpr ⟨⟨by decide, (RX3, TX3, 3), 0, rfl, hk_ok3, by decide, rfl, Or.inr ⟨_, q238⟩⟩, fun _ h => absurd h List.not_mem_nil⟩
theorem fl_X0_97 : hk_FL "HeadReckons" 97 6 0 [0] := List.forall_mem_cons.mpr ⟨⟨by decide, (RX0, TX0, 23), 6, rfl, hk_ok0, by decide, rfl, Or.inl q260⟩, fun _ h => absurd h List.not_mem_nil⟩
theorem fp_X0_97 : hk_FP "HeadReckons" 97 6 0 [0] false := List.forall_mem_cons.mpr ⟨⟨by decide, (RX0, TX0, 23), 6, rfl, hk_ok0, by decide, rfl, Or.inl ⟨q260, Or.inl rfl⟩⟩, fun _ h => absurd h List.not_mem_nil⟩
theorem fl_X0_100 : hk_FL "HeadReckons" 100 5 0 [0] := List.forall_mem_cons.mpr ⟨⟨by decide, (RX0, TX0, 23), 5, rfl, hk_ok0, by decide, rfl, Or.inl q259⟩, fun _ h => absurd h List.not_mem_nil⟩
theorem fp_X0_100 : hk_FP "HeadReckons" 100 5 0 [0] false := List.forall_mem_cons.mpr ⟨⟨by decide, (RX0, TX0, 23), 5, rfl, hk_ok0, by decide, rfl, Or.inl ⟨q259, Or.inl rfl⟩⟩, fun _ h => absurd h List.not_mem_nil⟩
theorem fl_X0_106 : hk_FL "HeadReckons" 106 500 2 [5] := List.forall_mem_cons.mpr ⟨⟨by decide, (RX5, TX5, 4), 0, rfl, hk_ok5, by decide, rfl, Or.inr ⟨_, q360⟩⟩, fun _ h => absurd h List.not_mem_nil⟩
theorem fl_X0_109 : hk_FL "HeadReckons" 109 501 0 [5] := List.forall_mem_cons.mpr ⟨⟨by decide, (RX5, TX5, 4), 1, rfl, hk_ok5, by decide, rfl, Or.inr ⟨_, q362⟩⟩, fun _ h => absurd h List.not_mem_nil⟩
theorem fl_X0_112 : hk_FL "HeadReckons" 112 502 0 [5] := List.forall_mem_cons.mpr ⟨⟨by decide, (RX5, TX5, 4), 2, rfl, hk_ok5, by decide, rfl, Or.inr ⟨_, q364⟩⟩, fun _ h => absurd h List.not_mem_nil⟩
theorem fl_X0_115 : hk_FL "HeadReckons" 115 503 0 [5] := List.forall_mem_cons.mpr ⟨⟨by decide, (RX5, TX5, 4), 3, rfl, hk_ok5, by decide, rfl, Or.inr ⟨_, q366⟩⟩, fun _ h => absurd h List.not_mem_nil⟩
theorem fl_X0_125 : hk_FL "HeadReckons" 125 601 0 [6] := List.forall_mem_cons.mpr ⟨⟨by decide, (RX6, TX6, 4), 1, rfl, hk_ok6, by decide, rfl, Or.inr ⟨_, q396⟩⟩, fun _ h => absurd h List.not_mem_nil⟩
theorem fp_X0_125 : hk_FP "HeadReckons" 125 601 0 [6] false := List.forall_mem_cons.mpr ⟨⟨by decide, (RX6, TX6, 4), 1, rfl, hk_ok6, by decide, rfl, Or.inr ⟨_, q396, rfl⟩⟩, fun _ h => absurd h List.not_mem_nil⟩
theorem fl_X0_128 : hk_FL "HeadReckons" 128 7 2 [0] := List.forall_mem_cons.mpr ⟨⟨by decide, (RX0, TX0, 23), 7, rfl, hk_ok0, by decide, rfl, Or.inl q261⟩, fun _ h => absurd h List.not_mem_nil⟩
theorem fp_X0_128 : hk_FP "HeadReckons" 128 7 2 [0] false := List.forall_mem_cons.mpr ⟨⟨by decide, (RX0, TX0, 23), 7, rfl, hk_ok0, by decide, rfl, Or.inl ⟨q261, Or.inl rfl⟩⟩, fun _ h => absurd h List.not_mem_nil⟩
theorem fl_X0_132 : hk_FL "HeadReckons" 132 700 2 [7] := List.forall_mem_cons.mpr ⟨⟨by decide, (RX7, TX7, 3), 0, rfl, hk_ok7, by decide, rfl, Or.inr ⟨_, q423⟩⟩, fun _ h => absurd h List.not_mem_nil⟩
theorem fp_X0_132 : hk_FP "HeadReckons" 132 700 2 [7] false := List.forall_mem_cons.mpr ⟨⟨by decide, (RX7, TX7, 3), 0, rfl, hk_ok7, by decide, rfl, Or.inr ⟨_, q423, rfl⟩⟩, fun _ h => absurd h List.not_mem_nil⟩
theorem fl_X0_144 : hk_FL "HeadReckons" 144 701 2 [7] := List.forall_mem_cons.mpr ⟨⟨by decide, (RX7, TX7, 3), 1, rfl, hk_ok7, by decide, rfl, Or.inr ⟨_, q425⟩⟩, fun _ h => absurd h List.not_mem_nil⟩
theorem fp_X0_144 : hk_FP "HeadReckons" 144 701 2 [7] false := List.forall_mem_cons.mpr ⟨⟨by decide, (RX7, TX7, 3), 1, rfl, hk_ok7, by decide, rfl, Or.inr ⟨_, q425, rfl⟩⟩, fun _ h => absurd h List.not_mem_nil⟩
theorem fl_X0_147 : hk_FL "HeadReckons" 147 702 2 [7] := List.forall_mem_cons.mpr ⟨⟨by decide, (RX7, TX7, 3), 2, rfl, hk_ok7, by decide, rfl, Or.inr ⟨_, q427⟩⟩, fun _ h => absurd h List.not_mem_nil⟩
theorem fp_X0_147 : hk_FP "HeadReckons" 147 702 2 [7] false := List.forall_mem_cons.mpr ⟨⟨by decide, (RX7, TX7, 3), 2, rfl, hk_ok7, by decide, rfl, Or.inr ⟨_, q427, rfl⟩⟩, fun _ h => absurd h List.not_mem_nil⟩
theorem fl_X0_163 : hk_FL "HeadReckons" 163 208 0 [2] := List.forall_mem_cons.mpr ⟨⟨by decide, (RX2, TX2, 16), 8, rfl, hk_ok2, by decide, rfl, Or.inr ⟨_, q184⟩⟩, fun _ h => absurd h List.not_mem_nil⟩
theorem fp_X0_163 : hk_FP "HeadReckons" 163 208 0 [2] false := List.forall_mem_cons.mpr ⟨⟨by decide, (RX2, TX2, 16), 8, rfl, hk_ok2, by decide, rfl, Or.inr ⟨_, q184, rfl⟩⟩, fun _ h => absurd h List.not_mem_nil⟩
theorem fl_X0_166 : hk_FL "HeadReckons" 166 209 0 [2] := List.forall_mem_cons.mpr ⟨⟨by decide, (RX2, TX2, 16), 9, rfl, hk_ok2, by decide, rfl, Or.inr ⟨_, q186⟩⟩, fun _ h => absurd h List.not_mem_nil⟩
theorem fp_X0_166 : hk_FP "HeadReckons" 166 209 0 [2] false := List.forall_mem_cons.mpr ⟨⟨by decide, (RX2, TX2, 16), 9, rfl, hk_ok2, by decide, rfl, Or.inr ⟨_, q186, rfl⟩⟩, fun _ h => absurd h List.not_mem_nil⟩
theorem fl_X0_169 : hk_FL "HeadReckons" 169 206 0 [2] := List.forall_mem_cons.mpr ⟨⟨by decide, (RX2, TX2, 16), 6, rfl, hk_ok2, by decide, rfl, Or.inr ⟨_, q181⟩⟩, fun _ h => absurd h List.not_mem_nil⟩
theorem fp_X0_169 : hk_FP "HeadReckons" 169 206 0 [2] false := List.forall_mem_cons.mpr ⟨⟨by decide, (RX2, TX2, 16), 6, rfl, hk_ok2, by decide, rfl, Or.inr ⟨_, q181, rfl⟩⟩, fun _ h => absurd h List.not_mem_nil⟩
theorem fl_X0_173 : hk_FL "HeadReckons" 173 200 2 [2] := List.forall_mem_cons.mpr ⟨⟨by decide, (RX2, TX2, 16), 0, rfl, hk_ok2, by decide, rfl, Or.inr ⟨_, q171⟩⟩, fun _ h => absurd h List.not_mem_nil⟩
theorem fl_X0_176 : hk_FL "HeadReckons" 176 203 2 [2] := List.forall_mem_cons.mpr ⟨⟨by decide, (RX2, TX2, 16), 3, rfl, hk_ok2, by decide, rfl, Or.inr ⟨_, q177⟩⟩, fun _ h => absurd h List.not_mem_nil⟩
theorem fl_X0_180 : hk_FL "HeadReckons" 180 201 2 [2] := List.forall_mem_cons.mpr ⟨⟨by decide, (RX2, TX2, 16), 1, rfl, hk_ok2, by decide, rfl, Or.inr ⟨_, q173⟩⟩, fun _ h => absurd h List.not_mem_nil⟩
theorem fl_X0_183 : hk_FL "HeadReckons" 183 202 2 [2] := List.forall_mem_cons.mpr ⟨⟨by decide, (RX2, TX2, 16), 2, rfl, hk_ok2, by decide, rfl, Or.inr ⟨_, q175⟩⟩, fun _ h => absurd h List.not_mem_nil⟩
theorem fl_X0_189 : hk_FL "HeadReckons" 189 100 2 [1] := List.forall_mem_cons.mpr ⟨⟨by decide, (RX1, TX1, 1), 0, rfl, hk_ok1, by decide, rfl, Or.inr ⟨_, q158⟩⟩, fun _ h => absurd h List.not_mem_nil⟩
theorem fl_X0_231 : hk_FL "HeadReckons" 231 11 0 [0] := List.forall_mem_cons.mpr ⟨⟨by decide, (RX0, TX0, 23), 11, rfl, hk_ok0, by decide, rfl, Or.inl q265⟩, fun _ h => absurd h List.not_mem_nil⟩
theorem fp_X0_231 : hk_FP "HeadReckons" 231 11 0 [0] false := List.forall_mem_cons.mpr ⟨⟨by decide, (RX0, TX0, 23), 11, rfl, hk_ok0, by decide, rfl, Or.inl ⟨q265, Or.inl rfl⟩⟩, fun _ h => absurd h List.not_mem_nil⟩
theorem fl_X0_259 : hk_FL "HeadReckons" 259 1300 0 [13] := List.forall_mem_cons.mpr ⟨⟨by decide, (RX14, TX14, 4), 0, rfl, hk_ok13, by decide, rfl, Or.inr ⟨_, q805⟩⟩, fun _ h => absurd h List.not_mem_nil⟩
theorem fl_X0_262 : hk_FL "HeadReckons" 262 1301 0 [13] := List.forall_mem_cons.mpr ⟨⟨by decide, (RX14, TX14, 4), 1, rfl, hk_ok13, by decide, rfl, Or.inr ⟨_, q807⟩⟩, fun _ h => absurd h List.not_mem_nil⟩
theorem fl_X0_265 : hk_FL "HeadReckons" 265 1302 0 [13] := List.forall_mem_cons.mpr ⟨⟨by decide, (RX14, TX14, 4), 2, rfl, hk_ok13, by decide, rfl, Or.inr ⟨_, q809⟩⟩, fun _ h => absurd h List.not_mem_nil⟩
theorem fl_X0_288 : hk_FL "HeadReckons" 288 13 0 [0] := List.forall_mem_cons.mpr ⟨⟨by decide, (RX0, TX0, 23), 13, rfl, hk_ok0, by decide, rfl, Or.inl q267⟩, fun _ h => absurd h List.not_mem_nil⟩
theorem fp_X0_288 : hk_FP "HeadReckons" 288 13 0 [0] false := List.forall_mem_cons.mpr ⟨⟨by decide, (RX0, TX0, 23), 13, rfl, hk_ok0, by decide, rfl, Or.inl ⟨q267, Or.inl rfl⟩⟩, fun _ h => absurd h List.not_mem_nil⟩
theorem fl_X0_311 : hk_FL "HeadReckons" 311 15 0 [0] := List.forall_mem_cons.mpr ⟨⟨by decide, (RX0, TX0, 23), 15, rfl, hk_ok0, by decide, rfl, Or.inl q269⟩, fun _ h => absurd h List.not_mem_nil⟩
theorem fp_X0_311 : hk_FP "HeadReckons" 311 15 0 [0] false := List.forall_mem_cons.mpr ⟨⟨by decide, (RX0, TX0, 23), 15, rfl, hk_ok0, by decide, rfl, Or.inl ⟨q269, Or.inl rfl⟩⟩, fun _ h => absurd h List.not_mem_nil⟩
theorem fl_X0_314 : hk_FL "HeadReckons" 314 16 0 [0] := List.forall_mem_cons.mpr ⟨⟨by decide, (RX0, TX0, 23), 16, rfl, hk_ok0, by decide, rfl, Or.inl q270⟩, fun _ h => absurd h List.not_mem_nil⟩
theorem fp_X0_314 : hk_FP "HeadReckons" 314 16 0 [0] false := List.forall_mem_cons.mpr ⟨⟨by decide, (RX0, TX0, 23), 16, rfl, hk_ok0, by decide, rfl, Or.inl ⟨q270, Or.inl rfl⟩⟩, fun _ h => absurd h List.not_mem_nil⟩
theorem fl_X0_347 : hk_FL "HeadReckons" 347 17 1 [0] := List.forall_mem_cons.mpr ⟨⟨by decide, (RX0, TX0, 23), 17, rfl, hk_ok0, by decide, rfl, Or.inl q271⟩, fun _ h => absurd h List.not_mem_nil⟩
theorem fp_X0_347 : hk_FP "HeadReckons" 347 17 1 [0] false := List.forall_mem_cons.mpr ⟨⟨by decide, (RX0, TX0, 23), 17, rfl, hk_ok0, by decide, rfl, Or.inl ⟨q271, Or.inl rfl⟩⟩, fun _ h => absurd h List.not_mem_nil⟩
theorem fl_X0_359 : hk_FL "HeadReckons" 359 18 0 [0] := List.forall_mem_cons.mpr ⟨⟨by decide, (RX0, TX0, 23), 18, rfl, hk_ok0, by decide, rfl, Or.inl q272⟩, fun _ h => absurd h List.not_mem_nil⟩
theorem fp_X0_359 : hk_FP "HeadReckons" 359 18 0 [0] false := List.forall_mem_cons.mpr ⟨⟨by decide, (RX0, TX0, 23), 18, rfl, hk_ok0, by decide, rfl, Or.inl ⟨q272, Or.inl rfl⟩⟩, fun _ h => absurd h List.not_mem_nil⟩
theorem fl_X0_362 : hk_FL "HeadReckons" 362 21 0 [0] := List.forall_mem_cons.mpr ⟨⟨by decide, (RX0, TX0, 23), 21, rfl, hk_ok0, by decide, rfl, Or.inl q275⟩, fun _ h => absurd h List.not_mem_nil⟩
theorem fp_X0_362 : hk_FP "HeadReckons" 362 21 0 [0] false := List.forall_mem_cons.mpr ⟨⟨by decide, (RX0, TX0, 23), 21, rfl, hk_ok0, by decide, rfl, Or.inl ⟨q275, Or.inl rfl⟩⟩, fun _ h => absurd h List.not_mem_nil⟩
theorem cs_X0_27 : hk_CIN "HeadReckons" 27 yX1_init cX1_init 1 0 := ⟨_, lw_meth q154, q93, q152, q153, rfl, by decide, by decide, by decide +kernel⟩
theorem cs_X0_34 : hk_CIN "HeadReckons" 34 yX2_init cX2_init 2 1 := ⟨_, lw_meth q168, q94, q166, q167, rfl, by decide, by decide, by decide +kernel⟩
theorem cs_X0_51 : hk_CIN "HeadReckons" 51 yX3_init cX3_init 1 0 := ⟨_, lw_meth q232, q95, q230, q231, rfl, by decide, by decide, by decide +kernel⟩
theorem cs_X0_73 : hk_CS "HeadReckons" 73 yX0_in cX0_in 3 (some .boolean) 3 := ⟨lw_S q328 q329 q92 q330, by decide, by decide, by decide +kernel⟩
theorem cs_X0_84 : hk_CS "HeadReckons" 84 yX0_isTold cX0_isTold 2 (some .boolean) 2 := ⟨lw_S q335 q336 q92 q337, by decide, by decide, by decide +kernel⟩
theorem cs_X0_89 : hk_CV "HeadReckons" 89 0 yX0_isHead cX0_isHead 2 (some .boolean) 1 := ⟨by decide, (RX0, TX0, 23), rfl, lw_V q342 q344 qs0 q92 q345, rfl, by decide, by decide, by decide +kernel⟩
theorem cs_X0_93 : hk_CV "HeadReckons" 93 3 yX3_learnt cX3_learnt 3 (some .int) 0 := ⟨by decide, (RX3, TX3, 3), rfl, lw_V q346 q347 q348 q95 q349, rfl, by decide, by decide, by decide +kernel⟩
theorem cs_X0_103 : hk_CI "HeadReckons" 103 yX5_init cX5_init 5 4 := ⟨lw_meth q357, q97, q355, q356, rfl, by decide, by decide, by decide +kernel⟩
theorem cs_X0_120 : hk_CIN "HeadReckons" 120 yX6_init cX6_init 2 1 := ⟨_, lw_meth q392, q98, q390, q391, rfl, by decide, by decide, by decide +kernel⟩
theorem cs_X0_121 : hk_CV "HeadReckons" 121 6 yX6_lines cX6_lines 3 (some (.object "HeadReckons$Line")) 0 := ⟨by decide, (RX6, TX6, 4), rfl, lw_V q408 q409 q410 q98 q411, rfl, by decide, by decide, by decide +kernel⟩
theorem cs_X0_150 : hk_CV "HeadReckons" 150 2 yX2_lay cX2_lay 5 (some .boolean) 4 := ⟨by decide, (RX2, TX2, 16), rfl, lw_V q644 q645 q646 q94 q647, rfl, by decide, by decide, by decide +kernel⟩
theorem cs_X0_154 : hk_CV "HeadReckons" 154 0 yX0_isBy cX0_isBy 2 (some .boolean) 1 := ⟨by decide, (RX0, TX0, 23), rfl, lw_V q633 q635 qs13 q92 q636, rfl, by decide, by decide, by decide +kernel⟩
theorem cs_X0_157 : hk_CS "HeadReckons" 157 yX0_isPair cX0_isPair 1 (some .boolean) 1 := ⟨lw_S q637 q638 q92 q639, by decide, by decide, by decide +kernel⟩
theorem cs_X0_160 : hk_CV "HeadReckons" 160 0 yX0_lays cX0_lays 3 (some .boolean) 2 := ⟨by decide, (RX0, TX0, 23), rfl, lw_V q640 q642 qs14 q92 q643, rfl, by decide, by decide, by decide +kernel⟩
theorem cs_X0_186 : hk_CV "HeadReckons" 186 1 yX1_clear cX1_clear 2 none 0 := ⟨by decide, (RX1, TX1, 1), rfl, lw_V q725 q726 q727 q93 q728, rfl, by decide, by decide, by decide +kernel⟩
theorem cs_X0_192 : hk_CS "HeadReckons" 192 yX0_sizeOf cX0_sizeOf 5 (some .int) 1 := ⟨lw_S q729 q676 q92 q677, by decide, by decide, by decide +kernel⟩
theorem cs_X0_196 : hk_CS "HeadReckons" 196 yJ2_abs_2 cJ2_abs_2 1 (some .int) 1 := ⟨lw_S q730 q731 q102 q732, by decide, by decide, by decide +kernel⟩
theorem cs_X0_202 : hk_CS "HeadReckons" 202 yX0_noughts cX0_noughts 3 (some .int) 1 := ⟨lw_S q733 q734 q92 q735, by decide, by decide, by decide +kernel⟩
theorem cs_X0_205 : hk_CV "HeadReckons" 205 0 yX0_gives cX0_gives 2 (some .int) 0 := ⟨by decide, (RX0, TX0, 23), rfl, lw_V q736 q738 qs25 q92 q739, rfl, by decide, by decide, by decide +kernel⟩
theorem cs_X0_207 : hk_CV "HeadReckons" 207 0 yX0_chosenOf cX0_chosenOf 5 (some .int) 3 := ⟨by decide, (RX0, TX0, 23), rfl, lw_V q721 q723 qs24 q92 q724, rfl, by decide, by decide, by decide +kernel⟩
theorem cs_X0_212 : hk_CS "HeadReckons" 212 yJ2_min cJ2_min 2 (some .int) 2 := ⟨lw_S q769 q500 q102 q501, by decide, by decide, by decide +kernel⟩
theorem cs_X0_216 : hk_CV "HeadReckons" 216 2 yX2_slipWays cX2_slipWays 2 (some .int) 1 := ⟨by decide, (RX2, TX2, 16), rfl, lw_V q770 q771 q772 q94 q773, rfl, by decide, by decide, by decide +kernel⟩
theorem cs_X0_219 : hk_CV "HeadReckons" 219 2 yX2_slip cX2_slip 3 (some .long) 2 := ⟨by decide, (RX2, TX2, 16), rfl, lw_V q774 q775 q776 q94 q777, rfl, by decide, by decide, by decide +kernel⟩
theorem cs_X0_223 : hk_CV "HeadReckons" 223 0 yX0_chosenSeconds cX0_chosenSeconds 4 (some .int) 3 := ⟨by decide, (RX0, TX0, 23), rfl, lw_V q786 q788 qs26 q92 q789, rfl, by decide, by decide, by decide +kernel⟩
theorem cs_X0_228 : hk_CS "HeadReckons" 228 yX0_isSeen cX0_isSeen 3 (some .boolean) 3 := ⟨lw_S q794 q795 q92 q796, by decide, by decide, by decide +kernel⟩
theorem cs_X0_234 : hk_CI "HeadReckons" 234 yX14_init cX14_init 4 3 := ⟨lw_meth q802, q112, q800, q801, rfl, by decide, by decide, by decide +kernel⟩
theorem cs_X0_237 : hk_CS "HeadReckons" 237 yX0_isShelf cX0_isShelf 1 (some .boolean) 1 := ⟨lw_S q952 q953 q92 q954, by decide, by decide, by decide +kernel⟩
theorem cs_X0_242 : hk_CV "HeadReckons" 242 25 yX28_at cX28_at 2 (some .long) 1 := ⟨by decide, (RX28, TX28, 1), rfl, lw_V q956 q957 q958 q134 q959, rfl, by decide, by decide, by decide +kernel⟩
theorem cs_X0_246 : hk_CV "HeadReckons" 246 0 yX0_see cX0_see 4 (some .int) 3 := ⟨by decide, (RX0, TX0, 23), rfl, lw_V q960 q791 q792 q92 q793, rfl, by decide, by decide, by decide +kernel⟩
theorem cs_X0_256 : hk_CV "HeadReckons" 256 0 yX0_isAsk cX0_isAsk 2 (some .boolean) 1 := ⟨by decide, (RX0, TX0, 23), rfl, lw_V q965 q967 qs29 q92 q968, rfl, by decide, by decide, by decide +kernel⟩
theorem cs_X0_268 : hk_CV "HeadReckons" 268 13 yX14_off cX14_off 1 (some .long) 0 := ⟨by decide, (RX14, TX14, 4), rfl, lw_V q969 q970 q971 q112 q972, rfl, by decide, by decide, by decide +kernel⟩
theorem cs_X0_272 : hk_CV "HeadReckons" 272 2 yX2_canSlip cX2_canSlip 5 (some .boolean) 2 := ⟨by decide, (RX2, TX2, 16), rfl, lw_V q985 q986 q987 q94 q988, rfl, by decide, by decide, by decide +kernel⟩
theorem cs_X0_276 : hk_CV "HeadReckons" 276 0 yX0_isBySlip cX0_isBySlip 4 (some .boolean) 1 := ⟨by decide, (RX0, TX0, 23), rfl, lw_V q981 q983 qs31 q92 q984, rfl, by decide, by decide, by decide +kernel⟩
theorem cs_X0_280 : hk_CV "HeadReckons" 280 0 yX0_doesFit cX0_doesFit 5 (some .boolean) 3 := ⟨by decide, (RX0, TX0, 23), rfl, lw_V q977 q979 qs30 q92 q980, rfl, by decide, by decide, by decide +kernel⟩
theorem cs_X0_284 : hk_CV "HeadReckons" 284 0 yX0_differs cX0_differs 6 (some .int) 2 := ⟨by decide, (RX0, TX0, 23), rfl, lw_V q995 q997 qs32 q92 q998, rfl, by decide, by decide, by decide +kernel⟩
theorem cs_X0_291 : hk_CS "HeadReckons" 291 yJ2_max cJ2_max 2 (some .int) 2 := ⟨lw_S q1019 q497 q102 q498, by decide, by decide, by decide +kernel⟩
theorem cs_X0_294 : hk_CS "HeadReckons" 294 yX0_isSmall cX0_isSmall 1 (some .boolean) 1 := ⟨lw_S q1024 q1025 q92 q1026, by decide, by decide, by decide +kernel⟩
theorem cs_X0_297 : hk_CV "HeadReckons" 297 3 yX3_ask cX3_ask 4 (some .int) 2 := ⟨by decide, (RX3, TX3, 3), rfl, lw_V q1027 q1028 q1029 q95 q1030, rfl, by decide, by decide, by decide +kernel⟩
theorem cs_X0_300 : hk_CV "HeadReckons" 300 0 yX0_canTeach cX0_canTeach 2 (some .boolean) 0 := ⟨by decide, (RX0, TX0, 23), rfl, lw_V q1061 q1063 qs34 q92 q1064, rfl, by decide, by decide, by decide +kernel⟩
theorem cs_X0_304 : hk_CV "HeadReckons" 304 3 yX3_copy cX3_copy 3 none 1 := ⟨by decide, (RX3, TX3, 3), rfl, lw_V q1065 q1066 q1067 q95 q1068, rfl, by decide, by decide, by decide +kernel⟩
theorem cs_X0_308 : hk_CV "HeadReckons" 308 0 yX0_teach cX0_teach 3 (some .int) 1 := ⟨by decide, (RX0, TX0, 23), rfl, lw_V q1069 q1071 qs35 q92 q1072, rfl, by decide, by decide, by decide +kernel⟩
theorem cs_X0_317 : hk_CV "HeadReckons" 317 0 yX0_orders cX0_orders 9 none 4 := ⟨by decide, (RX0, TX0, 23), rfl, lw_V q1077 q1079 qs36 q92 q1080, rfl, by decide, by decide, by decide +kernel⟩
theorem cs_X0_327 : hk_CS "HeadReckons" 327 yX0_isAbove cX0_isAbove 8 (some .boolean) 3 := ⟨lw_S q1097 q1098 q92 q1099, by decide, by decide, by decide +kernel⟩
theorem cs_X0_331 : hk_CS "HeadReckons" 331 yX0_isNumber cX0_isNumber 2 (some .boolean) 1 := ⟨lw_S q1085 q1086 q92 q1087, by decide, by decide, by decide +kernel⟩
theorem cs_X0_334 : hk_CS "HeadReckons" 334 yX0_isPower cX0_isPower 1 (some .boolean) 1 := ⟨lw_S q1089 q1090 q92 q1091, by decide, by decide, by decide +kernel⟩
theorem cs_X0_337 : hk_CS "HeadReckons" 337 yX0_rootOf cX0_rootOf 9 (some .long) 2 := ⟨lw_S q1092 q1093 q92 q1094, by decide, by decide, by decide +kernel⟩
theorem cs_X0_341 : hk_CS "HeadReckons" 341 yX0_raise cX0_raise 6 (some .long) 2 := ⟨lw_S q1100 q1101 q92 q1102, by decide, by decide, by decide +kernel⟩
theorem cs_X0_344 : hk_CS "HeadReckons" 344 yX0_tenTo cX0_tenTo 4 (some .long) 1 := ⟨lw_S q1111 q685 q92 q686, by decide, by decide, by decide +kernel⟩
theorem cs_X0_351 : hk_CS "HeadReckons" 351 yJ2_floorMod cJ2_floorMod 6 (some .long) 2 := ⟨lw_S q1112 q1113 q102 q1114, by decide, by decide, by decide +kernel⟩
theorem cs_X0_355 : hk_CV "HeadReckons" 355 0 yX0_rootsBy cX0_rootsBy 19 (some .long) 3 := ⟨by decide, (RX0, TX0, 23), rfl, lw_V q1107 q1109 qs37 q92 q1110, rfl, by decide, by decide, by decide +kernel⟩
theorem cs_X0_367 : hk_CI "HeadReckons" 367 yX18_init cX18_init 3 2 := ⟨lw_meth q1131, q123, q1129, q1130, rfl, by decide, by decide, by decide +kernel⟩
theorem cs_X0_372 : hk_CI "HeadReckons" 372 yX19_init cX19_init 3 2 := ⟨lw_meth q1153, q124, q1151, q1152, rfl, by decide, by decide, by decide +kernel⟩
theorem cs_X0_375 : hk_CI "HeadReckons" 375 yX20_init cX20_init 3 2 := ⟨lw_meth q1165, q125, q1163, q1164, rfl, by decide, by decide, by decide +kernel⟩
theorem cs_X0_378 : hk_CI "HeadReckons" 378 yX21_init cX21_init 3 2 := ⟨lw_meth q1178, q126, q1176, q1177, rfl, by decide, by decide, by decide +kernel⟩
theorem cs_X0_381 : hk_CI "HeadReckons" 381 yX22_init cX22_init 3 2 := ⟨lw_meth q1190, q127, q1188, q1189, rfl, by decide, by decide, by decide +kernel⟩
theorem cs_X0_384 : hk_CI "HeadReckons" 384 yX23_init cX23_init 3 2 := ⟨lw_meth q1203, q128, q1201, q1202, rfl, by decide, by decide, by decide +kernel⟩
theorem cs_X0_387 : hk_CI "HeadReckons" 387 yX24_init cX24_init 3 2 := ⟨lw_meth q1215, q129, q1213, q1214, rfl, by decide, by decide, by decide +kernel⟩
theorem cs_X0_388 : hk_CI "HeadReckons" 388 yX17_init cX17_init 3 2 := ⟨lw_meth q1134, q122, q1225, q1133, rfl, by decide, by decide, by decide +kernel⟩
theorem cs_X0_389 : hk_CV "HeadReckons" 389 0 yX0_made cX0_made 2 (some (.object "HeadReckons$Way")) 1 := ⟨by decide, (RX0, TX0, 23), rfl, lw_V q1123 q1125 qs38 q92 q1126, rfl, by decide, by decide, by decide +kernel⟩
theorem cs_X0_393 : hk_CV "HeadReckons" 393 0 yX0_isBody cX0_isBody 2 (some .boolean) 1 := ⟨by decide, (RX0, TX0, 23), rfl, lw_V q1233 q1235 qs39 q92 q1236, rfl, by decide, by decide, by decide +kernel⟩
theorem cs_X0_406 : hk_CV "HeadReckons" 406 15 yX17_keeps cX17_keeps 2 (some .int) 1 := ⟨by decide, (RX17, TX17, 2), rfl, lw_V q1378 q1293 q1294 q122 q1304, rfl, by decide, by decide, by decide +kernel⟩
theorem cs_X0_409 : hk_CV "HeadReckons" 409 15 yX17_slips cX17_slips 2 (some .int) 1 := ⟨by decide, (RX17, TX17, 2), rfl, lw_V q1379 q1316 q1317 q122 q1325, rfl, by decide, by decide, by decide +kernel⟩
theorem cs_X0_414 : hk_CI "HeadReckons" 414 yX26_init cX26_init 2 1 := ⟨lw_meth q1413, q132, q1411, q1412, rfl, by decide, by decide, by decide +kernel⟩
theorem cs_X0_419 : hk_CI "HeadReckons" 419 yX27_init cX27_init 2 1 := ⟨lw_meth q1426, q133, q1424, q1425, rfl, by decide, by decide, by decide +kernel⟩
theorem cs_X0_420 : hk_CI "HeadReckons" 420 yX28_init cX28_init 2 1 := ⟨lw_meth q1436, q134, q1434, q1435, rfl, by decide, by decide, by decide +kernel⟩
theorem cs_X0_423 : hk_CI "HeadReckons" 423 yX29_init cX29_init 2 1 := ⟨lw_meth q1446, q135, q1444, q1445, rfl, by decide, by decide, by decide +kernel⟩
theorem cs_X0_426 : hk_CI "HeadReckons" 426 yX30_init cX30_init 2 1 := ⟨lw_meth q1456, q136, q1454, q1455, rfl, by decide, by decide, by decide +kernel⟩
theorem cs_X0_427 : hk_CS "HeadReckons" 427 yX0_newRow cX0_newRow 2 (some (.object "HeadReckons$Row")) 2 := ⟨lw_S q1406 q1407 q92 q1408, by decide, by decide, by decide +kernel⟩
theorem cs_X0_446 : hk_CV "HeadReckons" 446 15 yX17_isUnder cX17_isUnder 2 (some .boolean) 1 := ⟨by decide, (RX17, TX17, 2), rfl, lw_V q1545 q1546 q1547 q122 q1553, rfl, by decide, by decide, by decide +kernel⟩
theorem cs_X0_449 : hk_CV "HeadReckons" 449 15 yX17_kind cX17_kind 1 (some .int) 0 := ⟨by decide, (RX17, TX17, 2), rfl, lw_V q1592 q1555 q1556 q122 q1579, rfl, by decide, by decide, by decide +kernel⟩
theorem fl_X1_7 : hk_FL "HeadReckons$Facts" 7 100 2 [1] := List.forall_mem_cons.mpr ⟨⟨by decide, (RX1, TX1, 1), 0, rfl, hk_ok1, by decide, rfl, Or.inl q156⟩, fun _ h => absurd h List.not_mem_nil⟩
theorem fp_X1_7 : hk_FP "HeadReckons$Facts" 7 100 2 [1] true := List.forall_mem_cons.mpr ⟨⟨by decide, (RX1, TX1, 1), 0, rfl, hk_ok1, by decide, rfl, Or.inl ⟨q156, Or.inr ⟨rfl, rfl, rfl⟩⟩⟩, fun _ h => absurd h List.not_mem_nil⟩
theorem fl_X2_3 : hk_FL "HeadReckons$Acts" 3 215 2 [2] := List.forall_mem_cons.mpr ⟨⟨by decide, (RX2, TX2, 16), 15, rfl, hk_ok2, by decide, rfl, Or.inl q192⟩, fun _ h => absurd h List.not_mem_nil⟩
theorem fp_X2_3 : hk_FP "HeadReckons$Acts" 3 215 2 [2] true := List.forall_mem_cons.mpr ⟨⟨by decide, (RX2, TX2, 16), 15, rfl, hk_ok2, by decide, rfl, Or.inl ⟨q192, Or.inr ⟨rfl, rfl, rfl⟩⟩⟩, fun _ h => absurd h List.not_mem_nil⟩
theorem fl_X2_15 : hk_FL "HeadReckons$Acts" 15 200 2 [2] := List.forall_mem_cons.mpr ⟨⟨by decide, (RX2, TX2, 16), 0, rfl, hk_ok2, by decide, rfl, Or.inl q170⟩, fun _ h => absurd h List.not_mem_nil⟩
theorem fp_X2_15 : hk_FP "HeadReckons$Acts" 15 200 2 [2] true := List.forall_mem_cons.mpr ⟨⟨by decide, (RX2, TX2, 16), 0, rfl, hk_ok2, by decide, rfl, Or.inl ⟨q170, Or.inr ⟨rfl, rfl, rfl⟩⟩⟩, fun _ h => absurd h List.not_mem_nil⟩
theorem fl_X2_19 : hk_FL "HeadReckons$Acts" 19 201 2 [2] := List.forall_mem_cons.mpr ⟨⟨by decide, (RX2, TX2, 16), 1, rfl, hk_ok2, by decide, rfl, Or.inl q172⟩, fun _ h => absurd h List.not_mem_nil⟩
theorem fp_X2_19 : hk_FP "HeadReckons$Acts" 19 201 2 [2] true := List.forall_mem_cons.mpr ⟨⟨by decide, (RX2, TX2, 16), 1, rfl, hk_ok2, by decide, rfl, Or.inl ⟨q172, Or.inr ⟨rfl, rfl, rfl⟩⟩⟩, fun _ h => absurd h List.not_mem_nil⟩
theorem fl_X2_22 : hk_FL "HeadReckons$Acts" 22 202 2 [2] := List.forall_mem_cons.mpr ⟨⟨by decide, (RX2, TX2, 16), 2, rfl, hk_ok2, by decide, rfl, Or.inl q174⟩, fun _ h => absurd h List.not_mem_nil⟩
theorem fp_X2_22 : hk_FP "HeadReckons$Acts" 22 202 2 [2] true := List.forall_mem_cons.mpr ⟨⟨by decide, (RX2, TX2, 16), 2, rfl, hk_ok2, by decide, rfl, Or.inl ⟨q174, Or.inr ⟨rfl, rfl, rfl⟩⟩⟩, fun _ h => absurd h List.not_mem_nil⟩
theorem fl_X2_25 : hk_FL "HeadReckons$Acts" 25 203 2 [2] := List.forall_mem_cons.mpr ⟨⟨by decide, (RX2, TX2, 16), 3, rfl, hk_ok2, by decide, rfl, Or.inl q176⟩, fun _ h => absurd h List.not_mem_nil⟩
theorem fp_X2_25 : hk_FP "HeadReckons$Acts" 25 203 2 [2] true := List.forall_mem_cons.mpr ⟨⟨by decide, (RX2, TX2, 16), 3, rfl, hk_ok2, by decide, rfl, Or.inl ⟨q176, Or.inr ⟨rfl, rfl, rfl⟩⟩⟩, fun _ h => absurd h List.not_mem_nil⟩
theorem fl_X2_29 : hk_FL "HeadReckons$Acts" 29 204 2 [2] := List.forall_mem_cons.mpr ⟨⟨by decide, (RX2, TX2, 16), 4, rfl, hk_ok2, by decide, rfl, Or.inl q178⟩, fun _ h => absurd h List.not_mem_nil⟩
theorem fp_X2_29 : hk_FP "HeadReckons$Acts" 29 204 2 [2] true := List.forall_mem_cons.mpr ⟨⟨by decide, (RX2, TX2, 16), 4, rfl, hk_ok2, by decide, rfl, Or.inl ⟨q178, Or.inr ⟨rfl, rfl, rfl⟩⟩⟩, fun _ h => absurd h List.not_mem_nil⟩
theorem fl_X2_32 : hk_FL "HeadReckons$Acts" 32 205 2 [2] := List.forall_mem_cons.mpr ⟨⟨by decide, (RX2, TX2, 16), 5, rfl, hk_ok2, by decide, rfl, Or.inl q179⟩, fun _ h => absurd h List.not_mem_nil⟩
theorem fp_X2_32 : hk_FP "HeadReckons$Acts" 32 205 2 [2] true := List.forall_mem_cons.mpr ⟨⟨by decide, (RX2, TX2, 16), 5, rfl, hk_ok2, by decide, rfl, Or.inl ⟨q179, Or.inr ⟨rfl, rfl, rfl⟩⟩⟩, fun _ h => absurd h List.not_mem_nil⟩
theorem fl_X2_35 : hk_FL "HeadReckons$Acts" 35 214 2 [2] := List.forall_mem_cons.mpr ⟨⟨by decide, (RX2, TX2, 16), 14, rfl, hk_ok2, by decide, rfl, Or.inl q191⟩, fun _ h => absurd h List.not_mem_nil⟩
theorem fp_X2_35 : hk_FP "HeadReckons$Acts" 35 214 2 [2] true := List.forall_mem_cons.mpr ⟨⟨by decide, (RX2, TX2, 16), 14, rfl, hk_ok2, by decide, rfl, Or.inl ⟨q191, Or.inr ⟨rfl, rfl, rfl⟩⟩⟩, fun _ h => absurd h List.not_mem_nil⟩
theorem fl_X2_38 : hk_FL "HeadReckons$Acts" 38 213 2 [2] := List.forall_mem_cons.mpr ⟨⟨by decide, (RX2, TX2, 16), 13, rfl, hk_ok2, by decide, rfl, Or.inl q190⟩, fun _ h => absurd h List.not_mem_nil⟩
theorem fp_X2_38 : hk_FP "HeadReckons$Acts" 38 213 2 [2] false := List.forall_mem_cons.mpr ⟨⟨by decide, (RX2, TX2, 16), 13, rfl, hk_ok2, by decide, rfl, Or.inl ⟨q190, Or.inl rfl⟩⟩, fun _ h => absurd h List.not_mem_nil⟩
theorem fl_X2_42 : hk_FL "HeadReckons$Acts" 42 206 0 [2] := List.forall_mem_cons.mpr ⟨⟨by decide, (RX2, TX2, 16), 6, rfl, hk_ok2, by decide, rfl, Or.inl q180⟩, fun _ h => absurd h List.not_mem_nil⟩
theorem fp_X2_42 : hk_FP "HeadReckons$Acts" 42 206 0 [2] false := List.forall_mem_cons.mpr ⟨⟨by decide, (RX2, TX2, 16), 6, rfl, hk_ok2, by decide, rfl, Or.inl ⟨q180, Or.inl rfl⟩⟩, fun _ h => absurd h List.not_mem_nil⟩
theorem fl_X2_46 : hk_FL "HeadReckons$Acts" 46 207 0 [2] := List.forall_mem_cons.mpr ⟨⟨by decide, (RX2, TX2, 16), 7, rfl, hk_ok2, by decide, rfl, Or.inl q182⟩, fun _ h => absurd h List.not_mem_nil⟩
theorem fp_X2_46 : hk_FP "HeadReckons$Acts" 46 207 0 [2] false := List.forall_mem_cons.mpr ⟨⟨by decide, (RX2, TX2, 16), 7, rfl, hk_ok2, by decide, rfl, Or.inl ⟨q182, Or.inl rfl⟩⟩, fun _ h => absurd h List.not_mem_nil⟩
theorem fl_X2_49 : hk_FL "HeadReckons$Acts" 49 208 0 [2] := List.forall_mem_cons.mpr ⟨⟨by decide, (RX2, TX2, 16), 8, rfl, hk_ok2, by decide, rfl, Or.inl q183⟩, fun _ h => absurd h List.not_mem_nil⟩
theorem fp_X2_49 : hk_FP "HeadReckons$Acts" 49 208 0 [2] false := List.forall_mem_cons.mpr ⟨⟨by decide, (RX2, TX2, 16), 8, rfl, hk_ok2, by decide, rfl, Or.inl ⟨q183, Or.inl rfl⟩⟩, fun _ h => absurd h List.not_mem_nil⟩
theorem fl_X2_52 : hk_FL "HeadReckons$Acts" 52 209 0 [2] := List.forall_mem_cons.mpr ⟨⟨by decide, (RX2, TX2, 16), 9, rfl, hk_ok2, by decide, rfl, Or.inl q185⟩, fun _ h => absurd h List.not_mem_nil⟩
theorem fp_X2_52 : hk_FP "HeadReckons$Acts" 52 209 0 [2] false := List.forall_mem_cons.mpr ⟨⟨by decide, (RX2, TX2, 16), 9, rfl, hk_ok2, by decide, rfl, Or.inl ⟨q185, Or.inl rfl⟩⟩, fun _ h => absurd h List.not_mem_nil⟩
theorem fl_X2_55 : hk_FL "HeadReckons$Acts" 55 211 1 [2] := List.forall_mem_cons.mpr ⟨⟨by decide, (RX2, TX2, 16), 11, rfl, hk_ok2, by decide, rfl, Or.inl q188⟩, fun _ h => absurd h List.not_mem_nil⟩
theorem fp_X2_55 : hk_FP "HeadReckons$Acts" 55 211 1 [2] false := List.forall_mem_cons.mpr ⟨⟨by decide, (RX2, TX2, 16), 11, rfl, hk_ok2, by decide, rfl, Or.inl ⟨q188, Or.inl rfl⟩⟩, fun _ h => absurd h List.not_mem_nil⟩
theorem fl_X2_89 : hk_FL "HeadReckons$Acts" 89 210 1 [2] := List.forall_mem_cons.mpr ⟨⟨by decide, (RX2, TX2, 16), 10, rfl, hk_ok2, by decide, rfl, Or.inl q187⟩, fun _ h => absurd h List.not_mem_nil⟩
theorem fp_X2_89 : hk_FP "HeadReckons$Acts" 89 210 1 [2] false := List.forall_mem_cons.mpr ⟨⟨by decide, (RX2, TX2, 16), 10, rfl, hk_ok2, by decide, rfl, Or.inl ⟨q187, Or.inl rfl⟩⟩, fun _ h => absurd h List.not_mem_nil⟩
theorem fl_X2_92 : hk_FL "HeadReckons$Acts" 92 212 3 [2] := List.forall_mem_cons.mpr ⟨⟨by decide, (RX2, TX2, 16), 12, rfl, hk_ok2, by decide, rfl, Or.inl q189⟩, fun _ h => absurd h List.not_mem_nil⟩
theorem fp_X2_92 : hk_FP "HeadReckons$Acts" 92 212 3 [2] false := List.forall_mem_cons.mpr ⟨⟨by decide, (RX2, TX2, 16), 12, rfl, hk_ok2, by decide, rfl, Or.inl ⟨q189, Or.inl rfl⟩⟩, fun _ h => absurd h List.not_mem_nil⟩
theorem fl_X2_106 : hk_FL "HeadReckons$Acts" 106 300 2 [3] := List.forall_mem_cons.mpr ⟨⟨by decide, (RX3, TX3, 3), 0, rfl, hk_ok3, by decide, rfl, Or.inr ⟨_, q237⟩⟩, fun _ h => absurd h List.not_mem_nil⟩
theorem cs_X2_59 : hk_CV "HeadReckons$Acts" 59 2 yX2_begin cX2_begin 1 none 0 := ⟨by decide, (RX2, TX2, 16), rfl, lw_V q648 q650 qs15 q94 q651, rfl, by decide, by decide, by decide +kernel⟩
theorem cs_X2_62 : hk_CV "HeadReckons$Acts" 62 3 yX3_knows cX3_knows 4 (some .boolean) 2 := ⟨by decide, (RX3, TX3, 3), rfl, lw_V q652 q653 q654 q95 q655, rfl, by decide, by decide, by decide +kernel⟩
theorem cs_X2_68 : hk_CV "HeadReckons$Acts" 68 2 yX2_look cX2_look 7 none 3 := ⟨by decide, (RX2, TX2, 16), rfl, lw_V q664 q666 qs16 q94 q667, rfl, by decide, by decide, by decide +kernel⟩
theorem cs_X2_72 : hk_CV "HeadReckons$Acts" 72 2 yX2_left cX2_left 11 none 2 := ⟨by decide, (RX2, TX2, 16), rfl, lw_V q680 q682 qs18 q94 q683, rfl, by decide, by decide, by decide +kernel⟩
theorem cs_X2_76 : hk_CV "HeadReckons$Acts" 76 2 yX2_right cX2_right 10 none 2 := ⟨by decide, (RX2, TX2, 16), rfl, lw_V q688 q690 qs19 q94 q691, rfl, by decide, by decide, by decide +kernel⟩
theorem cs_X2_79 : hk_CV "HeadReckons$Acts" 79 2 yX2_crossed cX2_crossed 13 none 2 := ⟨by decide, (RX2, TX2, 16), rfl, lw_V q696 q698 qs21 q94 q699, rfl, by decide, by decide, by decide +kernel⟩
theorem cs_X2_82 : hk_CV "HeadReckons$Acts" 82 2 yX2_squared cX2_squared 9 (some .boolean) 2 := ⟨by decide, (RX2, TX2, 16), rfl, lw_V q700 q702 qs22 q94 q703, rfl, by decide, by decide, by decide +kernel⟩
theorem cs_X2_86 : hk_CV "HeadReckons$Acts" 86 2 yX2_split cX2_split 7 (some .boolean) 2 := ⟨by decide, (RX2, TX2, 16), rfl, lw_V q708 q710 qs23 q94 q711, rfl, by decide, by decide, by decide +kernel⟩
theorem cs_X2_96 : hk_CSN "HeadReckons$Acts" 96 yX0_sizeOf cX0_sizeOf 5 (some .int) 1 := ⟨_, lw_meth q677, q675, q92, q676, by decide, by decide, by decide +kernel⟩
theorem cs_X2_100 : hk_CS "HeadReckons$Acts" 100 yJ2_max cJ2_max 2 (some .int) 2 := ⟨lw_S q679 q497 q102 q498, by decide, by decide, by decide +kernel⟩
theorem cs_X2_109 : hk_CS "HeadReckons$Acts" 109 yJ2_min_2 cJ2_min_2 4 (some .long) 2 := ⟨lw_S q668 q669 q102 q670, by decide, by decide, by decide +kernel⟩
theorem cs_X2_113 : hk_CV "HeadReckons$Acts" 113 2 yX2_act cX2_act 7 none 4 := ⟨by decide, (RX2, TX2, 16), rfl, lw_V q671 q673 qs17 q94 q674, rfl, by decide, by decide, by decide +kernel⟩
theorem cs_X2_117 : hk_CSN "HeadReckons$Acts" 117 yX0_tenTo cX0_tenTo 4 (some .long) 1 := ⟨_, lw_meth q686, q684, q92, q685, by decide, by decide, by decide +kernel⟩
theorem cs_X2_123 : hk_CV "HeadReckons$Acts" 123 2 yX2_hold cX2_hold 4 none 2 := ⟨by decide, (RX2, TX2, 16), rfl, lw_V q692 q694 qs20 q94 q695, rfl, by decide, by decide, by decide +kernel⟩
theorem cs_X2_129 : hk_CS "HeadReckons$Acts" 129 yJ2_abs cJ2_abs 2 (some .long) 1 := ⟨lw_S q705 q706 q102 q707, by decide, by decide, by decide +kernel⟩
theorem cs_X2_133 : hk_CV "HeadReckons$Acts" 133 2 yX2_slipWays cX2_slipWays 2 (some .int) 1 := ⟨by decide, (RX2, TX2, 16), rfl, lw_V q989 q771 q772 q94 q773, rfl, by decide, by decide, by decide +kernel⟩
theorem cs_X2_137 : hk_CV "HeadReckons$Acts" 137 2 yX2_slip cX2_slip 3 (some .long) 2 := ⟨by decide, (RX2, TX2, 16), rfl, lw_V q990 q775 q776 q94 q777, rfl, by decide, by decide, by decide +kernel⟩
theorem fl_X3_9 : hk_FL "HeadReckons$Head" 9 300 2 [3] := List.forall_mem_cons.mpr ⟨⟨by decide, (RX3, TX3, 3), 0, rfl, hk_ok3, by decide, rfl, Or.inl q236⟩, fun _ h => absurd h List.not_mem_nil⟩
theorem fp_X3_9 : hk_FP "HeadReckons$Head" 9 300 2 [3] true := List.forall_mem_cons.mpr ⟨⟨by decide, (RX3, TX3, 3), 0, rfl, hk_ok3, by decide, rfl, Or.inl ⟨q236, Or.inr ⟨rfl, rfl, rfl⟩⟩⟩, fun _ h => absurd h List.not_mem_nil⟩
theorem fl_X3_17 : hk_FL "HeadReckons$Head" 17 301 2 [3] := List.forall_mem_cons.mpr ⟨⟨by decide, (RX3, TX3, 3), 1, rfl, hk_ok3, by decide, rfl, Or.inl q239⟩, fun _ h => absurd h List.not_mem_nil⟩
theorem fp_X3_17 : hk_FP "HeadReckons$Head" 17 301 2 [3] true := List.forall_mem_cons.mpr ⟨⟨by decide, (RX3, TX3, 3), 1, rfl, hk_ok3, by decide, rfl, Or.inl ⟨q239, Or.inr ⟨rfl, rfl, rfl⟩⟩⟩, fun _ h => absurd h List.not_mem_nil⟩
theorem fl_X3_21 : hk_FL "HeadReckons$Head" 21 302 0 [3] := List.forall_mem_cons.mpr ⟨⟨by decide, (RX3, TX3, 3), 2, rfl, hk_ok3, by decide, rfl, Or.inl q240⟩, fun _ h => absurd h List.not_mem_nil⟩
theorem fp_X3_21 : hk_FP "HeadReckons$Head" 21 302 0 [3] false := List.forall_mem_cons.mpr ⟨⟨by decide, (RX3, TX3, 3), 2, rfl, hk_ok3, by decide, rfl, Or.inl ⟨q240, Or.inl rfl⟩⟩, fun _ h => absurd h List.not_mem_nil⟩
theorem fl_X3_33 : hk_FL "HeadReckons$Head" 33 1402 0 [14] := List.forall_mem_cons.mpr ⟨⟨by decide, (RX15, TX15, 3), 2, rfl, hk_ok14, by decide, rfl, Or.inr ⟨_, q1045⟩⟩, fun _ h => absurd h List.not_mem_nil⟩
theorem fp_X3_33 : hk_FP "HeadReckons$Head" 33 1402 0 [14] false := List.forall_mem_cons.mpr ⟨⟨by decide, (RX15, TX15, 3), 2, rfl, hk_ok14, by decide, rfl, Or.inr ⟨_, q1045, rfl⟩⟩, fun _ h => absurd h List.not_mem_nil⟩
theorem fl_X3_45 : hk_FL "HeadReckons$Head" 45 1400 0 [14] := List.forall_mem_cons.mpr ⟨⟨by decide, (RX15, TX15, 3), 0, rfl, hk_ok14, by decide, rfl, Or.inr ⟨_, q1041⟩⟩, fun _ h => absurd h List.not_mem_nil⟩
theorem fp_X3_45 : hk_FP "HeadReckons$Head" 45 1400 0 [14] false := List.forall_mem_cons.mpr ⟨⟨by decide, (RX15, TX15, 3), 0, rfl, hk_ok14, by decide, rfl, Or.inr ⟨_, q1041, rfl⟩⟩, fun _ h => absurd h List.not_mem_nil⟩
theorem fl_X3_48 : hk_FL "HeadReckons$Head" 48 1401 0 [14] := List.forall_mem_cons.mpr ⟨⟨by decide, (RX15, TX15, 3), 1, rfl, hk_ok14, by decide, rfl, Or.inr ⟨_, q1043⟩⟩, fun _ h => absurd h List.not_mem_nil⟩
theorem fp_X3_48 : hk_FP "HeadReckons$Head" 48 1401 0 [14] false := List.forall_mem_cons.mpr ⟨⟨by decide, (RX15, TX15, 3), 1, rfl, hk_ok14, by decide, rfl, Or.inr ⟨_, q1043, rfl⟩⟩, fun _ h => absurd h List.not_mem_nil⟩
theorem cs_X3_25 : hk_CV "HeadReckons$Head" 25 14 yX15_is cX15_is 3 (some .boolean) 2 := ⟨by decide, (RX15, TX15, 3), rfl, lw_V q660 q661 q662 q120 q663, rfl, by decide, by decide, by decide +kernel⟩
theorem cs_X3_29 : hk_CV "HeadReckons$Head" 29 3 yX3_find cX3_find 4 (some (.object "HeadReckons$Learnt")) 2 := ⟨by decide, (RX3, TX3, 3), rfl, lw_V q656 q657 q658 q95 q659, rfl, by decide, by decide, by decide +kernel⟩
theorem cs_X3_36 : hk_CV "HeadReckons$Head" 36 3 yX3_add cX3_add 5 (some (.object "HeadReckons$Learnt")) 3 := ⟨by decide, (RX3, TX3, 3), rfl, lw_V q1031 q1033 qs33 q95 q1034, rfl, by decide, by decide, by decide +kernel⟩
theorem cs_X3_40 : hk_CIN "HeadReckons$Head" 40 yX15_init cX15_init 1 0 := ⟨_, lw_meth q1038, q120, q1036, q1037, rfl, by decide, by decide, by decide +kernel⟩
theorem cs_X3_41 : hk_CV "HeadReckons$Head" 41 14 yX15_become cX15_become 4 none 3 := ⟨by decide, (RX15, TX15, 3), rfl, lw_V q1053 q1054 q1055 q120 q1056, rfl, by decide, by decide, by decide +kernel⟩
theorem fl_X5_7 : hk_FL "HeadReckons$Change" 7 500 2 [5] := List.forall_mem_cons.mpr ⟨⟨by decide, (RX5, TX5, 4), 0, rfl, hk_ok5, by decide, rfl, Or.inl q359⟩, fun _ h => absurd h List.not_mem_nil⟩
theorem fp_X5_7 : hk_FP "HeadReckons$Change" 7 500 2 [5] true := List.forall_mem_cons.mpr ⟨⟨by decide, (RX5, TX5, 4), 0, rfl, hk_ok5, by decide, rfl, Or.inl ⟨q359, Or.inr ⟨rfl, rfl, rfl⟩⟩⟩, fun _ h => absurd h List.not_mem_nil⟩
theorem fl_X5_13 : hk_FL "HeadReckons$Change" 13 501 0 [5] := List.forall_mem_cons.mpr ⟨⟨by decide, (RX5, TX5, 4), 1, rfl, hk_ok5, by decide, rfl, Or.inl q361⟩, fun _ h => absurd h List.not_mem_nil⟩
theorem fp_X5_13 : hk_FP "HeadReckons$Change" 13 501 0 [5] true := List.forall_mem_cons.mpr ⟨⟨by decide, (RX5, TX5, 4), 1, rfl, hk_ok5, by decide, rfl, Or.inl ⟨q361, Or.inr ⟨rfl, rfl, rfl⟩⟩⟩, fun _ h => absurd h List.not_mem_nil⟩
theorem fl_X5_17 : hk_FL "HeadReckons$Change" 17 502 0 [5] := List.forall_mem_cons.mpr ⟨⟨by decide, (RX5, TX5, 4), 2, rfl, hk_ok5, by decide, rfl, Or.inl q363⟩, fun _ h => absurd h List.not_mem_nil⟩
theorem fp_X5_17 : hk_FP "HeadReckons$Change" 17 502 0 [5] true := List.forall_mem_cons.mpr ⟨⟨by decide, (RX5, TX5, 4), 2, rfl, hk_ok5, by decide, rfl, Or.inl ⟨q363, Or.inr ⟨rfl, rfl, rfl⟩⟩⟩, fun _ h => absurd h List.not_mem_nil⟩
theorem fl_X5_20 : hk_FL "HeadReckons$Change" 20 503 0 [5] := List.forall_mem_cons.mpr ⟨⟨by decide, (RX5, TX5, 4), 3, rfl, hk_ok5, by decide, rfl, Or.inl q365⟩, fun _ h => absurd h List.not_mem_nil⟩
theorem fp_X5_20 : hk_FP "HeadReckons$Change" 20 503 0 [5] true := List.forall_mem_cons.mpr ⟨⟨by decide, (RX5, TX5, 4), 3, rfl, hk_ok5, by decide, rfl, Or.inl ⟨q365, Or.inr ⟨rfl, rfl, rfl⟩⟩⟩, fun _ h => absurd h List.not_mem_nil⟩
theorem fl_X6_3 : hk_FL "HeadReckons$Reader" 3 603 2 [6] := List.forall_mem_cons.mpr ⟨⟨by decide, (RX6, TX6, 4), 3, rfl, hk_ok6, by decide, rfl, Or.inl q398⟩, fun _ h => absurd h List.not_mem_nil⟩
theorem fp_X6_3 : hk_FP "HeadReckons$Reader" 3 603 2 [6] true := List.forall_mem_cons.mpr ⟨⟨by decide, (RX6, TX6, 4), 3, rfl, hk_ok6, by decide, rfl, Or.inl ⟨q398, Or.inr ⟨rfl, rfl, rfl⟩⟩⟩, fun _ h => absurd h List.not_mem_nil⟩
theorem fl_X6_15 : hk_FL "HeadReckons$Reader" 15 601 0 [6] := List.forall_mem_cons.mpr ⟨⟨by decide, (RX6, TX6, 4), 1, rfl, hk_ok6, by decide, rfl, Or.inl q395⟩, fun _ h => absurd h List.not_mem_nil⟩
theorem fp_X6_15 : hk_FP "HeadReckons$Reader" 15 601 0 [6] false := List.forall_mem_cons.mpr ⟨⟨by decide, (RX6, TX6, 4), 1, rfl, hk_ok6, by decide, rfl, Or.inl ⟨q395, Or.inl rfl⟩⟩, fun _ h => absurd h List.not_mem_nil⟩
theorem fl_X6_19 : hk_FL "HeadReckons$Reader" 19 600 0 [6] := List.forall_mem_cons.mpr ⟨⟨by decide, (RX6, TX6, 4), 0, rfl, hk_ok6, by decide, rfl, Or.inl q394⟩, fun _ h => absurd h List.not_mem_nil⟩
theorem fp_X6_19 : hk_FP "HeadReckons$Reader" 19 600 0 [6] false := List.forall_mem_cons.mpr ⟨⟨by decide, (RX6, TX6, 4), 0, rfl, hk_ok6, by decide, rfl, Or.inl ⟨q394, Or.inl rfl⟩⟩, fun _ h => absurd h List.not_mem_nil⟩
theorem fl_X6_22 : hk_FL "HeadReckons$Reader" 22 1 0 [0] := List.forall_mem_cons.mpr ⟨⟨by decide, (RX0, TX0, 23), 1, rfl, hk_ok0, by decide, rfl, Or.inr ⟨_, q254⟩⟩, fun _ h => absurd h List.not_mem_nil⟩
theorem fp_X6_22 : hk_FP "HeadReckons$Reader" 22 1 0 [0] false := List.forall_mem_cons.mpr ⟨⟨by decide, (RX0, TX0, 23), 1, rfl, hk_ok0, by decide, rfl, Or.inr ⟨_, q254, rfl⟩⟩, fun _ h => absurd h List.not_mem_nil⟩
theorem fl_X6_25 : hk_FL "HeadReckons$Reader" 25 0 2 [0] := List.forall_mem_cons.mpr ⟨⟨by decide, (RX0, TX0, 23), 0, rfl, hk_ok0, by decide, rfl, Or.inr ⟨_, q253⟩⟩, fun _ h => absurd h List.not_mem_nil⟩
theorem fl_X6_43 : hk_FL "HeadReckons$Reader" 43 702 2 [7] := List.forall_mem_cons.mpr ⟨⟨by decide, (RX7, TX7, 3), 2, rfl, hk_ok7, by decide, rfl, Or.inr ⟨_, q426⟩⟩, fun _ h => absurd h List.not_mem_nil⟩
theorem fp_X6_43 : hk_FP "HeadReckons$Reader" 43 702 2 [7] false := List.forall_mem_cons.mpr ⟨⟨by decide, (RX7, TX7, 3), 2, rfl, hk_ok7, by decide, rfl, Or.inr ⟨_, q426, rfl⟩⟩, fun _ h => absurd h List.not_mem_nil⟩
theorem fl_X6_54 : hk_FL "HeadReckons$Reader" 54 701 2 [7] := List.forall_mem_cons.mpr ⟨⟨by decide, (RX7, TX7, 3), 1, rfl, hk_ok7, by decide, rfl, Or.inr ⟨_, q424⟩⟩, fun _ h => absurd h List.not_mem_nil⟩
theorem fp_X6_54 : hk_FP "HeadReckons$Reader" 54 701 2 [7] false := List.forall_mem_cons.mpr ⟨⟨by decide, (RX7, TX7, 3), 1, rfl, hk_ok7, by decide, rfl, Or.inr ⟨_, q424, rfl⟩⟩, fun _ h => absurd h List.not_mem_nil⟩
theorem fl_X6_58 : hk_FL "HeadReckons$Reader" 58 700 2 [7] := List.forall_mem_cons.mpr ⟨⟨by decide, (RX7, TX7, 3), 0, rfl, hk_ok7, by decide, rfl, Or.inr ⟨_, q422⟩⟩, fun _ h => absurd h List.not_mem_nil⟩
theorem fp_X6_58 : hk_FP "HeadReckons$Reader" 58 700 2 [7] false := List.forall_mem_cons.mpr ⟨⟨by decide, (RX7, TX7, 3), 0, rfl, hk_ok7, by decide, rfl, Or.inr ⟨_, q422, rfl⟩⟩, fun _ h => absurd h List.not_mem_nil⟩
theorem fl_X6_95 : hk_FL "HeadReckons$Reader" 95 602 0 [6] := List.forall_mem_cons.mpr ⟨⟨by decide, (RX6, TX6, 4), 2, rfl, hk_ok6, by decide, rfl, Or.inl q397⟩, fun _ h => absurd h List.not_mem_nil⟩
theorem fp_X6_95 : hk_FP "HeadReckons$Reader" 95 602 0 [6] false := List.forall_mem_cons.mpr ⟨⟨by decide, (RX6, TX6, 4), 2, rfl, hk_ok6, by decide, rfl, Or.inl ⟨q397, Or.inl rfl⟩⟩, fun _ h => absurd h List.not_mem_nil⟩
theorem cs_X6_29 : hk_CV "HeadReckons$Reader" 29 6 yX6_here cX6_here 1 (some .int) 0 := ⟨by decide, (RX6, TX6, 4), rfl, lw_V q459 q461 qs8 q98 q462, rfl, by decide, by decide, by decide +kernel⟩
theorem cs_X6_33 : hk_CVS "HeadReckons$Reader" 33 yJ0_indexOf cJ0_indexOf 2 (some .int) 1 := ⟨lw_V q468 q469 q470 q100 q471, rfl, by decide, by decide, by decide +kernel⟩
theorem cs_X6_39 : hk_CV "HeadReckons$Reader" 39 6 yX6_line cX6_line 2 (some (.object "HeadReckons$Line")) 0 := ⟨by decide, (RX6, TX6, 4), rfl, lw_V q412 q414 qs1 q98 q415, rfl, by decide, by decide, by decide +kernel⟩
theorem cs_X6_49 : hk_CIN "HeadReckons$Reader" 49 yX7_init cX7_init 1 0 := ⟨_, lw_meth q420, q99, q418, q419, rfl, by decide, by decide, by decide +kernel⟩
theorem cs_X6_50 : hk_CV "HeadReckons$Reader" 50 6 yX6_either cX6_either 2 (some (.object "HeadReckons$Node")) 0 := ⟨by decide, (RX6, TX6, 4), rfl, lw_V q435 q437 qs2 q98 q438, rfl, by decide, by decide, by decide +kernel⟩
theorem cs_X6_63 : hk_CI "HeadReckons$Reader" 63 yX13_init cX13_init 4 3 := ⟨lw_meth q615, q111, q613, q614, rfl, by decide, by decide, by decide +kernel⟩
theorem cs_X6_66 : hk_CV "HeadReckons$Reader" 66 6 yX6_all cX6_all 2 (some (.object "HeadReckons$Node")) 0 := ⟨by decide, (RX6, TX6, 4), rfl, lw_V q439 q441 qs3 q98 q442, rfl, by decide, by decide, by decide +kernel⟩
theorem cs_X6_69 : hk_CV "HeadReckons$Reader" 69 6 yX6_joined cX6_joined 4 (some (.object "HeadReckons$Node")) 3 := ⟨by decide, (RX6, TX6, 4), rfl, lw_V q607 q609 qs12 q98 q610, rfl, by decide, by decide, by decide +kernel⟩
theorem cs_X6_73 : hk_CV "HeadReckons$Reader" 73 6 yX6_compared cX6_compared 3 (some (.object "HeadReckons$Node")) 0 := ⟨by decide, (RX6, TX6, 4), rfl, lw_V q443 q445 qs4 q98 q446, rfl, by decide, by decide, by decide +kernel⟩
theorem cs_X6_76 : hk_CV "HeadReckons$Reader" 76 6 yX6_sum cX6_sum 3 (some (.object "HeadReckons$Node")) 0 := ⟨by decide, (RX6, TX6, 4), rfl, lw_V q447 q449 qs5 q98 q450, rfl, by decide, by decide, by decide +kernel⟩
theorem cs_X6_81 : hk_CV "HeadReckons$Reader" 81 6 yX6_isOne cX6_isOne 2 (some .boolean) 1 := ⟨by decide, (RX6, TX6, 4), rfl, lw_V q464 q466 qs9 q98 q467, rfl, by decide, by decide, by decide +kernel⟩
theorem cs_X6_85 : hk_CV "HeadReckons$Reader" 85 6 yX6_product cX6_product 3 (some (.object "HeadReckons$Node")) 0 := ⟨by decide, (RX6, TX6, 4), rfl, lw_V q451 q453 qs6 q98 q454, rfl, by decide, by decide, by decide +kernel⟩
theorem cs_X6_90 : hk_CV "HeadReckons$Reader" 90 6 yX6_operand cX6_operand 4 (some (.object "HeadReckons$Node")) 0 := ⟨by decide, (RX6, TX6, 4), rfl, lw_V q455 q457 qs7 q98 q458, rfl, by decide, by decide, by decide +kernel⟩
theorem cs_X6_102 : hk_CI "HeadReckons$Reader" 102 yX9_init cX9_init 2 1 := ⟨lw_meth q558, q107, q556, q557, rfl, by decide, by decide, by decide +kernel⟩
theorem cs_X6_105 : hk_CV "HeadReckons$Reader" 105 6 yX6_opens cX6_opens 1 (some .boolean) 0 := ⟨by decide, (RX6, TX6, 4), rfl, lw_V q567 q569 qs10 q98 q570, rfl, by decide, by decide, by decide +kernel⟩
theorem cs_X6_109 : hk_CV "HeadReckons$Reader" 109 6 yX6_wrong cX6_wrong 1 (some (.object "HeadReckons$Node")) 0 := ⟨by decide, (RX6, TX6, 4), rfl, lw_V q571 q573 qs11 q98 q574, rfl, by decide, by decide, by decide +kernel⟩
theorem cs_X6_114 : hk_CI "HeadReckons$Reader" 114 yX10_init cX10_init 2 1 := ⟨lw_meth q579, q108, q577, q578, rfl, by decide, by decide, by decide +kernel⟩
theorem cs_X6_119 : hk_CI "HeadReckons$Reader" 119 yX11_init cX11_init 2 1 := ⟨lw_meth q589, q109, q587, q588, rfl, by decide, by decide, by decide +kernel⟩
theorem cs_X6_120 : hk_CSN "HeadReckons$Reader" 120 yX0_in cX0_in 3 (some .boolean) 3 := ⟨_, lw_meth q330, q595, q92, q329, by decide, by decide, by decide +kernel⟩
theorem cs_X6_126 : hk_CI "HeadReckons$Reader" 126 yX12_init cX12_init 2 1 := ⟨lw_meth q600, q110, q598, q599, rfl, by decide, by decide, by decide +kernel⟩

theorem fl_X9_7 : hk_FL "HeadReckons$Name" 7 800 0 [8] := List.forall_mem_cons.mpr ⟨⟨by decide, (RX9, TX9, 1), 0, rfl, hk_ok8, by decide, rfl, Or.inl q563⟩, fun _ h => absurd h List.not_mem_nil⟩
theorem fp_X9_7 : hk_FP "HeadReckons$Name" 7 800 0 [8] true := List.forall_mem_cons.mpr ⟨⟨by decide, (RX9, TX9, 1), 0, rfl, hk_ok8, by decide, rfl, Or.inl ⟨q563, Or.inr ⟨rfl, rfl, rfl⟩⟩⟩, fun _ h => absurd h List.not_mem_nil⟩
theorem fl_X9_13 : hk_FL "HeadReckons$Name" 13 100 2 [1] := List.forall_mem_cons.mpr ⟨⟨by decide, (RX1, TX1, 1), 0, rfl, hk_ok1, by decide, rfl, Or.inr ⟨_, q157⟩⟩, fun _ h => absurd h List.not_mem_nil⟩
theorem cs_X9_1 : hk_CIN "HeadReckons$Name" 1 yX8_init cX8_init 1 0 := ⟨_, lw_meth q561, q106, q559, q560, rfl, by decide, by decide, by decide +kernel⟩
theorem fl_X10_7 : hk_FL "HeadReckons$Denied" 7 900 2 [9] := List.forall_mem_cons.mpr ⟨⟨by decide, (RX10, TX10, 1), 0, rfl, hk_ok9, by decide, rfl, Or.inl q581⟩, fun _ h => absurd h List.not_mem_nil⟩
theorem fp_X10_7 : hk_FP "HeadReckons$Denied" 7 900 2 [9] true := List.forall_mem_cons.mpr ⟨⟨by decide, (RX10, TX10, 1), 0, rfl, hk_ok9, by decide, rfl, Or.inl ⟨q581, Or.inr ⟨rfl, rfl, rfl⟩⟩⟩, fun _ h => absurd h List.not_mem_nil⟩
theorem cs_X10_1 : hk_CIN "HeadReckons$Denied" 1 yX8_init cX8_init 1 0 := ⟨_, lw_meth q561, q106, q580, q560, rfl, by decide, by decide, by decide +kernel⟩
theorem fl_X11_7 : hk_FL "HeadReckons$Turned" 7 1000 2 [10] := List.forall_mem_cons.mpr ⟨⟨by decide, (RX11, TX11, 1), 0, rfl, hk_ok10, by decide, rfl, Or.inl q591⟩, fun _ h => absurd h List.not_mem_nil⟩
theorem fp_X11_7 : hk_FP "HeadReckons$Turned" 7 1000 2 [10] true := List.forall_mem_cons.mpr ⟨⟨by decide, (RX11, TX11, 1), 0, rfl, hk_ok10, by decide, rfl, Or.inl ⟨q591, Or.inr ⟨rfl, rfl, rfl⟩⟩⟩, fun _ h => absurd h List.not_mem_nil⟩
theorem cs_X11_1 : hk_CIN "HeadReckons$Turned" 1 yX8_init cX8_init 1 0 := ⟨_, lw_meth q561, q106, q590, q560, rfl, by decide, by decide, by decide +kernel⟩
theorem fl_X12_7 : hk_FL "HeadReckons$Leaf" 7 1100 0 [11] := List.forall_mem_cons.mpr ⟨⟨by decide, (RX12, TX12, 1), 0, rfl, hk_ok11, by decide, rfl, Or.inl q602⟩, fun _ h => absurd h List.not_mem_nil⟩
theorem fp_X12_7 : hk_FP "HeadReckons$Leaf" 7 1100 0 [11] true := List.forall_mem_cons.mpr ⟨⟨by decide, (RX12, TX12, 1), 0, rfl, hk_ok11, by decide, rfl, Or.inl ⟨q602, Or.inr ⟨rfl, rfl, rfl⟩⟩⟩, fun _ h => absurd h List.not_mem_nil⟩
theorem cs_X12_1 : hk_CIN "HeadReckons$Leaf" 1 yX8_init cX8_init 1 0 := ⟨_, lw_meth q561, q106, q601, q560, rfl, by decide, by decide, by decide +kernel⟩
theorem fl_X13_7 : hk_FL "HeadReckons$Pair" 7 1200 0 [12] := List.forall_mem_cons.mpr ⟨⟨by decide, (RX13, TX13, 3), 0, rfl, hk_ok12, by decide, rfl, Or.inl q617⟩, fun _ h => absurd h List.not_mem_nil⟩
theorem fp_X13_7 : hk_FP "HeadReckons$Pair" 7 1200 0 [12] true := List.forall_mem_cons.mpr ⟨⟨by decide, (RX13, TX13, 3), 0, rfl, hk_ok12, by decide, rfl, Or.inl ⟨q617, Or.inr ⟨rfl, rfl, rfl⟩⟩⟩, fun _ h => absurd h List.not_mem_nil⟩
theorem fl_X13_13 : hk_FL "HeadReckons$Pair" 13 1201 2 [12] := List.forall_mem_cons.mpr ⟨⟨by decide, (RX13, TX13, 3), 1, rfl, hk_ok12, by decide, rfl, Or.inl q618⟩, fun _ h => absurd h List.not_mem_nil⟩
theorem fp_X13_13 : hk_FP "HeadReckons$Pair" 13 1201 2 [12] true := List.forall_mem_cons.mpr ⟨⟨by decide, (RX13, TX13, 3), 1, rfl, hk_ok12, by decide, rfl, Or.inl ⟨q618, Or.inr ⟨rfl, rfl, rfl⟩⟩⟩, fun _ h => absurd h List.not_mem_nil⟩
theorem fl_X13_17 : hk_FL "HeadReckons$Pair" 17 1202 2 [12] := List.forall_mem_cons.mpr ⟨⟨by decide, (RX13, TX13, 3), 2, rfl, hk_ok12, by decide, rfl, Or.inl q619⟩, fun _ h => absurd h List.not_mem_nil⟩
theorem fp_X13_17 : hk_FP "HeadReckons$Pair" 17 1202 2 [12] true := List.forall_mem_cons.mpr ⟨⟨by decide, (RX13, TX13, 3), 2, rfl, hk_ok12, by decide, rfl, Or.inl ⟨q619, Or.inr ⟨rfl, rfl, rfl⟩⟩⟩, fun _ h => absurd h List.not_mem_nil⟩
theorem cs_X13_1 : hk_CIN "HeadReckons$Pair" 1 yX8_init cX8_init 1 0 := ⟨_, lw_meth q561, q106, q616, q560, rfl, by decide, by decide, by decide +kernel⟩
theorem cs_X13_24 : hk_CS "HeadReckons$Pair" 24 yX13_is cX13_is 1 (some .int) 1 := ⟨lw_S q757 q758 q111 q759, by decide, by decide, by decide +kernel⟩
theorem fl_X14_7 : hk_FL "HeadReckons$Seen" 7 1300 0 [13] := List.forall_mem_cons.mpr ⟨⟨by decide, (RX14, TX14, 4), 0, rfl, hk_ok13, by decide, rfl, Or.inl q804⟩, fun _ h => absurd h List.not_mem_nil⟩
theorem fp_X14_7 : hk_FP "HeadReckons$Seen" 7 1300 0 [13] true := List.forall_mem_cons.mpr ⟨⟨by decide, (RX14, TX14, 4), 0, rfl, hk_ok13, by decide, rfl, Or.inl ⟨q804, Or.inr ⟨rfl, rfl, rfl⟩⟩⟩, fun _ h => absurd h List.not_mem_nil⟩
theorem fl_X14_13 : hk_FL "HeadReckons$Seen" 13 1301 0 [13] := List.forall_mem_cons.mpr ⟨⟨by decide, (RX14, TX14, 4), 1, rfl, hk_ok13, by decide, rfl, Or.inl q806⟩, fun _ h => absurd h List.not_mem_nil⟩
theorem fp_X14_13 : hk_FP "HeadReckons$Seen" 13 1301 0 [13] true := List.forall_mem_cons.mpr ⟨⟨by decide, (RX14, TX14, 4), 1, rfl, hk_ok13, by decide, rfl, Or.inl ⟨q806, Or.inr ⟨rfl, rfl, rfl⟩⟩⟩, fun _ h => absurd h List.not_mem_nil⟩
theorem fl_X14_16 : hk_FL "HeadReckons$Seen" 16 1302 0 [13] := List.forall_mem_cons.mpr ⟨⟨by decide, (RX14, TX14, 4), 2, rfl, hk_ok13, by decide, rfl, Or.inl q808⟩, fun _ h => absurd h List.not_mem_nil⟩
theorem fp_X14_16 : hk_FP "HeadReckons$Seen" 16 1302 0 [13] true := List.forall_mem_cons.mpr ⟨⟨by decide, (RX14, TX14, 4), 2, rfl, hk_ok13, by decide, rfl, Or.inl ⟨q808, Or.inr ⟨rfl, rfl, rfl⟩⟩⟩, fun _ h => absurd h List.not_mem_nil⟩
theorem fl_X14_19 : hk_FL "HeadReckons$Seen" 19 1303 0 [13] := List.forall_mem_cons.mpr ⟨⟨by decide, (RX14, TX14, 4), 3, rfl, hk_ok13, by decide, rfl, Or.inl q810⟩, fun _ h => absurd h List.not_mem_nil⟩
theorem fp_X14_19 : hk_FP "HeadReckons$Seen" 19 1303 0 [13] true := List.forall_mem_cons.mpr ⟨⟨by decide, (RX14, TX14, 4), 3, rfl, hk_ok13, by decide, rfl, Or.inl ⟨q810, Or.inr ⟨rfl, rfl, rfl⟩⟩⟩, fun _ h => absurd h List.not_mem_nil⟩
theorem fl_X15_7 : hk_FL "HeadReckons$Learnt" 7 1400 0 [14] := List.forall_mem_cons.mpr ⟨⟨by decide, (RX15, TX15, 3), 0, rfl, hk_ok14, by decide, rfl, Or.inl q1040⟩, fun _ h => absurd h List.not_mem_nil⟩
theorem fp_X15_7 : hk_FP "HeadReckons$Learnt" 7 1400 0 [14] false := List.forall_mem_cons.mpr ⟨⟨by decide, (RX15, TX15, 3), 0, rfl, hk_ok14, by decide, rfl, Or.inl ⟨q1040, Or.inl rfl⟩⟩, fun _ h => absurd h List.not_mem_nil⟩
theorem fl_X15_13 : hk_FL "HeadReckons$Learnt" 13 1401 0 [14] := List.forall_mem_cons.mpr ⟨⟨by decide, (RX15, TX15, 3), 1, rfl, hk_ok14, by decide, rfl, Or.inl q1042⟩, fun _ h => absurd h List.not_mem_nil⟩
theorem fp_X15_13 : hk_FP "HeadReckons$Learnt" 13 1401 0 [14] false := List.forall_mem_cons.mpr ⟨⟨by decide, (RX15, TX15, 3), 1, rfl, hk_ok14, by decide, rfl, Or.inl ⟨q1042, Or.inl rfl⟩⟩, fun _ h => absurd h List.not_mem_nil⟩
theorem fl_X15_16 : hk_FL "HeadReckons$Learnt" 16 1402 0 [14] := List.forall_mem_cons.mpr ⟨⟨by decide, (RX15, TX15, 3), 2, rfl, hk_ok14, by decide, rfl, Or.inl q1044⟩, fun _ h => absurd h List.not_mem_nil⟩
theorem fp_X15_16 : hk_FP "HeadReckons$Learnt" 16 1402 0 [14] false := List.forall_mem_cons.mpr ⟨⟨by decide, (RX15, TX15, 3), 2, rfl, hk_ok14, by decide, rfl, Or.inl ⟨q1044, Or.inl rfl⟩⟩, fun _ h => absurd h List.not_mem_nil⟩
theorem fl_X17_3 : hk_FL "HeadReckons$Way" 3 1501 2 [15, 16, 17, 18, 19, 20, 21, 22] := List.forall_mem_cons.mpr ⟨⟨by decide, (RX17, TX17, 2), 1, rfl, hk_ok15, by decide, rfl, Or.inl q1141⟩, List.forall_mem_cons.mpr ⟨⟨by decide, (RX18, TX18, 3), 1, rfl, hk_ok16, by decide, rfl, Or.inl q1141⟩, List.forall_mem_cons.mpr ⟨⟨by decide, (RX19, TX19, 3), 1, rfl, hk_ok17, by decide, rfl, Or.inl q1141⟩, List.forall_mem_cons.mpr ⟨⟨by decide, (RX20, TX20, 4), 1, rfl, hk_ok18, by decide, rfl, Or.inl q1141⟩, List.forall_mem_cons.mpr ⟨⟨by decide, (RX21, TX21, 3), 1, rfl, hk_ok19, by decide, rfl, Or.inl q1141⟩, List.forall_mem_cons.mpr ⟨⟨by decide, (RX22, TX22, 4), 1, rfl, hk_ok20, by decide, rfl, Or.inl q1141⟩, List.forall_mem_cons.mpr ⟨⟨by decide, (RX23, TX23, 3), 1, rfl, hk_ok21, by decide, rfl, Or.inl q1141⟩, List.forall_mem_cons.mpr ⟨⟨by decide, (RX24, TX24, 4), 1, rfl, hk_ok22, by decide, rfl, Or.inl q1141⟩, fun _ h => absurd h List.not_mem_nil⟩⟩⟩⟩⟩⟩⟩⟩
theorem fp_X17_3 : hk_FP "HeadReckons$Way" 3 1501 2 [15, 16, 17, 18, 19, 20, 21, 22] true := List.forall_mem_cons.mpr ⟨⟨by decide, (RX17, TX17, 2), 1, rfl, hk_ok15, by decide, rfl, Or.inl ⟨q1141, Or.inr ⟨rfl, rfl, rfl⟩⟩⟩, List.forall_mem_cons.mpr ⟨⟨by decide, (RX18, TX18, 3), 1, rfl, hk_ok16, by decide, rfl, Or.inl ⟨q1141, Or.inr ⟨rfl, rfl, rfl⟩⟩⟩, List.forall_mem_cons.mpr ⟨⟨by decide, (RX19, TX19, 3), 1, rfl, hk_ok17, by decide, rfl, Or.inl ⟨q1141, Or.inr ⟨rfl, rfl, rfl⟩⟩⟩, List.forall_mem_cons.mpr ⟨⟨by decide, (RX20, TX20, 4), 1, rfl, hk_ok18, by decide, rfl, Or.inl ⟨q1141, Or.inr ⟨rfl, rfl, rfl⟩⟩⟩, List.forall_mem_cons.mpr ⟨⟨by decide, (RX21, TX21, 3), 1, rfl, hk_ok19, by decide, rfl, Or.inl ⟨q1141, Or.inr ⟨rfl, rfl, rfl⟩⟩⟩, List.forall_mem_cons.mpr ⟨⟨by decide, (RX22, TX22, 4), 1, rfl, hk_ok20, by decide, rfl, Or.inl ⟨q1141, Or.inr ⟨rfl, rfl, rfl⟩⟩⟩, List.forall_mem_cons.mpr ⟨⟨by decide, (RX23, TX23, 3), 1, rfl, hk_ok21, by decide, rfl, Or.inl ⟨q1141, Or.inr ⟨rfl, rfl, rfl⟩⟩⟩, List.forall_mem_cons.mpr ⟨⟨by decide, (RX24, TX24, 4), 1, rfl, hk_ok22, by decide, rfl, Or.inl ⟨q1141, Or.inr ⟨rfl, rfl, rfl⟩⟩⟩, fun _ h => absurd h List.not_mem_nil⟩⟩⟩⟩⟩⟩⟩⟩
theorem fl_X17_15 : hk_FL "HeadReckons$Way" 15 1500 0 [15, 16, 17, 18, 19, 20, 21, 22] := List.forall_mem_cons.mpr ⟨⟨by decide, (RX17, TX17, 2), 0, rfl, hk_ok15, by decide, rfl, Or.inl q1140⟩, List.forall_mem_cons.mpr ⟨⟨by decide, (RX18, TX18, 3), 0, rfl, hk_ok16, by decide, rfl, Or.inl q1140⟩, List.forall_mem_cons.mpr ⟨⟨by decide, (RX19, TX19, 3), 0, rfl, hk_ok17, by decide, rfl, Or.inl q1140⟩, List.forall_mem_cons.mpr ⟨⟨by decide, (RX20, TX20, 4), 0, rfl, hk_ok18, by decide, rfl, Or.inl q1140⟩, List.forall_mem_cons.mpr ⟨⟨by decide, (RX21, TX21, 3), 0, rfl, hk_ok19, by decide, rfl, Or.inl q1140⟩, List.forall_mem_cons.mpr ⟨⟨by decide, (RX22, TX22, 4), 0, rfl, hk_ok20, by decide, rfl, Or.inl q1140⟩, List.forall_mem_cons.mpr ⟨⟨by decide, (RX23, TX23, 3), 0, rfl, hk_ok21, by decide, rfl, Or.inl q1140⟩, List.forall_mem_cons.mpr ⟨⟨by decide, (RX24, TX24, 4), 0, rfl, hk_ok22, by decide, rfl, Or.inl q1140⟩, fun _ h => absurd h List.not_mem_nil⟩⟩⟩⟩⟩⟩⟩⟩
theorem fp_X17_15 : hk_FP "HeadReckons$Way" 15 1500 0 [15, 16, 17, 18, 19, 20, 21, 22] true := List.forall_mem_cons.mpr ⟨⟨by decide, (RX17, TX17, 2), 0, rfl, hk_ok15, by decide, rfl, Or.inl ⟨q1140, Or.inr ⟨rfl, rfl, rfl⟩⟩⟩, List.forall_mem_cons.mpr ⟨⟨by decide, (RX18, TX18, 3), 0, rfl, hk_ok16, by decide, rfl, Or.inl ⟨q1140, Or.inr ⟨rfl, rfl, rfl⟩⟩⟩, List.forall_mem_cons.mpr ⟨⟨by decide, (RX19, TX19, 3), 0, rfl, hk_ok17, by decide, rfl, Or.inl ⟨q1140, Or.inr ⟨rfl, rfl, rfl⟩⟩⟩, List.forall_mem_cons.mpr ⟨⟨by decide, (RX20, TX20, 4), 0, rfl, hk_ok18, by decide, rfl, Or.inl ⟨q1140, Or.inr ⟨rfl, rfl, rfl⟩⟩⟩, List.forall_mem_cons.mpr ⟨⟨by decide, (RX21, TX21, 3), 0, rfl, hk_ok19, by decide, rfl, Or.inl ⟨q1140, Or.inr ⟨rfl, rfl, rfl⟩⟩⟩, List.forall_mem_cons.mpr ⟨⟨by decide, (RX22, TX22, 4), 0, rfl, hk_ok20, by decide, rfl, Or.inl ⟨q1140, Or.inr ⟨rfl, rfl, rfl⟩⟩⟩, List.forall_mem_cons.mpr ⟨⟨by decide, (RX23, TX23, 3), 0, rfl, hk_ok21, by decide, rfl, Or.inl ⟨q1140, Or.inr ⟨rfl, rfl, rfl⟩⟩⟩, List.forall_mem_cons.mpr ⟨⟨by decide, (RX24, TX24, 4), 0, rfl, hk_ok22, by decide, rfl, Or.inl ⟨q1140, Or.inr ⟨rfl, rfl, rfl⟩⟩⟩, fun _ h => absurd h List.not_mem_nil⟩⟩⟩⟩⟩⟩⟩⟩
theorem cs_X17_9 : hk_CIN "HeadReckons$Way" 9 yX16_init cX16_init 1 0 := ⟨_, lw_meth q1137, q121, q1135, q1136, rfl, by decide, by decide, by decide +kernel⟩
theorem cs_X17_19 : hk_CV "HeadReckons$Way" 19 15 yX17_kind cX17_kind 1 (some .int) 0 := ⟨by decide, (RX17, TX17, 2), rfl, lw_V q1554 q1555 q1556 q122 q1579, rfl, by decide, by decide, by decide +kernel⟩
theorem cs_X17_23 : hk_CVN "HeadReckons$Way" 23 0 yX0_ran cX0_ran 2 none 1 := ⟨by decide, (RX0, TX0, 23), _, rfl, lw_meth q1250, q1258, q92, q1249, qs40, by decide, by decide, by decide +kernel⟩
theorem cs_X17_27 : hk_CV "HeadReckons$Way" 27 15 yX17_costs cX17_costs 2 (some .int) 1 := ⟨by decide, (RX17, TX17, 2), rfl, lw_V q1305 q1256 q2225 q122 q1257, rfl, by decide, by decide, by decide +kernel⟩
theorem cs_X17_31 : hk_CV "HeadReckons$Way" 31 15 yX17_keeps cX17_keeps 2 (some .int) 1 := ⟨by decide, (RX17, TX17, 2), rfl, lw_V q1292 q1293 q1294 q122 q1304, rfl, by decide, by decide, by decide +kernel⟩
theorem cs_X17_34 : hk_CV "HeadReckons$Way" 34 15 yX17_slips cX17_slips 2 (some .int) 1 := ⟨by decide, (RX17, TX17, 2), rfl, lw_V q1315 q1316 q1317 q122 q1325, rfl, by decide, by decide, by decide +kernel⟩
theorem fl_X18_1 : hk_FL "HeadReckons$FromLeft" 1 1600 2 [16, 20] := List.forall_mem_cons.mpr ⟨⟨by decide, (RX18, TX18, 3), 2, rfl, hk_ok16, by decide, rfl, Or.inl q1139⟩, List.forall_mem_cons.mpr ⟨⟨by decide, (RX22, TX22, 4), 2, rfl, hk_ok20, by decide, rfl, Or.inl q1139⟩, fun _ h => absurd h List.not_mem_nil⟩⟩
theorem fp_X18_1 : hk_FP "HeadReckons$FromLeft" 1 1600 2 [16, 20] true := List.forall_mem_cons.mpr ⟨⟨by decide, (RX18, TX18, 3), 2, rfl, hk_ok16, by decide, rfl, Or.inl ⟨q1139, Or.inr ⟨rfl, rfl, rfl⟩⟩⟩, List.forall_mem_cons.mpr ⟨⟨by decide, (RX22, TX22, 4), 2, rfl, hk_ok20, by decide, rfl, Or.inl ⟨q1139, Or.inr ⟨rfl, rfl, rfl⟩⟩⟩, fun _ h => absurd h List.not_mem_nil⟩⟩
theorem cs_X18_7 : hk_CI "HeadReckons$FromLeft" 7 yX17_init cX17_init 3 2 := ⟨lw_meth q1134, q122, q1132, q1133, rfl, by decide, by decide, by decide +kernel⟩
theorem cs_X18_17 : hk_CVN "HeadReckons$FromLeft" 17 0 yX0_ran cX0_ran 2 none 1 := ⟨by decide, (RX0, TX0, 23), _, rfl, lw_meth q1250, q1254, q92, q1249, qs40, by decide, by decide, by decide +kernel⟩
theorem fl_X19_1 : hk_FL "HeadReckons$FromRight" 1 1700 2 [17, 18] := List.forall_mem_cons.mpr ⟨⟨by decide, (RX19, TX19, 3), 2, rfl, hk_ok17, by decide, rfl, Or.inl q1155⟩, List.forall_mem_cons.mpr ⟨⟨by decide, (RX20, TX20, 4), 2, rfl, hk_ok18, by decide, rfl, Or.inl q1155⟩, fun _ h => absurd h List.not_mem_nil⟩⟩
theorem fp_X19_1 : hk_FP "HeadReckons$FromRight" 1 1700 2 [17, 18] true := List.forall_mem_cons.mpr ⟨⟨by decide, (RX19, TX19, 3), 2, rfl, hk_ok17, by decide, rfl, Or.inl ⟨q1155, Or.inr ⟨rfl, rfl, rfl⟩⟩⟩, List.forall_mem_cons.mpr ⟨⟨by decide, (RX20, TX20, 4), 2, rfl, hk_ok18, by decide, rfl, Or.inl ⟨q1155, Or.inr ⟨rfl, rfl, rfl⟩⟩⟩, fun _ h => absurd h List.not_mem_nil⟩⟩
theorem cs_X19_7 : hk_CI "HeadReckons$FromRight" 7 yX17_init cX17_init 3 2 := ⟨lw_meth q1134, q122, q1154, q1133, rfl, by decide, by decide, by decide +kernel⟩
theorem cs_X19_17 : hk_CVN "HeadReckons$FromRight" 17 0 yX0_ran cX0_ran 2 none 1 := ⟨by decide, (RX0, TX0, 23), _, rfl, lw_meth q1250, q1302, q92, q1249, qs40, by decide, by decide, by decide +kernel⟩
theorem fl_X20_1 : hk_FL "HeadReckons$Crosswise" 1 1800 2 [18] := List.forall_mem_cons.mpr ⟨⟨by decide, (RX20, TX20, 4), 3, rfl, hk_ok18, by decide, rfl, Or.inl q1167⟩, fun _ h => absurd h List.not_mem_nil⟩
theorem fp_X20_1 : hk_FP "HeadReckons$Crosswise" 1 1800 2 [18] true := List.forall_mem_cons.mpr ⟨⟨by decide, (RX20, TX20, 4), 3, rfl, hk_ok18, by decide, rfl, Or.inl ⟨q1167, Or.inr ⟨rfl, rfl, rfl⟩⟩⟩, fun _ h => absurd h List.not_mem_nil⟩
theorem cs_X20_7 : hk_CI "HeadReckons$Crosswise" 7 yX19_init cX19_init 3 2 := ⟨lw_meth q1153, q124, q1166, q1152, rfl, by decide, by decide, by decide +kernel⟩
theorem cs_X20_13 : hk_CVN "HeadReckons$Crosswise" 13 0 yX0_ran cX0_ran 2 none 1 := ⟨by decide, (RX0, TX0, 23), _, rfl, lw_meth q1250, q1336, q92, q1249, qs40, by decide, by decide, by decide +kernel⟩
theorem fl_X21_1 : hk_FL "HeadReckons$BySquares" 1 1900 2 [19] := List.forall_mem_cons.mpr ⟨⟨by decide, (RX21, TX21, 3), 2, rfl, hk_ok19, by decide, rfl, Or.inl q1180⟩, fun _ h => absurd h List.not_mem_nil⟩
theorem fp_X21_1 : hk_FP "HeadReckons$BySquares" 1 1900 2 [19] true := List.forall_mem_cons.mpr ⟨⟨by decide, (RX21, TX21, 3), 2, rfl, hk_ok19, by decide, rfl, Or.inl ⟨q1180, Or.inr ⟨rfl, rfl, rfl⟩⟩⟩, fun _ h => absurd h List.not_mem_nil⟩
theorem cs_X21_7 : hk_CI "HeadReckons$BySquares" 7 yX17_init cX17_init 3 2 := ⟨lw_meth q1134, q122, q1179, q1133, rfl, by decide, by decide, by decide +kernel⟩
theorem cs_X21_13 : hk_CVN "HeadReckons$BySquares" 13 0 yX0_ran cX0_ran 2 none 1 := ⟨by decide, (RX0, TX0, 23), _, rfl, lw_meth q1250, q1351, q92, q1249, qs40, by decide, by decide, by decide +kernel⟩
theorem fl_X22_1 : hk_FL "HeadReckons$ByFactors" 1 2000 2 [20] := List.forall_mem_cons.mpr ⟨⟨by decide, (RX22, TX22, 4), 3, rfl, hk_ok20, by decide, rfl, Or.inl q1192⟩, fun _ h => absurd h List.not_mem_nil⟩
theorem fp_X22_1 : hk_FP "HeadReckons$ByFactors" 1 2000 2 [20] true := List.forall_mem_cons.mpr ⟨⟨by decide, (RX22, TX22, 4), 3, rfl, hk_ok20, by decide, rfl, Or.inl ⟨q1192, Or.inr ⟨rfl, rfl, rfl⟩⟩⟩, fun _ h => absurd h List.not_mem_nil⟩
theorem cs_X22_7 : hk_CI "HeadReckons$ByFactors" 7 yX18_init cX18_init 3 2 := ⟨lw_meth q1131, q123, q1191, q1130, rfl, by decide, by decide, by decide +kernel⟩
theorem cs_X22_13 : hk_CVN "HeadReckons$ByFactors" 13 0 yX0_ran cX0_ran 2 none 1 := ⟨by decide, (RX0, TX0, 23), _, rfl, lw_meth q1250, q1247, q92, q1249, qs40, by decide, by decide, by decide +kernel⟩
theorem cs_X22_26 : hk_CV "HeadReckons$ByFactors" 26 20 yX22_costs cX22_costs 2 (some .int) 1 := ⟨by decide, (RX22, TX22, 4), rfl, lw_V q1326 q1244 q2226 q127 q1246, rfl, by decide, by decide, by decide +kernel⟩
theorem fl_X23_1 : hk_FL "HeadReckons$ByHeart" 1 2100 2 [21, 22] := List.forall_mem_cons.mpr ⟨⟨by decide, (RX23, TX23, 3), 2, rfl, hk_ok21, by decide, rfl, Or.inl q1205⟩, List.forall_mem_cons.mpr ⟨⟨by decide, (RX24, TX24, 4), 2, rfl, hk_ok22, by decide, rfl, Or.inl q1205⟩, fun _ h => absurd h List.not_mem_nil⟩⟩
theorem fp_X23_1 : hk_FP "HeadReckons$ByHeart" 1 2100 2 [21, 22] true := List.forall_mem_cons.mpr ⟨⟨by decide, (RX23, TX23, 3), 2, rfl, hk_ok21, by decide, rfl, Or.inl ⟨q1205, Or.inr ⟨rfl, rfl, rfl⟩⟩⟩, List.forall_mem_cons.mpr ⟨⟨by decide, (RX24, TX24, 4), 2, rfl, hk_ok22, by decide, rfl, Or.inl ⟨q1205, Or.inr ⟨rfl, rfl, rfl⟩⟩⟩, fun _ h => absurd h List.not_mem_nil⟩⟩
theorem cs_X23_7 : hk_CI "HeadReckons$ByHeart" 7 yX17_init cX17_init 3 2 := ⟨lw_meth q1134, q122, q1204, q1133, rfl, by decide, by decide, by decide +kernel⟩
theorem cs_X23_17 : hk_CVN "HeadReckons$ByHeart" 17 0 yX0_ran cX0_ran 2 none 1 := ⟨by decide, (RX0, TX0, 23), _, rfl, lw_meth q1250, q1330, q92, q1249, qs40, by decide, by decide, by decide +kernel⟩
theorem fl_X24_1 : hk_FL "HeadReckons$Rooted" 1 2200 2 [22] := List.forall_mem_cons.mpr ⟨⟨by decide, (RX24, TX24, 4), 3, rfl, hk_ok22, by decide, rfl, Or.inl q1217⟩, fun _ h => absurd h List.not_mem_nil⟩
theorem fp_X24_1 : hk_FP "HeadReckons$Rooted" 1 2200 2 [22] true := List.forall_mem_cons.mpr ⟨⟨by decide, (RX24, TX24, 4), 3, rfl, hk_ok22, by decide, rfl, Or.inl ⟨q1217, Or.inr ⟨rfl, rfl, rfl⟩⟩⟩, fun _ h => absurd h List.not_mem_nil⟩
theorem cs_X24_7 : hk_CI "HeadReckons$Rooted" 7 yX23_init cX23_init 3 2 := ⟨lw_meth q1203, q128, q1216, q1202, rfl, by decide, by decide, by decide +kernel⟩
theorem cs_X24_13 : hk_CVN "HeadReckons$Rooted" 13 0 yX0_ran cX0_ran 2 none 1 := ⟨by decide, (RX0, TX0, 23), _, rfl, lw_meth q1250, q1311, q92, q1249, qs40, by decide, by decide, by decide +kernel⟩
theorem fl_X26_7 : hk_FL "HeadReckons$ByteRow" 7 2300 2 [23] := List.forall_mem_cons.mpr ⟨⟨by decide, (RX26, TX26, 1), 0, rfl, hk_ok23, by decide, rfl, Or.inl q1418⟩, fun _ h => absurd h List.not_mem_nil⟩
theorem fp_X26_7 : hk_FP "HeadReckons$ByteRow" 7 2300 2 [23] true := List.forall_mem_cons.mpr ⟨⟨by decide, (RX26, TX26, 1), 0, rfl, hk_ok23, by decide, rfl, Or.inl ⟨q1418, Or.inr ⟨rfl, rfl, rfl⟩⟩⟩, fun _ h => absurd h List.not_mem_nil⟩
theorem cs_X26_1 : hk_CIN "HeadReckons$ByteRow" 1 yX25_init cX25_init 1 0 := ⟨_, lw_meth q1416, q131, q1414, q1415, rfl, by decide, by decide, by decide +kernel⟩
theorem fl_X27_7 : hk_FL "HeadReckons$ShortRow" 7 2400 2 [24] := List.forall_mem_cons.mpr ⟨⟨by decide, (RX27, TX27, 1), 0, rfl, hk_ok24, by decide, rfl, Or.inl q1428⟩, fun _ h => absurd h List.not_mem_nil⟩
theorem fp_X27_7 : hk_FP "HeadReckons$ShortRow" 7 2400 2 [24] true := List.forall_mem_cons.mpr ⟨⟨by decide, (RX27, TX27, 1), 0, rfl, hk_ok24, by decide, rfl, Or.inl ⟨q1428, Or.inr ⟨rfl, rfl, rfl⟩⟩⟩, fun _ h => absurd h List.not_mem_nil⟩
theorem cs_X27_1 : hk_CIN "HeadReckons$ShortRow" 1 yX25_init cX25_init 1 0 := ⟨_, lw_meth q1416, q131, q1427, q1415, rfl, by decide, by decide, by decide +kernel⟩
theorem fl_X28_7 : hk_FL "HeadReckons$IntRow" 7 2500 2 [25] := List.forall_mem_cons.mpr ⟨⟨by decide, (RX28, TX28, 1), 0, rfl, hk_ok25, by decide, rfl, Or.inl q1438⟩, fun _ h => absurd h List.not_mem_nil⟩
theorem fp_X28_7 : hk_FP "HeadReckons$IntRow" 7 2500 2 [25] true := List.forall_mem_cons.mpr ⟨⟨by decide, (RX28, TX28, 1), 0, rfl, hk_ok25, by decide, rfl, Or.inl ⟨q1438, Or.inr ⟨rfl, rfl, rfl⟩⟩⟩, fun _ h => absurd h List.not_mem_nil⟩
theorem cs_X28_1 : hk_CIN "HeadReckons$IntRow" 1 yX25_init cX25_init 1 0 := ⟨_, lw_meth q1416, q131, q1437, q1415, rfl, by decide, by decide, by decide +kernel⟩
theorem fl_X29_7 : hk_FL "HeadReckons$LongRow" 7 2600 2 [26] := List.forall_mem_cons.mpr ⟨⟨by decide, (RX29, TX29, 1), 0, rfl, hk_ok26, by decide, rfl, Or.inl q1448⟩, fun _ h => absurd h List.not_mem_nil⟩
theorem fp_X29_7 : hk_FP "HeadReckons$LongRow" 7 2600 2 [26] true := List.forall_mem_cons.mpr ⟨⟨by decide, (RX29, TX29, 1), 0, rfl, hk_ok26, by decide, rfl, Or.inl ⟨q1448, Or.inr ⟨rfl, rfl, rfl⟩⟩⟩, fun _ h => absurd h List.not_mem_nil⟩
theorem cs_X29_1 : hk_CIN "HeadReckons$LongRow" 1 yX25_init cX25_init 1 0 := ⟨_, lw_meth q1416, q131, q1447, q1415, rfl, by decide, by decide, by decide +kernel⟩
theorem fl_X30_7 : hk_FL "HeadReckons$BooleanRow" 7 2700 2 [27] := List.forall_mem_cons.mpr ⟨⟨by decide, (RX30, TX30, 1), 0, rfl, hk_ok27, by decide, rfl, Or.inl q1458⟩, fun _ h => absurd h List.not_mem_nil⟩
theorem fp_X30_7 : hk_FP "HeadReckons$BooleanRow" 7 2700 2 [27] true := List.forall_mem_cons.mpr ⟨⟨by decide, (RX30, TX30, 1), 0, rfl, hk_ok27, by decide, rfl, Or.inl ⟨q1458, Or.inr ⟨rfl, rfl, rfl⟩⟩⟩, fun _ h => absurd h List.not_mem_nil⟩
theorem cs_X30_1 : hk_CIN "HeadReckons$BooleanRow" 1 yX25_init cX25_init 1 0 := ⟨_, lw_meth q1416, q131, q1457, q1415, rfl, by decide, by decide, by decide +kernel⟩


theorem cs_X25_1 : hk_CIN "HeadReckons$Row" 1 yX16_init cX16_init 1 0 := ⟨_, lw_meth q1137, q121, q1417, q1136, rfl, by decide, by decide, by decide +kernel⟩
theorem hk_as5 : hk_AS "HeadReckons$Learnt" [14] := List.forall_mem_cons.mpr ⟨⟨by decide, (RX15, TX15, 3), rfl, Or.inl rfl⟩, fun _ h => absurd h List.not_mem_nil⟩
theorem hk_as6 : hk_AS "HeadReckons$Head" [3] := List.forall_mem_cons.mpr ⟨⟨by decide, (RX3, TX3, 3), rfl, Or.inl rfl⟩, fun _ h => absurd h List.not_mem_nil⟩
theorem hk_as7 : hk_AS "HeadReckons$Change" [5] := List.forall_mem_cons.mpr ⟨⟨by decide, (RX5, TX5, 4), rfl, Or.inl rfl⟩, fun _ h => absurd h List.not_mem_nil⟩
theorem hk_as8 : hk_AS "HeadReckons$Seen" [13] := List.forall_mem_cons.mpr ⟨⟨by decide, (RX14, TX14, 4), rfl, Or.inl rfl⟩, fun _ h => absurd h List.not_mem_nil⟩
theorem hk_as9 : hk_AS "HeadReckons$Way" [15, 16, 17, 18, 19, 20, 21, 22] := List.forall_mem_cons.mpr ⟨⟨by decide, (RX17, TX17, 2), rfl, Or.inl rfl⟩, List.forall_mem_cons.mpr ⟨⟨by decide, (RX18, TX18, 3), rfl, Or.inr q2238⟩, List.forall_mem_cons.mpr ⟨⟨by decide, (RX19, TX19, 3), rfl, Or.inr q2239⟩, List.forall_mem_cons.mpr ⟨⟨by decide, (RX20, TX20, 4), rfl, Or.inr q2237⟩, List.forall_mem_cons.mpr ⟨⟨by decide, (RX21, TX21, 3), rfl, Or.inr q2236⟩, List.forall_mem_cons.mpr ⟨⟨by decide, (RX22, TX22, 4), rfl, Or.inr q2234⟩, List.forall_mem_cons.mpr ⟨⟨by decide, (RX23, TX23, 3), rfl, Or.inr q2235⟩, List.forall_mem_cons.mpr ⟨⟨by decide, (RX24, TX24, 4), rfl, Or.inr q2240⟩, fun _ h => absurd h List.not_mem_nil⟩⟩⟩⟩⟩⟩⟩⟩
theorem hk_as10 : hk_AS "HeadReckons$Held" [15, 16, 17, 18, 19, 20, 21, 22, 23, 24, 25, 26, 27] := List.forall_mem_cons.mpr ⟨⟨by decide, (RX17, TX17, 2), rfl, Or.inr q2248⟩, List.forall_mem_cons.mpr ⟨⟨by decide, (RX18, TX18, 3), rfl, Or.inr q2241⟩, List.forall_mem_cons.mpr ⟨⟨by decide, (RX19, TX19, 3), rfl, Or.inr q2242⟩, List.forall_mem_cons.mpr ⟨⟨by decide, (RX20, TX20, 4), rfl, Or.inr q2243⟩, List.forall_mem_cons.mpr ⟨⟨by decide, (RX21, TX21, 3), rfl, Or.inr q2244⟩, List.forall_mem_cons.mpr ⟨⟨by decide, (RX22, TX22, 4), rfl, Or.inr q2245⟩, List.forall_mem_cons.mpr ⟨⟨by decide, (RX23, TX23, 3), rfl, Or.inr q2246⟩, List.forall_mem_cons.mpr ⟨⟨by decide, (RX24, TX24, 4), rfl, Or.inr q2247⟩, List.forall_mem_cons.mpr ⟨⟨by decide, (RX26, TX26, 1), rfl, Or.inr q2249⟩, List.forall_mem_cons.mpr ⟨⟨by decide, (RX27, TX27, 1), rfl, Or.inr q2250⟩, List.forall_mem_cons.mpr ⟨⟨by decide, (RX28, TX28, 1), rfl, Or.inr q2251⟩, List.forall_mem_cons.mpr ⟨⟨by decide, (RX29, TX29, 1), rfl, Or.inr q2252⟩, List.forall_mem_cons.mpr ⟨⟨by decide, (RX30, TX30, 1), rfl, Or.inr q2253⟩, fun _ h => absurd h List.not_mem_nil⟩⟩⟩⟩⟩⟩⟩⟩⟩⟩⟩⟩⟩