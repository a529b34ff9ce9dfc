set_option maxRecDepth 100000
/-! ===== STAGE 1, methods that throw: ends, contracts, calls ===== -/
section HX6
variable {Gd : hk_G} {N : hk_N} {E : hk_E} {pc : Nat} {L : List (Nat × Value)} {S : List Value} {st : hk_St} {hh : List (Nat × Nat × Nat × Nat)}
theorem hz_bzn (st : hk_St) : hk_bz st (hk_nx st) = st := rfl
/-- the answer, and the last state but for garbage -/
def hx_QG (Gd : hk_G) (r : Option Value) (fin : hk_St) : Array Value → State → Outcome → State → Prop := fun _ st oc t => (oc = .returned r ∧ ∃ z, hk_nx fin ≤ z ∧ hk_R Gd (hk_bz fin z) t.heap) ∧ va_F (hk_A Gd) st t
def hx_endG (Gd : hk_G) (hh : List (Nat × Nat × Nat × Nat)) (st0 : hk_St) (r : Option Value) (fin : hk_St) : hk_E :=
  (hk_nc st0, hk_ns st0, hk_nc fin, hk_ns fin, fun K t => hx_F Gd hh K → MQ K.2.2.2.2.2.2.2.1 (hx_QG Gd r fin) K.2.2.2.2.2.2.1 K.2.2.2.2.1 (hk_nc fin - hk_nc st0) (hk_ns fin - hk_ns st0) (hk_A Gd) t)
theorem hx_efG {st0 fin : hk_St} {r : Option Value} : hk_EF (hx_endG Gd hh st0 r fin) (hx_F Gd hh) := fun _ _ h h2 => absurd h2 h
theorem hx_FG {s : State} {H : Heap} {locs : List Loc} {fin : hk_St} {z : Nat} {r : Option Value} {args : Array Value} (hz : hk_nx fin ≤ z) (hR : hk_R Gd (hk_bz fin z) H) (hS : va_S (hk_A Gd) s.heap H locs) (t : State) (ht : t.heap = H) : hx_QG Gd r fin args s (.returned r) t := ⟨⟨rfl, z, hz, by rw [ht]; exact hR⟩, hS.F ht⟩
theorem hx_W {p : Program} {l : Launch} {e : Env} {R : Room} {s : State} {m : MethodId} {args : Array Value} {below : List Frame} {meth : Method} {c : Code} {H : Heap} {locs : List Loc} {cells slots : Nat} {g : JFrame} {P : Prop} {Q : State → Prop} (k : W p l e R s m args below meth c H locs cells slots Q g) : W p l e R s m args below meth c H locs cells slots (fun t => P → Q t) g := by
  intro T hT X
  obtain ⟨t, a, b⟩ := k T hT X
  exact ⟨t, a, fun _ => b⟩
theorem hx_iret {v : Int32} {st0 fin : hk_St} {z : Nat} (hz : hk_nx fin ≤ z) (hr : N.2.2.2.2.1 = some .int) (d : decode N.2.1 pc = .ok (.ireturn, 1)) : hk_V Gd N (hx_endG Gd hh st0 (some (.int v)) fin) pc L [.int v] (hk_bz fin z) :=
  ⟨Nat.le_refl _, Nat.le_refl _, fun p l e R s m args below meth c X H locs cells slots ls hl hR hS h1 h2 => hx_W (W.widen (k := hk_nc fin - hk_nc st0) (n := hk_ns fin - hk_ns st0) (Nat.le_sub_of_add_le h1) (Nat.le_sub_of_add_le h2) (W.iret X.1 X.2.1 (X.2.2.2.2.2.1.trans hr) (fun t ht _ => hx_FG hz hR hS t ht) hS.2.2 d X.2.2.2.2.1))⟩
theorem hx_lret {v : Int64} {st0 fin : hk_St} {z : Nat} (hz : hk_nx fin ≤ z) (hr : N.2.2.2.2.1 = some .long) (d : decode N.2.1 pc = .ok (.lreturn, 1)) : hk_V Gd N (hx_endG Gd hh st0 (some (.long v)) fin) pc L [.long v] (hk_bz fin z) :=
  ⟨Nat.le_refl _, Nat.le_refl _, fun p l e R s m args below meth c X H locs cells slots ls hl hR hS h1 h2 => hx_W (W.widen (k := hk_nc fin - hk_nc st0) (n := hk_ns fin - hk_ns st0) (Nat.le_sub_of_add_le h1) (Nat.le_sub_of_add_le h2) (W.lret X.1 X.2.1 (X.2.2.2.2.2.1.trans hr) (fun t ht _ => hx_FG hz hR hS t ht) hS.2.2 d X.2.2.2.2.1))⟩
theorem hx_iret0 {v : Int32} {st0 : hk_St} (hr : N.2.2.2.2.1 = some .int) (d : decode N.2.1 pc = .ok (.ireturn, 1)) : hk_V Gd N (hx_endG Gd hh st0 (some (.int v)) st) pc L [.int v] st := hx_iret (fin := st) (Nat.le_refl _) hr d
theorem hx_lret0 {v : Int64} {st0 : hk_St} (hr : N.2.2.2.2.1 = some .long) (d : decode N.2.1 pc = .ok (.lreturn, 1)) : hk_V Gd N (hx_endG Gd hh st0 (some (.long v)) st) pc L [.long v] st := hx_lret (fin := st) (Nat.le_refl _) hr d
def hx_PG (Gd : hk_G) (av : List Value) (st : hk_St) : Array Value → State → Prop := va_Pc av (fun U => (hk_WW Gd U ∧ hx_EX Gd U) ∧ hk_R Gd st U.heap)
/-- a method with a table: its answer and the last state but for garbage -/
def hx_MG (Gd : hk_G) (l : Launch) (y : MethodName) (ws : List Cond) (fr lo : Nat) (av : List Value) (st : hk_St) (r : Option Value) (fin : hk_St) : Prop :=
  hk_nc st ≤ hk_nc fin ∧ hk_ns st ≤ hk_ns fin ∧
  Met l y ws { frames := fr, cells := hk_nc fin - hk_nc st, slots := hk_ns fin - hk_ns st, locals := lo } (hx_PG Gd av st) (hx_QG Gd r fin) (hk_nc fin - hk_nc st) (hk_ns fin - hk_ns st) (hk_A Gd)
theorem hx_startG {l : Launch} {y : MethodName} {bytes : ByteArray} {maxL : Nat} {ret : Option FieldType} {fr lo : Nat} {av : List Value} {r : Option Value} {fin : hk_St} (htr : l.stackTraces = false) (own : String) (hy : plainFor y = true) (ho : y.cls = own) (hs : (lg_sl av).length ≤ maxL)
    (k : hk_V Gd (l, bytes, own, maxL, ret, fr, lo, false) (hx_endG Gd hh st r fin) 0 (lv_args 0 av) [] st) : hx_MG Gd l y (wsW_ y bytes maxL ret hh) fr lo av st r fin := by
  obtain ⟨k1, k2, k⟩ := k
  have k1 : hk_nc st ≤ hk_nc fin := k1
  have k2 : hk_ns st ≤ hk_ns fin := k2
  refine ⟨k1, k2, ?_⟩
  refine MetFree.of_bodySF (code := bytes) (maxLocals := maxL) (ret := ret) hy ?_ ?_
  · intro args s m h hn
    obtain ⟨m9, meth, c, hn9, h1, h2, h3, h4, -, h5, h6, -⟩ := Cond.codeWith_spec (atoms_spec (ws := wsW_ y bytes maxL ret hh) h _ List.mem_cons_self)
    cases hn.symm.trans hn9
    exact ⟨meth, c, h1, h2, h3, h4, h5, h6⟩
  · intro p e s m args below meth c s₁ B hml hP _
    have hh0 : s₁.heap = s.heap := by rw [B.state]; rfl
    obtain ⟨rfl, ⟨hWW, hEX⟩, hR⟩ := hP
    have hts := atoms_spec (ws := wsW_ y bytes maxL ret hh) B.pre
    have htb := vx_table (x := y) B (hts _ List.mem_cons_self)
    have hts : ∀ w ∈ lw_all, w.before _ s = true := fun w h => hts w (List.mem_cons_of_mem _ h)
    have hown : s.vm.findClass own = some m.cls := by rw [← ho]; exact findClass_of_methodNamed B.named
    have hz : Gd.2.2.1 ≤ s.heap.size := by rw [hR.1]; exact hR.2.1
    have hl := lv_entry av (n := maxL) hs
    have body := k p l e (headSpec (wsW_ y bytes maxL ret hh) { frames := fr, cells := hk_nc fin - hk_nc st, slots := hk_ns fin - hk_ns st, locals := lo }).room s m av.toArray below meth c ⟨B.exec, B.bytes, hown, hts, B.notSynchronized, B.returns, hml, hWW, rfl, rfl, by show hk_nc fin ≤ hk_nc st + (hk_nc fin - hk_nc st); omega, by show hk_ns fin ≤ hk_ns st + (hk_ns fin - hk_ns st); omega, hz, rfl, fun h => Bool.noConfusion h, hR.2.2.1⟩
      s.heap [] 0 0 _ (by rw [hml]; exact hl) hR va_S.rf (by show 0 + hk_nc st ≤ hk_nc st; omega) (by show 0 + hk_ns st ≤ hk_ns st; omega)
    rw [← lg_entry_eq] at body
    obtain ⟨t, a1, o⟩ := body s₁ hh0 (Stand.of_body B)
    obtain ⟨o, b1, b2, b3⟩ := o ⟨htr, hEX, htb⟩
    exact ⟨t, o, a1, b1, b2, ⟨b3.1, b3.2⟩⟩
/-- the exception EC leaves; the state before, more counted -/
def hx_XC (Gd : hk_G) (st1 : hk_St) (EC : String) : String → State → State → Prop := fun E s t => E = EC ∧ (∃ z, hk_nx st1 ≤ z ∧ hk_R Gd (hk_bz st1 z) t.heap) ∧ va_F (hk_A Gd) s t
def hx_endT (Gd : hk_G) (st0 st1 : hk_St) (EC : String) : hk_E :=
  (hk_nc st0, hk_ns st0, hk_nc st1, hk_ns st1, fun K t => hx_F Gd [] K → vx_MQ K.2.2.2.2.2.2.2.1 (fun _ _ _ _ => False) (hx_XC Gd st1 EC) K.2.2.2.2.2.2.1 K.2.2.2.2.1 (hk_nc st1 - hk_nc st0) (hk_ns st1 - hk_ns st0) (hk_A Gd) t)
theorem hx_efT {st0 st1 : hk_St} {EC : String} : hk_EF (hx_endT Gd st0 st1 EC) (hx_F Gd []) := fun _ _ h h2 => absurd h2 h
theorem hx_leave {st0 : hk_St} {EC : String} : hk_VT Gd N (hx_endT Gd st0 st EC) (hx_F Gd []) pc L st EC := by
  refine ⟨Nat.le_refl _, Nat.le_refl _, fun p l e R s m args below meth c X hF H locs cells slots ls rest q ce z hl hz hR hS h1 h2 h3 h4 h5 => ?_⟩
  have h1 : cells + hk_nc st0 ≤ hk_nc st := h1
  have h2 : slots + hk_ns st0 ≤ hk_ns st := h2
  intro T hT X9
  obtain ⟨t, a, b⟩ := vx_out (Qc := fun _ _ _ _ => False) (XC := hx_XC Gd st EC) (free := hk_A Gd) (E := EC) (args := args) (below := below) (mc := hk_nc st - hk_nc st0) (ms := hk_ns st - hk_ns st0) (pc := pc) (ls := ls) (rest := rest) (fun x hx => by rw [hF.2.2] at hx; cases hx) X.2.2.2.2.1 h3 h4 h5 (fun t ht _ => ⟨rfl, ⟨z, hz, by rw [ht]; exact hR⟩, hS.F ht⟩) hS.2.2 (by omega) (by omega) T hT X9
  exact ⟨t, a, fun _ => b⟩
/-- a method that throws -/
def hx_MT (Gd : hk_G) (l : Launch) (y : MethodName) (bytes : ByteArray) (maxL : Nat) (ret : Option FieldType) (fr lo : Nat) (av : List Value) (st st1 : hk_St) (EC : String) : Prop :=
  hk_nc st ≤ hk_nc st1 ∧ hk_ns st ≤ hk_ns st1 ∧
  vx_Met l y (ws_ y bytes maxL ret) { frames := fr, cells := hk_nc st1 - hk_nc st, slots := hk_ns st1 - hk_ns st, locals := lo } (hx_PG Gd av st) (fun _ _ _ _ => False) (hx_XC Gd st1 EC) (hk_nc st1 - hk_nc st) (hk_ns st1 - hk_ns st) (hk_A Gd)
theorem hx_startT {l : Launch} {y : MethodName} {bytes : ByteArray} {maxL : Nat} {ret : Option FieldType} {fr lo : Nat} {av : List Value} {st1 : hk_St} {EC : String} (htr : l.stackTraces = false) (own : String) (ini : Bool) (hy : plainName y.cls = true) (ho : y.cls = own) (hi : ini = true → y.name = "<init>") (hs : (lg_sl av).length ≤ maxL)
    (k : hk_V Gd (l, bytes, own, maxL, ret, fr, lo, ini) (hx_endT Gd st st1 EC) 0 (lv_args 0 av) [] st) : hx_MT Gd l y bytes maxL ret fr lo av st st1 EC := by
  obtain ⟨k1, k2, k⟩ := k
  have k1 : hk_nc st ≤ hk_nc st1 := k1
  have k2 : hk_ns st ≤ hk_ns st1 := k2
  refine ⟨k1, k2, ?_⟩
  refine vx_ofW (cc := bytes) (maxL := maxL) (ret := ret) hy rfl ?_
  intro p e s m args below meth c s₁ B hml htb hv
  obtain ⟨rfl, ⟨hWW, hEX⟩, hR⟩ := hv
  have hts := atoms_spec (ws := ws_ y bytes maxL ret) B.pre
  have hts : ∀ w ∈ lw_all, w.before _ s = true := fun w h => hts w (List.mem_cons_of_mem _ h)
  have hown : s.vm.findClass own = some m.cls := by rw [← ho]; exact findClass_of_methodNamed B.named
  have hnm : meth.name = y.name := (name_of_methodNamed B.named B.method).1
  have hz : Gd.2.2.1 ≤ s.heap.size := by rw [hR.1]; exact hR.2.1
  have hl := lv_entry av (n := maxL) hs
  rw [lg_entry_eq]
  have htb : c.exceptionTable.toList = tableOf [] := List.eq_nil_iff_forall_not_mem.mpr htb
  have body := k p l e (headSpec (ws_ y bytes maxL ret) { frames := fr, cells := hk_nc st1 - hk_nc st, slots := hk_ns st1 - hk_ns st, locals := lo }).room s m av.toArray below meth c ⟨B.exec, B.bytes, hown, hts, B.notSynchronized, B.returns, hml, hWW, rfl, rfl, by show hk_nc st1 ≤ hk_nc st + (hk_nc st1 - hk_nc st); omega, by show hk_ns st1 ≤ hk_ns st + (hk_ns st1 - hk_ns st); omega, hz, rfl, fun h => hnm.trans (hi h), hR.2.2.1⟩
    s.heap [] 0 0 _ (by rw [hml]; exact hl) hR va_S.rf (by show 0 + hk_nc st ≤ hk_nc st; omega) (by show 0 + hk_ns st ≤ hk_ns st; omega)
  intro T hT X9
  obtain ⟨t, a1, o⟩ := body T hT X9
  exact ⟨t, a1, o ⟨htr, hEX, htb⟩⟩
theorem hx_blind (av : List Value) (st : hk_St) : FrameBlind (hx_PG Gd av st) := by
  intro a U g mk h
  obtain ⟨h1, ⟨h2, h4⟩, h3⟩ := h
  exact ⟨h1, ⟨hk_WW.same (s := U) (U := U.calling g mk a) rfl h2, hx_EX.moved (s := U) (U := U.calling g mk a) (Vm.Alike.refl U.vm) h4⟩, h3⟩
theorem hx_given {s : State} {H : Heap} {av : List Value} (hWW : hk_WW Gd s) (hEX : hx_EX Gd s) (hR : hk_R Gd st H) : ∀ U : State, U.heap = H → s.WarmedH U.vm → hx_PG Gd av st av.toArray U :=
  fun U hU hW => ⟨rfl, ⟨hWW.moved hW, hEX.moved hW.alike⟩, by rw [hU]; exact hR⟩
theorem hx_runT {p : Program} {l : Launch} {e : Env} {R : Room} {s : State} {m : MethodId} {args : Array Value} {below : List Frame} {meth : Method} {c : Code} {H : Heap} {locs : List Loc} {cells slots mc ms : Nat} {ls : Array Slot} {S0 rest : List Value} {st1 : hk_St} {EC : String} {Q : State → Prop}
    (hr : vx_Run p l e R s m args below meth c H locs cells slots mc ms (F0 m pc ls S0) rest (fun _ _ _ => False) (hx_XC Gd st1 EC) (hk_A Gd)) (hS : va_S (hk_A Gd) s.heap H locs)
    (kk : ∀ (H1 : Heap) (locs1 : List Loc) (q : Addr) (ce : Cell) (z : Nat), hk_nx st1 ≤ z → hk_R Gd (hk_bz st1 z) H1 → va_S (hk_A Gd) s.heap H1 locs1 → H1[q]? = some ce → ce.vm = .none → s.vm.findClass EC = some ce.cls → vx_W p l e R s m args below meth c H1 locs1 (cells + mc) (slots + ms) Q (F0 m pc ls rest) q) : W p l e R s m args below meth c H locs cells slots Q (F0 m pc ls S0) := by
  intro T hT X
  rcases hr T hT X with ⟨v, st₀, t, T', L, h0, X', hL, e1, e2, hf, st⟩ | ⟨q, st₀, t, T', L, E', ce, h0, X', hL, e1, e2, ⟨rfl, ⟨z, hz1, hz2⟩, hz, hk⟩, h3, h4, h5, st⟩
  · exact hf.elim
  rw [h0] at hz hk
  obtain ⟨t2, a1, b1⟩ := kk T'.heap (locs ++ L) q ce z hz1 (by rw [e1]; exact hz2)
    ⟨Nat.le_trans hS.1 (by rw [e1]; exact hz), fun q h1 h2 => by rw [e1, hk q (Nat.lt_of_lt_of_le h1 hS.1) h2]; exact hS.2.1 q h1 h2, fun q hq => by
      rcases List.mem_append.mp hq with h | h
      · exact hS.2.2 q h
      · exact hL q h⟩ (by rw [e1]; exact h3) h4 h5 T' rfl X'
  exact ⟨t2, st.trans a1, b1⟩
theorem hx_callO {y : MethodName} {bytes : ByteArray} {maxL fr' lo' n index : Nat} {st1 : hk_St} {EC : String} {ret' : Option FieldType} {b ci : Nat} {x : MethodName} (As rest : List Value) (hE : hk_EF E (hx_F Gd hh)) (hM : hx_MT Gd N.1 y bytes maxL ret' fr' lo' (.ref b :: As) st st1 EC) (cs : hk_CO N.2.2.1 index ci x y bytes maxL ret' n) (hb : hk_bf [ci] st b = true) (hn : As.length = n) (hroom : fr' + 1 ≤ N.2.2.2.2.2.1 ∧ 8 + (maxL + 11) + lo' ≤ N.2.2.2.2.2.2.1) (hst : S = As.reverse ++ .ref b :: rest) (hr : (rest.map fun v => v.category).sum ≤ 8) (d : decode N.2.1 pc = .ok (.invokevirtual index, 3))
    (k : hk_VT Gd N E (hx_F Gd hh) pc L st1 EC) : hk_V Gd N E pc L S st := by
  subst hst
  refine ⟨Nat.le_trans hM.1 k.1, Nat.le_trans hM.2.1 k.2.1, fun p l e R s m args below meth c X H locs cells slots ls hl hR hS h1 h2 => hx_by hE fun hF => ?_⟩
  have kW := k.2.2 p l e R s m args below meth c X hF
  have k1 := k.1
  have k2 := k.2.1
  obtain ⟨hx, hbc, hown, hts, -, -, hml, hWW, hfr, hlo, hN1, hN2, -, hl', -⟩ := X
  subst hl'
  have g1 := hM.1
  have g2 := hM.2.1
  rw [← hfr, ← hlo] at hroom
  obtain ⟨h100, q, owner, hc, hg, hyx, hy2⟩ := cs
  have ok : ∀ w ∈ va_wsU N.2.2.1 index q.1 owner x y (ws_ y bytes maxL ret'), w.before args s = true := fun w h => hts w (hg w h).1
  have hG : GoodIn lw_all (ws_ y bytes maxL ret') := fun w h => hg w (by unfold va_wsU; exact List.mem_append_right _ h)
  have hcw : Cond.code y bytes maxL ret' ∈ ws_ y bytes maxL ret' := List.mem_cons_self
  have hdecl : va_Decl s ⟨owner, x.name, x.desc⟩ := by
    rcases hyx with rfl | ⟨b0, m0, r0, z1, z2⟩ | z
    · exact va_Decl.of (ok _ (by simp [va_wsU])) (hts _ (hG _ hcw).1)
    · exact va_Decl.of (hts _ z2) (hts _ z1)
    · exact va_Decl.abs (hWW.2.1 _ z rfl)
  have cw : va_CU R s args N.2.2.1 q.1 owner index x y bytes maxL ret' (ws_ y bytes maxL ret') { frames := fr', cells := hk_nc st1 - hk_nc st, slots := hk_ns st1 - hk_ns st, locals := lo' } (hk_nc st1 - hk_nc st) (hk_ns st1 - hk_ns st) n :=
    ⟨⟨rfl, rfl, hroom.1, hroom.2, pay_in hts hG, hcw⟩, hts _ (hG _ hcw).1, ok _ (by simp [va_wsU]), ⟨hy2.1, hy2.2.1⟩, fun sig h => by have h2 := hy2.2.2; rw [h] at h2; exact (Option.some.inj h2).symm, ok _ (by simp [va_wsU]), ok _ (by simp [va_wsU]), hdecl, ok _ (by simp [va_wsU]), ok _ (by simp [va_wsU])⟩
  refine hx_runT (vx_runU (As := As) (rest := rest) (⟨hx, hbc, hml, hown, hts⟩) hM.2.2 cw ⟨hx_blind _ _, hk_recv hWW hR h100 hc hb, hx_given hWW hF.2.1 hR⟩ rfl hn (hl.1.trans hml) rfl (lv_room hr) d ⟨by omega, by omega⟩) hS (fun H1 locs1 q ce z hz hR1 hS1 h3 h4 h5 => kW H1 locs1 _ _ ls rest q ce z hl hz hR1 hS1 (by omega) (by omega) h3 h4 h5)
theorem hx_callS {y : MethodName} {bytes : ByteArray} {maxL fr' lo' n index : Nat} {st1 : hk_St} {EC : String} {ret' : Option FieldType} (As rest : List Value) (hE : hk_EF E (hx_F Gd hh)) (hM : hx_MT Gd N.1 y bytes maxL ret' fr' lo' (As) st st1 EC) (cs : hk_CS N.2.2.1 index y bytes maxL ret' n) (hn : As.length = n) (hroom : fr' + 1 ≤ N.2.2.2.2.2.1 ∧ 8 + (maxL + 11) + lo' ≤ N.2.2.2.2.2.2.1) (hst : S = As.reverse ++ rest) (hr : (rest.map fun v => v.category).sum ≤ 8) (d : decode N.2.1 pc = .ok (.invokestatic index, 3))
    (k : hk_VT Gd N E (hx_F Gd hh) pc L st1 EC) : hk_V Gd N E pc L S st := by
  subst hst
  refine ⟨Nat.le_trans hM.1 k.1, Nat.le_trans hM.2.1 k.2.1, fun p l e R s m args below meth c X H locs cells slots ls hl hR hS h1 h2 => hx_by hE fun hF => ?_⟩
  have kW := k.2.2 p l e R s m args below meth c X hF
  have k1 := k.1
  have k2 := k.2.1
  obtain ⟨hx, hbc, hown, hts, -, -, hml, hWW, hfr, hlo, hN1, hN2, -, hl', -⟩ := X
  subst hl'
  have g1 := hM.1
  have g2 := hM.2.1
  rw [← hfr, ← hlo] at hroom
  obtain ⟨hg, hy2⟩ := cs
  have cw := va_cwS (R := R) (rm := { frames := fr', cells := hk_nc st1 - hk_nc st, slots := hk_ns st1 - hk_ns st, locals := lo' }) n hts hg rfl rfl rfl hy2 hroom
  refine hx_runT (vx_runS (As := As) (rest := rest) (⟨hx, hbc, hml, hown, hts⟩) hM.2.2 cw ⟨hx_blind _ _, hx_given hWW hF.2.1 hR⟩ rfl hn (hl.1.trans hml) rfl (lv_room hr) d ⟨by omega, by omega⟩) hS (fun H1 locs1 q ce z hz hR1 hS1 h3 h4 h5 => kW H1 locs1 _ _ ls rest q ce z hl hz hR1 hS1 (by omega) (by omega) h3 h4 h5)
theorem hx_callI {y : MethodName} {bytes : ByteArray} {maxL fr' lo' n index : Nat} {st1 : hk_St} {EC : String} {b : Nat} (As rest : List Value) (hE : hk_EF E (hx_F Gd hh)) (hM : hx_MT Gd N.1 y bytes maxL none fr' lo' (.ref b :: As) st st1 EC) (cs : hk_CI N.2.2.1 index y bytes maxL n) (hn : As.length = n) (hroom : fr' + 1 ≤ N.2.2.2.2.2.1 ∧ 8 + (maxL + 11) + lo' ≤ N.2.2.2.2.2.2.1) (hst : S = As.reverse ++ .ref b :: rest) (hr : (rest.map fun v => v.category).sum ≤ 8) (d : decode N.2.1 pc = .ok (.invokespecial index, 3))
    (k : hk_VT Gd N E (hx_F Gd hh) pc L st1 EC) : hk_V Gd N E pc L S st := by
  subst hst
  refine ⟨Nat.le_trans hM.1 k.1, Nat.le_trans hM.2.1 k.2.1, fun p l e R s m args below meth c X H locs cells slots ls hl hR hS h1 h2 => hx_by hE fun hF => ?_⟩
  have kW := k.2.2 p l e R s m args below meth c X hF
  have k1 := k.1
  have k2 := k.2.1
  obtain ⟨hx, hbc, hown, hts, -, -, hml, hWW, hfr, hlo, hN1, hN2, -, hl', -⟩ := X
  subst hl'
  have g1 := hM.1
  have g2 := hM.2.1
  rw [← hfr, ← hlo] at hroom
  obtain ⟨hg, hini, hli, hins, hy1, hy2⟩ := cs
  have cw := cwI (R := R) (own := N.2.2.1) (rm := { frames := fr', cells := hk_nc st1 - hk_nc st, slots := hk_ns st1 - hk_ns st, locals := lo' }) n hts hg rfl rfl rfl (hts _ hini) (hts _ hli) (hts _ hins) hy1 hy2 hroom
  refine hx_runT (vx_runI (As := As) (rest := rest) (⟨hx, hbc, hml, hown, hts⟩) hM.2.2 cw ⟨hx_blind _ _, hx_given hWW hF.2.1 hR⟩ rfl hn (hl.1.trans hml) rfl (lv_room hr) d ⟨by omega, by omega⟩) hS (fun H1 locs1 q ce z hz hR1 hS1 h3 h4 h5 => kW H1 locs1 _ _ ls rest q ce z hl hz hR1 hS1 (by omega) (by omega) h3 h4 h5)
end HX6
