set_option maxRecDepth 100000
/-! ===== STAGE 1, methods that throw: System.arraycopy outside ===== -/
section HX4
variable {p : Program} {l : Launch} {e : Env} {R : Room} {s : State} {m : MethodId} {args : Array Value} {below : List Frame} {meth : Method} {c : Code} {T : State} {locs : List Loc} {cells slots : Nat}
theorem hx_copyOut (X : Stand p l e R s m args below meth c T locs cells slots) (hexec : p.tables.exec = Jvm.exec) (htr : e.platform.stackTraces = false) {own : String} {index : Nat} (hown : s.vm.findClass own = some m.cls)
    (hlink : (Cond.methodLink own index arraycopyName).before args s = true) (hnat : (Cond.native arraycopyName).before args s = true) (hstat : (Cond.static arraycopyName).before args s = true) (hinit : (Cond.initialized "java/lang/System").before args s = true)
    (hat : ∀ a ∈ Bundle.messageArmAtoms "java/lang/ArrayIndexOutOfBoundsException" ["java/lang/IndexOutOfBoundsException", "java/lang/RuntimeException", "java/lang/Exception"], a.before args s = true)
    (hlocs : ∀ x ∈ locs, ∀ cell, s.heap[x.base]? = some cell → cell.vm.isStatics = false)
    {src dst : Addr} {srcPos destPos n : Int32} {cs cd : Cell} {ks kd : Class} {sComp dComp : ClassId} {sType dType : FieldType} {what : String}
    (hs : T.heap[src]? = some cs) (hd : T.heap[dst]? = some cd) (hsobj : ∀ k, cs.vm ≠ .statics k) (hdobj : ∀ k, cd.vm ≠ .statics k)
    (hks : s.vm.classes[cs.cls]? = some ks) (hkd : s.vm.classes[cd.cls]? = some kd) (hsk : ks.kind = .array sComp sType) (hdk : kd.kind = .array dComp dType)
    (hty : ((refKind sType != refKind dType) || (!refKind sType && sType != dType)) = false) (hf : copyFault sType dType cs.slots.size cd.slots.size srcPos destPos n = some what)
    (htext : (("arraycopy: " ++ what) == notModelled) = false) (hsz : (stringBytes (stringToUtf16 ("arraycopy: " ++ what))).size ≤ 500)
    {g : JFrame} (hg : g.method = m) (hsize : g.locals.size = c.maxLocals) {rest : List Value} (hstack : g.stack = .int n :: .int destPos :: .ref dst :: .int srcPos :: .ref src :: rest)
    (hdg : decode c.code g.pc = .ok (.invokestatic index, 3)) (hframes : 8 < R.frames) (hlocals : 2 * g.monitorRoom + (rest.map fun v => v.category).sum + 10240 ≤ R.locals) (hRcells : cells + 3 ≤ R.cells) (hRslots : slots + 510 ≤ R.slots) :
    ∃ (S : State) (q : Addr) (ce : Cell), Stand p l e R s m args below meth c S locs (cells + 3) (slots + 510) ∧ S.heap[q]? = some ce ∧ s.vm.findClass "java/lang/ArrayIndexOutOfBoundsException" = some ce.cls ∧ ce.vm = .none ∧ T.heap.size ≤ S.heap.size ∧ (∀ a0 : Nat, a0 < T.heap.size → S.heap[a0]? = T.heap[a0]?) ∧
      ∀ target, Steps p.tables e below ((S.setTop { g with stack := rest }).pushFrame (.throwing q)) target → Steps p.tables e below (T.setTop g) target := by
  obtain ⟨r, kS, methS, hnS, hmS, hkS, N⟩ := NativeOf.of_static hnat hstat (ps := [.object "java/lang/Object", .int, .object "java/lang/Object", .int, .int]) (ret := none) (by decide +kernel)
  have hinitS : kS.init = .initialized := Cond.initialized_spec (findClass_of_methodNamed hnS) hkS hinit
  obtain ⟨vm', X', step⟩ := X.invokestatic hexec hown hlink hnS hmS N.static hkS hinitS (by decide) hg (argsL := [.ref src, .int srcPos, .ref dst, .int destPos, .int n]) (rest := rest) (by rw [N.sig]; rfl) hstack hdg
  have hA' : s.vm.Alike vm' := X'.warmed.alike
  obtain ⟨kS', N'⟩ := N.alike hA'
  obtain ⟨ks', hks', hes⟩ := hA'.2.2 _ _ hks
  obtain ⟨kd', hkd', hed⟩ := hA'.2.2 _ _ hkd
  obtain ⟨S, q, ce, st, XS, hce, hcl, hv, z1, z2⟩ := hx_vmAtN X' hexec htr (names := ["java/lang/IndexOutOfBoundsException", "java/lang/RuntimeException", "java/lang/Exception"]) (text := "arraycopy: " ++ what) (by decide +kernel) (by decide +kernel) (by decide +kernel) (by decide +kernel) hat hlocs htext
    (by rw [Launch.admits_arrayLengthLimit X.admits]; omega) (by rw [Launch.admits_maxHeapBytes X.admits]; simp only [componentBytes]; omega) (g := { g with stack := rest }) hsize (nf := { method := r, args := #[.ref src, .int srcPos, .ref dst, .int destPos, .int n], locked := none }) rfl (by show 3 + 5 < R.frames; exact hframes) hlocals (by decide) hRcells (by omega)
  have XS2 : Stand p l e R s m args below meth c S locs (cells + 3) (slots + 510) := { XS with same := XS.same.mono (by omega) (by omega) }
  refine ⟨S, q, ce, XS2, hce, hcl, hv, z1, z2, fun target hrest => step target fun acts => ?_⟩
  subst hg
  obtain ⟨g₀, hfr⟩ := X'.frames_eq
  obtain ⟨g₁, hfrB⟩ := XS.frames_eq
  have hseen : seenByNative methS #[.ref src, .int srcPos, .ref dst, .int destPos, .int n] = #[.ref src, .int srcPos, .ref dst, .int destPos, .int n] := by
    simp [seenByNative, N.static, N.sig, narrow]
  have hU : ((T.setVm vm').setTop { g with stack := rest }).pushFrame (.native { method := r, args := seenByNative methS #[.ref src, .int srcPos, .ref dst, .int destPos, .int n], locked := none }) = (T.setVm vm').setFrames (.native { method := r, args := seenByNative methS #[.ref src, .int srcPos, .ref dst, .int destPos, .int n], locked := none } :: .java { g with stack := rest } :: below) := by
    rw [State.pushFrame, State.frames_setTop _ hfr, State.setTop_of_frames _ hfr, State.setFrames_setFrames]
  have hcurT : (T.setVm vm').cur < (T.setVm vm').threads.size := State.cur_lt_of_frames hfr
  have hw7 : nativeFrameWords "java/lang/System" "arraycopy" 5 = 7 := by decide +kernel
  have hroom9 : 2 * ({ g with stack := rest } : JFrame).monitorRoom + (({ g with stack := rest } : JFrame).stack.map fun v => v.category).sum + (nativeFrameWords "java/lang/System" "arraycopy" 5 + 11) ≤ R.locals := by
    rw [hw7]
    show 2 * g.monitorRoom + (rest.map fun v => v.category).sum + 18 ≤ R.locals
    omega
  refine Steps.nativeThrowsNote (g := { g with stack := rest }) (row := arraycopyRow) (cls := "java/lang/ArrayIndexOutOfBoundsException") (msg := some ("arraycopy: " ++ what)) (T := fun u => u) X'.here acts N'.cls N'.meth N'.boot N'.native N'.noCode N'.noLock
    (by rw [N'.className, N'.name, N'.desc]; exact arraycopy_row p)
    (by rw [N'.className, N'.name]; exact X'.notFull (g := { g with stack := rest }) hsize (vars := nativeFrameWords "java/lang/System" "arraycopy" 5) (by omega) hroom9) ?_ ?_
  · intro E hE
    rw [hU] at hE ⊢
    rw [hseen] at hE ⊢
    rw [arraycopyRow_sem]
    exact W.arraycopy_bounds (s := (T.setVm vm').setFrames _) hs hd hsobj hdobj hks' hkd' (by rw [hes]; exact hsk) (by rw [hed]; exact hdk) hty hf (hE _)
  · show Steps p.tables e below ((((T.setVm vm').setTop { g with stack := rest }).pushFrame (.native { method := r, args := seenByNative methS #[.ref src, .int srcPos, .ref dst, .int destPos, .int n], locked := none })).pushFrame (.throwNew "java/lang/ArrayIndexOutOfBoundsException" (some ("arraycopy: " ++ what)) none)) target
    rw [hU, hseen, State.pushFrame, State.frames_setFrames _ hcurT, State.setFrames_setFrames]
    refine st.trans ?_
    refine Steps.throwingLeavesNative ⟨XS.here.running, XS.here.runnable, XS.here.alone⟩ (State.cur_lt_of_frames hfrB) ⟨[.java { g with stack := rest }], rfl⟩ rfl rfl ?_
    have hV : (S.setTop { g with stack := rest }).pushFrame (.throwing q) = S.setFrames (.throwing q :: .java { g with stack := rest } :: below) := by
      rw [State.pushFrame, State.frames_setTop _ hfrB, State.setTop_of_frames _ hfrB, State.setFrames_setFrames]
    rw [← hV]
    exact hrest
end HX4
