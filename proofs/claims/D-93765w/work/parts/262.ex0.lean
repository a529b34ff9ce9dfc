set_option maxRecDepth 100000
/-! ===== STAGE 1, methods that throw: the layer ===== -/
/-- some garbage more in the heap: up to the address z -/
def hk_bz (st : hk_St) (z : Nat) : hk_St := (st.1, st.2.1, st.2.2.1, st.2.2.2.1, st.2.2.2.2.1, st.2.2.2.2.2.1, st.2.2.2.2.2.2.1, z, st.2.2.2.2.2.2.2.2)
/-- more cells and slots counted -/
def hk_cs (st : hk_St) (k n : Nat) : hk_St := (st.1, st.2.1, st.2.2.1, st.2.2.2.1, st.2.2.2.2.1, st.2.2.2.2.2.1, st.2.2.2.2.2.2.1, st.2.2.2.2.2.2.2.1, st.2.2.2.2.2.2.2.2.1 + k, st.2.2.2.2.2.2.2.2.2 + n)
/-- pairs of classes of which one is not castable to the other -/
def hx_nt : List String := ["HeadReckons$Way", "HeadReckons$FromLeft", "HeadReckons$FromRight", "HeadReckons$Crosswise", "HeadReckons$BySquares", "HeadReckons$ByFactors", "HeadReckons$ByHeart", "HeadReckons$Rooted"]
def hx_nr : List String := ["HeadReckons$ByteRow", "HeadReckons$ShortRow", "HeadReckons$IntRow", "HeadReckons$LongRow", "HeadReckons$BooleanRow"]
def hx_ncs : List (String × String) :=
  [("java/lang/ClassCastException", "java/lang/NullPointerException"), ("java/lang/ArrayIndexOutOfBoundsException", "java/lang/NullPointerException"), ("java/lang/ArrayIndexOutOfBoundsException", "java/lang/ClassCastException"), ("java/lang/NullPointerException", "java/lang/ClassCastException")] ++
  hx_nt.map (fun a => (a, "HeadReckons$Row")) ++ hx_nt.map (fun a => (a, "HeadReckons$IntRow")) ++ hx_nr.map (fun a => (a, "HeadReckons$Way")) ++ hx_nr.flatMap (fun a => (hx_nr.filter (fun b => b != a)).map (fun b => (a, b)))
def hx_EX (Gd : hk_G) (s : State) : Prop :=
  vx_Zq Bundle.tN "UNASSIGNED_STACK" Bundle.steD (hk_A Gd) s Gd.2.2.2.1 ∧ vx_Zq Bundle.tN "SUPPRESSED_SENTINEL" Bundle.listD (hk_A Gd) s Gd.2.2.2.1 ∧ (∀ q ∈ hx_ncs, va_Nc q.1 q.2 s) ∧ modulesRight_1 s = true
theorem hx_EX.moved {Gd : hk_G} {s U : State} (hvm : s.vm.Alike U.vm) (h : hx_EX Gd s) : hx_EX Gd U :=
  ⟨vx_Zq.moved hvm h.1, vx_Zq.moved hvm h.2.1, fun q hq => (h.2.2.1 q hq).moved hvm, by
    have e : U.vm.modules = s.vm.modules := by rw [hvm.1]
    have h4 := h.2.2.2
    unfold modulesRight_1 at h4 ⊢
    rw [e]
    exact h4⟩
/-- what a method with a table knows besides -/
def hx_F (Gd : hk_G) (hh : List (Nat × Nat × Nat × Nat)) (K : hk_K) : Prop := K.2.1.stackTraces = false ∧ hx_EX Gd K.2.2.2.2.1 ∧ K.2.2.2.2.2.2.2.2.2.exceptionTable.toList = tableOf hh
def hk_EF (E : hk_E) (F : hk_K → Prop) : Prop := ∀ K t, ¬ F K → E.2.2.2.2 K t
section HX0
variable {Gd : hk_G} {N : hk_N} {E : hk_E} {pc : Nat} {L : List (Nat × Value)} {S : List Value} {st : hk_St} {F : hk_K → Prop}
theorem hk_R_bz {z : Nat} {H H' : Heap} (hR : hk_R Gd (hk_bz st z) H) (e2 : H.size ≤ H'.size) (e3 : ∀ q : Nat, q < H.size → H'[q]? = H[q]?) : hk_R Gd (hk_bz st H'.size) H' := by
  obtain ⟨r1, r2, r3, r4⟩ := hR
  have r1 : H.size = z := r1
  have r2 : Gd.2.2.1 ≤ z := r2
  refine ⟨rfl, Nat.le_trans r2 (show z ≤ H'.size by omega), fun q hq => by rw [e3 q (by omega)]; exact r3 q hq, fun b t' n' hb => ?_⟩
  obtain ⟨g1, g2, g3⟩ := r4 b t' n' hb
  have g2 : b < z := g2
  refine ⟨g1, Nat.lt_of_lt_of_le g2 (by show z ≤ H'.size; omega), fun h => ?_, fun h => ?_⟩
  · obtain ⟨r', hr', hob⟩ := g3.1 h
    exact ⟨r', hr', hob.kept (e3 b (by omega))⟩
  · obtain ⟨g4, g5⟩ := g3.2 h
    exact ⟨g4, by rw [e3 b (by omega)]; exact g5⟩
/-- an exception of the class EC is thrown at pc -/
def hk_VT (Gd : hk_G) (N : hk_N) (E : hk_E) (F : hk_K → Prop) (pc : Nat) (L : List (Nat × Value)) (st : hk_St) (EC : String) : Prop :=
  hk_nc st ≤ E.2.2.1 ∧ hk_ns st ≤ E.2.2.2.1 ∧ ∀ (p : Program) (l : Launch) (e : Env) (R : Room) (s : State) (m : MethodId) (args : Array Value) (below : List Frame) (meth : Method) (c : Code), hk_X Gd N E p l R s m args meth c → F (p, l, e, R, s, m, args, below, meth, c) →
    ∀ (H : Heap) (locs : List Loc) (cells slots : Nat) (ls : Array Slot) (rest : List Value) (q : Addr) (ce : Cell) (z : Nat), lv_has ls c.maxLocals L → hk_nx st ≤ z → hk_R Gd (hk_bz st z) H → va_S (hk_A Gd) s.heap H locs →
      cells + E.1 ≤ hk_nc st → slots + E.2.1 ≤ hk_ns st → H[q]? = some ce → ce.vm = .none → s.vm.findClass EC = some ce.cls →
      vx_W p l e R s m args below meth c H locs cells slots (E.2.2.2.2 (p, l, e, R, s, m, args, below, meth, c)) (F0 m pc ls rest) q
theorem hx_by {p : Program} {l : Launch} {e : Env} {R : Room} {s : State} {m : MethodId} {args : Array Value} {below : List Frame} {meth : Method} {c : Code} {H : Heap} {locs : List Loc} {cells slots : Nat} {g : JFrame} (hE : hk_EF E F)
    (k : F (p, l, e, R, s, m, args, below, meth, c) → W p l e R s m args below meth c H locs cells slots (E.2.2.2.2 (p, l, e, R, s, m, args, below, meth, c)) g) : W p l e R s m args below meth c H locs cells slots (E.2.2.2.2 (p, l, e, R, s, m, args, below, meth, c)) g := by
  by_cases h : F (p, l, e, R, s, m, args, below, meth, c)
  · exact k h
  · intro T hT X
    exact ⟨_, Steps.refl _, hE _ _ h⟩
theorem hx_hat {W : List Cond} {args : Array Value} {s : State} (g : (∀ w ∈ W, (goodWord w = true ∧ w ∈ lw_all) ∨ (hk_isN w = true ∧ w ∈ lw_tbl)) ∧ ∀ w ∈ W, vx_ot w = true) (hts : ∀ w ∈ lw_all, w.before args s = true) (hWW : hk_WW Gd s) : ∀ w ∈ W, w.before args s = true := by
  intro w hw
  rcases g.1 w hw with ⟨-, h⟩ | ⟨h1, h2⟩
  · exact hts w h
  · have h3 := hWW.2.1 w h2 h1
    exact va_Nw.use (by cases w <;> first | rfl | exact absurd h1 (by simp [hk_isN])) h3
theorem hx_keep {s : State} {H H1 : Heap} {locs : List Loc} (hR : hk_R Gd st H) (e2 : H.size ≤ H1.size) (e3 : ∀ q : Nat, q < H.size → H1[q]? = H[q]?) : hk_nx st ≤ H1.size ∧ hk_R Gd (hk_bz st H1.size) H1 :=
  ⟨by rw [← hR.1]; exact e2, hk_R_bz (z := hk_nx st) hR e2 e3⟩
/-- the machine's own exception with a text -/
theorem hx_note {hh : List (Nat × Nat × Nat × Nat)} {cls tx : String} {names : List String} {nb : Nat} {p : Program} {l : Launch} {e : Env} {R : Room} {s : State} {m : MethodId} {args : Array Value} {below : List Frame} {meth : Method} {c : Code} {H : Heap} {locs : List Loc} {cells slots : Nat} {ls : Array Slot} {rest : List Value}
    (k : hk_VT Gd N E (hx_F Gd hh) pc L (hk_cs st 3 (nb + 10)) cls) (hc : Bundle.fit cls = true) (hn : ∀ n ∈ names, Bundle.fit n = true) (h1 : (cls == "java/lang/StackOverflowError") = false) (h2 : (cls == "java/lang/OutOfMemoryError") = false) (hl4 : names.length ≤ 4)
    (hw : (∀ w ∈ vx_atM cls names, (goodWord w = true ∧ w ∈ lw_all) ∨ (hk_isN w = true ∧ w ∈ lw_tbl)) ∧ ∀ w ∈ vx_atM cls names, vx_ot w = true) (ht : (tx == notModelled) = false) (hb : (stringBytes (stringToUtf16 tx)).size ≤ nb) (hb1 : nb ≤ 1000) (hfr : 8 < N.2.2.2.2.2.1) (hlo : 10300 ≤ N.2.2.2.2.2.2.1) (hr : (rest.map fun v => v.category).sum ≤ 60)
    (X : hk_X Gd N E p l R s m args meth c) (hF : hx_F Gd hh (p, l, e, R, s, m, args, below, meth, c)) (hl : lv_has ls c.maxLocals L) (hR : hk_R Gd st H) (hS : va_S (hk_A Gd) s.heap H locs) (g1 : cells + E.1 ≤ hk_nc st) (g2 : slots + E.2.1 ≤ hk_ns st) :
    vx_Note p l e R s m args below meth c H locs cells slots (E.2.2.2.2 (p, l, e, R, s, m, args, below, meth, c)) (F0 m pc ls rest) cls tx := by
  have X' := X
  obtain ⟨hx, hbc, hown, hts, hlk, -, hml, hWW, hfr', hlo', hN1, hN2, hz, -, -, hbase⟩ := X
  have k1 : hk_nc st + 3 ≤ E.2.2.1 := k.1
  have k2 : hk_ns st + (nb + 10) ≤ E.2.2.2.1 := k.2.1
  refine vx_vm hx hF.1 hc hn h1 h2 (hx_hat hw hts hWW) hw.2 ((hF.2.1.1).kept (fun a _ ha => hbase a (Nat.not_le.mp ha))) ((hF.2.1.2.1).kept (fun a _ ha => hbase a (Nat.not_le.mp ha))) hS hl.1 ht hb hb1 (by rw [hfr']; omega) (by rw [hlo']; omega) (by omega) (by omega) (by omega) hlk
    (fun H1 q9 ce e2 e3 hS1 h4 h5 h6 => ?_)
  obtain ⟨f1, f2⟩ := hx_keep (s := s) (locs := locs) hR e2 e3
  exact k.2.2 p l e R s m args below meth c X' hF H1 locs (cells + 3) (slots + (nb + 10)) ls rest q9 ce _ hl f1 f2 hS1 (by show cells + 3 + E.1 ≤ hk_nc st + 3; omega) (by show slots + (nb + 10) + E.2.1 ≤ hk_ns st + (nb + 10); omega) h4 h5 h6
theorem hx_npe {hh : List (Nat × Nat × Nat × Nat)} {p : Program} {l : Launch} {e : Env} {R : Room} {s : State} {m : MethodId} {args : Array Value} {below : List Frame} {meth : Method} {c : Code} {H : Heap} {locs : List Loc} {cells slots : Nat} {ls : Array Slot} {rest : List Value}
    (k : hk_VT Gd N E (hx_F Gd hh) pc L (hk_cs st 1 8) "java/lang/NullPointerException") (hfr : 8 < N.2.2.2.2.2.1) (hlo : 10300 ≤ N.2.2.2.2.2.2.1) (hr : (rest.map fun v => v.category).sum ≤ 60)
    (X : hk_X Gd N E p l R s m args meth c) (hF : hx_F Gd hh (p, l, e, R, s, m, args, below, meth, c)) (hl : lv_has ls c.maxLocals L) (hR : hk_R Gd st H) (hS : va_S (hk_A Gd) s.heap H locs) (g1 : cells + E.1 ≤ hk_nc st) (g2 : slots + E.2.1 ≤ hk_ns st) :
    vx_NoteN p l e R s m args below meth c H locs cells slots (E.2.2.2.2 (p, l, e, R, s, m, args, below, meth, c)) (F0 m pc ls rest) := by
  have X' := X
  obtain ⟨hx, hbc, hown, hts, hlk, -, hml, hWW, hfr', hlo', hN1, hN2, hz, -, -, hbase⟩ := X
  have k1 : hk_nc st + 1 ≤ E.2.2.1 := k.1
  have k2 : hk_ns st + 8 ≤ E.2.2.2.1 := k.2.1
  refine vx_npe hx hF.1 (nb := 8) (hx_hat hx_wN hts hWW) hx_wN.2 ((hF.2.1.1).kept (fun a _ ha => hbase a (Nat.not_le.mp ha))) ((hF.2.1.2.1).kept (fun a _ ha => hbase a (Nat.not_le.mp ha))) hS hl.1 (by rw [hfr']; omega) (by rw [hlo']; omega) (by omega) (by omega) hlk
    (fun H1 q9 ce e2 e3 hS1 h4 h5 h6 => ?_)
  obtain ⟨f1, f2⟩ := hx_keep (s := s) (locs := locs) hR e2 e3
  exact k.2.2 p l e R s m args below meth c X' hF H1 locs (cells + 1) (slots + 8) ls rest q9 ce _ hl f1 f2 hS1 (by show cells + 1 + E.1 ≤ hk_nc st + 1; omega) (by show slots + 8 + E.2.1 ≤ hk_ns st + 8; omega) h4 h5 h6
end HX0
