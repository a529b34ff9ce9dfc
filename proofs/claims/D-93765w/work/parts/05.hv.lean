/-! ===== HK: the idealised state (fields and arrays as functions) and the judgement V over it ===== -/
/-- kinds (class or array type, length), int fields, long fields, reference fields, int arrays, long arrays, reference arrays, the next address, cells and slots made so far -/
abbrev hk_St : Type := (Nat → Option (Nat × Nat)) × (Nat → Nat → Int32) × (Nat → Nat → Int64) × (Nat → Nat → Option Nat) × (Nat → Nat → Int32) × (Nat → Nat → Int64) × (Nat → Nat → Option Nat) × Nat × Nat × Nat
def hk_k (st : hk_St) : Nat → Option (Nat × Nat) := st.1
def hk_fI (st : hk_St) : Nat → Nat → Int32 := st.2.1
def hk_fL (st : hk_St) : Nat → Nat → Int64 := st.2.2.1
def hk_fR (st : hk_St) : Nat → Nat → Option Nat := st.2.2.2.1
def hk_aI (st : hk_St) : Nat → Nat → Int32 := st.2.2.2.2.1
def hk_aL (st : hk_St) : Nat → Nat → Int64 := st.2.2.2.2.2.1
def hk_aR (st : hk_St) : Nat → Nat → Option Nat := st.2.2.2.2.2.2.1
def hk_nx (st : hk_St) : Nat := st.2.2.2.2.2.2.2.1
def hk_nc (st : hk_St) : Nat := st.2.2.2.2.2.2.2.2.1
def hk_ns (st : hk_St) : Nat := st.2.2.2.2.2.2.2.2.2
def hk_u2 {α : Type} (g : Nat → Nat → α) (f a : Nat) (v : α) : Nat → Nat → α := fun f' a' => if f' = f ∧ a' = a then v else g f' a'
def hk_sfI (st : hk_St) (f a : Nat) (v : Int32) : hk_St := (st.1, hk_u2 st.2.1 f a v, st.2.2)
def hk_sfL (st : hk_St) (f a : Nat) (v : Int64) : hk_St := (st.1, st.2.1, hk_u2 st.2.2.1 f a v, st.2.2.2)
def hk_sfR (st : hk_St) (f a : Nat) (v : Option Nat) : hk_St := (st.1, st.2.1, st.2.2.1, hk_u2 st.2.2.2.1 f a v, st.2.2.2.2)
def hk_saI (st : hk_St) (a j : Nat) (v : Int32) : hk_St := (st.1, st.2.1, st.2.2.1, st.2.2.2.1, hk_u2 st.2.2.2.2.1 a j v, st.2.2.2.2.2)
def hk_saL (st : hk_St) (a j : Nat) (v : Int64) : hk_St := (st.1, st.2.1, st.2.2.1, st.2.2.2.1, st.2.2.2.2.1, hk_u2 st.2.2.2.2.2.1 a j v, st.2.2.2.2.2.2)
def hk_saR (st : hk_St) (a j : Nat) (v : Option Nat) : hk_St := (st.1, st.2.1, st.2.2.1, st.2.2.2.1, st.2.2.2.2.1, st.2.2.2.2.2.1, hk_u2 st.2.2.2.2.2.2.1 a j v, st.2.2.2.2.2.2.2)
/-- a new object or array of the kind t, with len places (0 for an object), that takes sl slots -/
def hk_mk (st : hk_St) (t len sl : Nat) : hk_St :=
  (fun a => if a = hk_nx st then some (t, len) else st.1 a, fun f a => if a = hk_nx st then 0 else st.2.1 f a, fun f a => if a = hk_nx st then 0 else st.2.2.1 f a, fun f a => if a = hk_nx st then none else st.2.2.2.1 f a,
   fun a j => if a = hk_nx st then 0 else st.2.2.2.2.1 a j, fun a j => if a = hk_nx st then 0 else st.2.2.2.2.2.1 a j, fun a j => if a = hk_nx st then none else st.2.2.2.2.2.2.1 a j, hk_nx st + 1, hk_nc st + 1, hk_ns st + sl)
def hk_in (i : Int32) (n : Nat) : Bool := decide (¬ i < 0) && decide (i.toNatClampNeg < n)
theorem hk_in_vp {i : Int32} {n : Nat} (h : hk_in i n = true) : vp_in i n := by
  simp only [hk_in, Bool.and_eq_true, decide_eq_true_eq] at h
  intro q
  rcases q with q | q
  · exact h.1 q
  · omega
-- the guards
def hk_bf (cs : List Nat) (st : hk_St) (a : Nat) : Bool := match hk_k st a with
  | some (t, _) => cs.contains t
  | none => false
def hk_ba (ty : Nat) (st : hk_St) (a : Nat) (i : Int32) : Bool := match hk_k st a with
  | some (t, n) => decide (t = 100 + ty) && hk_in i n
  | none => false
theorem hk_bf_of {cs : List Nat} {st : hk_St} {a : Nat} (h : hk_bf cs st a = true) : ∃ t n, hk_k st a = some (t, n) ∧ t ∈ cs := by
  unfold hk_bf at h
  split at h
  · rename_i t n e
    exact ⟨t, n, e, by simpa using h⟩
  · cases h
theorem hk_ba_of {ty : Nat} {st : hk_St} {a : Nat} {i : Int32} (h : hk_ba ty st a i = true) : ∃ n, hk_k st a = some (100 + ty, n) ∧ vp_in i n ∧ i.toNatClampNeg < n := by
  unfold hk_ba at h
  split at h
  · rename_i t n e
    simp only [Bool.and_eq_true, decide_eq_true_eq] at h
    have h2 := hk_in_vp h.2
    exact ⟨n, by rw [e, h.1], h2, Nat.not_le.mp fun q => h2 (Or.inr q)⟩
  · cases h
-- the operations: none where the bytecode would throw or the kind isn't known
def hk_gI (cs : List Nat) (f : Nat) (st : hk_St) (a : Nat) : Option Int32 := if hk_bf cs st a = true then some (hk_fI st f a) else none
def hk_gL (cs : List Nat) (f : Nat) (st : hk_St) (a : Nat) : Option Int64 := if hk_bf cs st a = true then some (hk_fL st f a) else none
def hk_gR (cs : List Nat) (f : Nat) (st : hk_St) (a : Nat) : Option (Option Nat) := if hk_bf cs st a = true then some (hk_fR st f a) else none
def hk_pI (cs : List Nat) (f : Nat) (st : hk_St) (a : Nat) (v : Int32) : Option hk_St := if hk_bf cs st a = true then some (hk_sfI st f a v) else none
def hk_pL (cs : List Nat) (f : Nat) (st : hk_St) (a : Nat) (v : Int64) : Option hk_St := if hk_bf cs st a = true then some (hk_sfL st f a v) else none
def hk_pR (cs : List Nat) (f : Nat) (st : hk_St) (a : Nat) (v : Option Nat) : Option hk_St := if hk_bf cs st a = true then some (hk_sfR st f a v) else none
def hk_lI (ty : Nat) (st : hk_St) (a : Nat) (i : Int32) : Option Int32 := if hk_ba ty st a i = true then some (hk_aI st a i.toNatClampNeg) else none
def hk_lL (st : hk_St) (a : Nat) (i : Int32) : Option Int64 := if hk_ba 4 st a i = true then some (hk_aL st a i.toNatClampNeg) else none
def hk_lR (ty : Nat) (st : hk_St) (a : Nat) (i : Int32) : Option (Option Nat) := if hk_ba ty st a i = true then some (hk_aR st a i.toNatClampNeg) else none
/-- what a store into an array of ints of the sort ty leaves -/
def hk_nar (ty : Nat) (x : Int32) : Int32 := match ty with
  | 0 => x
  | 1 => x.toInt8.toInt32
  | 2 => x.toInt16.toInt32
  | _ => x &&& 1
def hk_tI (ty : Nat) (st : hk_St) (a : Nat) (i : Int32) (x : Int32) : Option hk_St := if hk_ba ty st a i = true then some (hk_saI st a i.toNatClampNeg (hk_nar ty x)) else none
def hk_tL (st : hk_St) (a : Nat) (i : Int32) (x : Int64) : Option hk_St := if hk_ba 4 st a i = true then some (hk_saL st a i.toNatClampNeg x) else none
def hk_len (st : hk_St) (a : Nat) : Option Int32 := match hk_k st a with
  | some (t, n) => if 100 ≤ t ∧ t < 111 then some (Int32.ofNat n) else none
  | none => none
-- ways to go on
def hk_nm {α β : Type} (e : α) (f : α → β) : β := f e
def hk_gd {α : Type} (b : Bool) (x : Option α) : Option α := if b = true then x else none
def hk_nn {α : Type} (o : Option Nat) (f : Nat → Option α) : Option α := match o with
  | some a => f a
  | none => none
def hk_oc {α : Type} (o : Option Nat) (x : α) (f : Nat → α) : α := match o with
  | some a => f a
  | none => x
theorem hq_ob {α β : Type} {o : Option α} {f : α → Option β} {r : β} (h : o.bind f = some r) : ∃ x, o = some x ∧ f x = some r := by
  cases o with
  | none => cases h
  | some x => exact ⟨x, rfl, h⟩
theorem hq_nm {α β : Type} {e : α} {f : α → β} {r : β} (h : hk_nm e f = r) : ∃ x, x = e ∧ f x = r := ⟨e, rfl, h⟩
theorem hq_gd {α : Type} {b : Bool} {x : Option α} {r : α} (h : hk_gd b x = some r) : b = true ∧ x = some r := by
  unfold hk_gd at h
  split at h
  · exact ⟨by assumption, h⟩
  · cases h
theorem hq_nn {α : Type} {o : Option Nat} {f : Nat → Option α} {r : α} (h : hk_nn o f = some r) : ∃ a, o = some a ∧ f a = some r := by
  cases o with
  | none => cases h
  | some a => exact ⟨a, rfl, h⟩
theorem hq_ip {α : Sort _} {c : Prop} [Decidable c] {a b r : α} (hc : c) (h : (if c then a else b) = r) : a = r := by rw [if_pos hc] at h; exact h
theorem hq_in {α : Sort _} {c : Prop} [Decidable c] {a b r : α} (hc : ¬ c) (h : (if c then a else b) = r) : b = r := by rw [if_neg hc] at h; exact h
theorem hq_ret {α β : Type} {a r : α} {b c : β} (h : some (a, b) = some (r, c)) : a = r ∧ b = c := by
  have h := Option.some.inj h
  exact ⟨congrArg Prod.fst h, congrArg Prod.snd h⟩
theorem hq_i {α : Type} {c : Prop} [Decidable c] {x r : α} (h : (if c then some x else none) = some r) : c ∧ x = r := by
  split at h
  · exact ⟨by assumption, Option.some.inj h⟩
  · cases h
/-- the fuel of a loop: more than any loop of the class turns -/
def hk_F : Nat := 2000000000
theorem hk_F_big : 1000000000 ≤ hk_F := by unfold hk_F; exact Nat.le_of_ble_eq_true rfl

/-! ===== HK: the tables of the classes that are made (printed by hkgen.py) ===== -/
def hk_cl : List vw_C := [(RX0, TX0, 23), (RX1, TX1, 1), (RX2, TX2, 16), (RX3, TX3, 3), (RX4, TX4, 55), (RX5, TX5, 4), (RX6, TX6, 4), (RX7, TX7, 3), (RX9, TX9, 1), (RX10, TX10, 1), (RX11, TX11, 1), (RX12, TX12, 1), (RX13, TX13, 3), (RX14, TX14, 4), (RX15, TX15, 3), (RX17, TX17, 2), (RX18, TX18, 3), (RX19, TX19, 3), (RX20, TX20, 4), (RX21, TX21, 3), (RX22, TX22, 4), (RX23, TX23, 3), (RX24, TX24, 4), (RX26, TX26, 1), (RX27, TX27, 1), (RX28, TX28, 1), (RX29, TX29, 1), (RX30, TX30, 1)]
def hk_tab : List (List (Nat × Nat)) := [
  [(0, 2), (1, 0), (2, 2), (3, 0), (4, 2), (5, 0), (6, 0), (7, 2), (8, 2), (9, 2), (10, 2), (11, 0), (12, 2), (13, 0), (14, 2), (15, 0), (16, 0), (17, 1), (18, 0), (19, 2), (20, 2), (21, 0), (22, 2)],
  [(100, 2)],
  [(200, 2), (201, 2), (202, 2), (203, 2), (204, 2), (205, 2), (206, 0), (207, 0), (208, 0), (209, 0), (210, 1), (211, 1), (212, 3), (213, 2), (214, 2), (215, 2)],
  [(300, 2), (301, 2), (302, 0)],
  [(400, 2), (401, 2), (402, 2), (403, 2), (404, 0), (405, 0), (406, 2), (407, 0), (408, 2), (409, 0), (410, 0), (411, 0), (412, 0), (413, 0), (414, 0), (415, 2), (416, 0), (417, 2), (418, 2), (419, 2), (420, 2), (421, 0), (422, 2), (423, 2), (424, 2), (425, 2), (426, 2), (427, 2), (428, 0), (429, 0), (430, 0), (431, 0), (432, 2), (433, 0), (434, 2), (435, 2), (436, 2), (437, 0), (438, 2), (439, 2), (440, 0), (441, 2), (442, 0), (443, 0), (444, 1), (445, 0), (446, 2), (447, 2), (448, 0), (449, 0), (450, 0), (451, 2), (452, 2), (453, 2), (454, 2)],
  [(500, 2), (501, 0), (502, 0), (503, 0)],
  [(600, 0), (601, 0), (602, 0), (603, 2)],
  [(700, 2), (701, 2), (702, 2)],
  [(800, 0)],
  [(900, 2)],
  [(1000, 2)],
  [(1100, 0)],
  [(1200, 0), (1201, 2), (1202, 2)],
  [(1300, 0), (1301, 0), (1302, 0), (1303, 0)],
  [(1400, 0), (1401, 0), (1402, 0)],
  [(1500, 0), (1501, 2)],
  [(1500, 0), (1501, 2), (1600, 2)],
  [(1500, 0), (1501, 2), (1700, 2)],
  [(1500, 0), (1501, 2), (1700, 2), (1800, 2)],
  [(1500, 0), (1501, 2), (1900, 2)],
  [(1500, 0), (1501, 2), (1600, 2), (2000, 2)],
  [(1500, 0), (1501, 2), (2100, 2)],
  [(1500, 0), (1501, 2), (2100, 2), (2200, 2)],
  [(2300, 2)],
  [(2400, 2)],
  [(2500, 2)],
  [(2600, 2)],
  [(2700, 2)]]
def hk_fT (ci k : Nat) : Nat × Nat := (hk_tab.getD ci []).getD k (0, 0)

/-! ===== HK: the judgement V ===== -/
/-- class numbers and slots; array classes; the heap's size at the law's start; that heap; the String constants' addresses, their arrays' -/
abbrev hk_G : Type := va_G × (Nat → ClassId) × Nat × Heap × (Nat → Nat) × (Nat → Nat)
def hk_aK (Gd : hk_G) : Nat → Nat := Gd.2.2.2.2.1
def hk_aV (Gd : hk_G) : Nat → Nat := Gd.2.2.2.2.2
/-- the Reader's String constants: their lengths, bytes, places, texts -/
def hk_sl : List Nat := [3, 2, 3, 8]
def hk_sb : List (List Int32) := [[60, 61, 62], [43, 45], [42, 47, 37], [109, 110, 120, 121, 100, 122, 116, 99]]
def hk_sx : List (Nat × String) := [(79, "<=>"), (88, "+-"), (93, "*/%"), (98, "mnxydztc")]
abbrev hk_K := Program × Launch × Env × Room × State × MethodId × Array Value × List Frame × Method × Code
/-- where a method began (cells, slots), where it will have come to, and what holds at its end -/
abbrev hk_E := Nat × Nat × Nat × Nat × (hk_K → State → Prop)
/-- the method: launch, code, class, locals, answer, frames and words below it, whether it is a constructor -/
abbrev hk_N := Launch × ByteArray × String × Nat × Option FieldType × Nat × Nat × Bool
def hk_A (Gd : hk_G) : Nat → Prop := fun q => Gd.2.2.1 ≤ q
def hk_fv (st : hk_St) (ci a k : Nat) : Value := match (hk_fT ci k).2 with
  | 1 => .long (hk_fL st (hk_fT ci k).1 a)
  | 2 => va_rf (hk_fR st (hk_fT ci k).1 a)
  | _ => .int (hk_fI st (hk_fT ci k).1 a)
def hk_ac (st : hk_St) (ty a : Nat) : (Nat → Int32) ⊕ (Nat → Int64) ⊕ (Nat → UInt32) ⊕ (Nat → UInt64) ⊕ (Nat → Option Nat) :=
  if ty < 4 then .inl (hk_aI st a) else if ty = 4 then .inr (.inl (hk_aL st a)) else .inr (.inr (.inr (.inr (hk_aR st a))))
def hk_at (Gd : hk_G) (st : hk_St) (a t n : Nat) (H : Heap) : Prop :=
  (t < 100 → ∃ r, hk_cl[t]? = some r ∧ t_OB a (Gd.1.1 t) r.2.2 (Gd.1.2 t) H (hk_fv st t a)) ∧
  (100 ≤ t → t < 111 ∧ H[a]? = some (vp_cell (Gd.2.1 (t - 100)) (n, hk_ac st (t - 100) a)))
def hk_R (Gd : hk_G) (st : hk_St) (H : Heap) : Prop :=
  H.size = hk_nx st ∧ Gd.2.2.1 ≤ hk_nx st ∧ (∀ q : Nat, q < Gd.2.2.1 → H[q]? = Gd.2.2.2.1[q]?) ∧
  ∀ (a t n : Nat), hk_k st a = some (t, n) → Gd.2.2.1 ≤ a ∧ a < hk_nx st ∧ hk_at Gd st a t n H
def hk_tyl : List FieldType := [.int, .byte, .short, .boolean, .long, .object "HeadReckons$Learnt", .object "HeadReckons$Head", .object "HeadReckons$Change", .object "HeadReckons$Seen", .object "HeadReckons$Way", .object "HeadReckons$Held"]
def hk_tys (Gd : hk_G) : List (ClassId × FieldType) := (List.range 11).map (fun i => (Gd.2.1 i, hk_tyl.getD i .int))
theorem hk_tys_at (Gd : hk_G) {i : Nat} {ty : FieldType} (hi : i < 11) (hty : hk_tyl.getD i .int = ty) : (hk_tys Gd)[i]? = some (Gd.2.1 i, ty) := by
  subst hty
  simp [hk_tys, hi]
def hk_isN : Cond → Bool
  | .fieldLinkNest _ _ _ _ _ _ => true
  | .methodLinkNest _ _ _ _ => true
  | .castable _ _ => true
  | .declares _ => true
  | _ => false
def hk_SS (Gd : hk_G) (s : State) : Prop :=
  Gd.2.2.2.1.size = Gd.2.2.1 ∧ vk_S 4 hk_sl hk_sb (hk_aK Gd) (hk_aV Gd) (hk_A Gd) s Gd.2.2.2.1 ∧ va_Z "java/lang/String" "COMPACT_STRINGS" "Z" (.int 1) (hk_A Gd) s Gd.2.2.2.1 ∧
  ∀ k, k < 4 → vk_R "HeadReckons$Reader" (hk_sx.getD k (0, "")).1 (hk_sx.getD k (0, "")).2 (hk_aK Gd k) s
theorem hk_SS.moved {Gd : hk_G} {s U : State} (hW : s.WarmedH U.vm) (h : hk_SS Gd s) : hk_SS Gd U :=
  ⟨h.1, h.2.1.moved hW.alike, h.2.2.1.moved hW.alike, fun k hk => (h.2.2.2 k hk).warm hW⟩
theorem hk_SS.same {Gd : hk_G} {s U : State} (hv : s.vm = U.vm) (h : hk_SS Gd s) : hk_SS Gd U := by
  have ha : s.vm.Alike U.vm := by rw [hv]; exact Vm.Alike.refl U.vm
  exact ⟨h.1, h.2.1.moved ha, h.2.2.1.moved ha, fun k hk => (h.2.2.2 k hk).same hv.symm⟩
def hk_WW (Gd : hk_G) (s : State) : Prop :=
  va_K Gd.1 hk_cl (hk_tys Gd) s ∧ (∀ w ∈ lw_tbl, hk_isN w = true → va_Nw w s) ∧ (∀ C : String, Cond.arrayOver (.object C) ∈ lw_tbl → va_AO C s) ∧
  (∀ (C : String) (x y : MethodName), (x.cls ≠ "java/lang/invoke/MethodHandle" ∧ x.cls ≠ "java/lang/invoke/VarHandle") → Cond.declares x ∈ lw_tbl → Cond.interfaceMethod x.cls x.cls x.name x.desc ∈ lw_tbl → Cond.publicMethod y ∈ lw_tbl → Cond.unhidden C x.name x.desc ∈ lw_tbl → Cond.castable C x.cls ∈ lw_tbl → va_Fw C x y s) ∧ hk_SS Gd s
theorem hk_Nw_moved {w : Cond} {s U : State} (hn : hk_isN w = true) (hW : s.WarmedH U.vm) (h : va_Nw w s) : va_Nw w U := by
  cases w <;> first | exact h.warmF hW | exact h.warmM hW | exact h.warmC hW | exact h.warmD hW | (exact absurd hn (by simp [hk_isN]))
theorem hk_Nw_same {w : Cond} {s U : State} (hn : hk_isN w = true) (hv : s.vm = U.vm) (h : va_Nw w s) : va_Nw w U := by
  cases w <;> first | exact va_Nw.same rfl hv h | (exact absurd hn (by simp [hk_isN]))
theorem hk_WW.moved {Gd : hk_G} {s U : State} (hW : s.WarmedH U.vm) (h : hk_WW Gd s) : hk_WW Gd U :=
  ⟨va_K.moved hW.alike h.1, fun w hw hn => hk_Nw_moved hn hW (h.2.1 w hw hn), fun C hC => (h.2.2.1 C hC).moved hW.alike, fun C x y hx h1 h2 h3 h4 h5 => (h.2.2.2.1 C x y hx h1 h2 h3 h4 h5).moved hx hW.alike, h.2.2.2.2.moved hW⟩
theorem hk_WW.same {Gd : hk_G} {s U : State} (hv : s.vm = U.vm) (h : hk_WW Gd s) : hk_WW Gd U := by
  have ha : s.vm.Alike U.vm := by rw [hv]; exact Vm.Alike.refl U.vm
  exact ⟨va_K.moved ha h.1, fun w hw hn => hk_Nw_same hn hv (h.2.1 w hw hn), fun C hC => (h.2.2.1 C hC).moved ha, fun C x y hx h1 h2 h3 h4 h5 => (h.2.2.2.1 C x y hx h1 h2 h3 h4 h5).moved hx ha, h.2.2.2.2.same hv⟩
/-- what holds all through a method's body -/
def hk_X (Gd : hk_G) (N : hk_N) (E : hk_E) (p : Program) (l' : Launch) (R : Room) (s : State) (m : MethodId) (args : Array Value) (meth : Method) (c : Code) : Prop :=
  p.tables.exec = Jvm.exec ∧ c.code = N.2.1 ∧ s.vm.findClass N.2.2.1 = some m.cls ∧ (∀ w ∈ lw_all, w.before args s = true) ∧ meth.locks = false ∧ meth.sig.returnType = N.2.2.2.2.1 ∧ c.maxLocals = N.2.2.2.1 ∧ hk_WW Gd s ∧
    R.frames = N.2.2.2.2.2.1 ∧ R.locals = N.2.2.2.2.2.2.1 ∧ E.2.2.1 ≤ E.1 + R.cells ∧ E.2.2.2.1 ≤ E.2.1 + R.slots ∧ Gd.2.2.1 ≤ s.heap.size ∧ l' = N.1 ∧ (N.2.2.2.2.2.2.2 = true → meth.name = "<init>") ∧ (∀ q : Nat, q < Gd.2.2.1 → s.heap[q]? = Gd.2.2.2.1[q]?)
def hk_V (Gd : hk_G) (N : hk_N) (E : hk_E) (pc : Nat) (L : List (Nat × Value)) (S : List Value) (st : hk_St) : Prop :=
  hk_nc st ≤ E.2.2.1 ∧ hk_ns st ≤ E.2.2.2.1 ∧ ∀ (p : Program) (l : Launch) (e : Env) (R : Room) (s : State) (m : MethodId) (args : Array Value) (below : List Frame) (meth : Method) (c : Code), hk_X Gd N E p l R s m args meth c →
    ∀ (H : Heap) (locs : List Loc) (cells slots : Nat) (ls : Array Slot), lv_has ls c.maxLocals L → hk_R Gd st H → va_S (hk_A Gd) s.heap H locs →
      cells + E.1 ≤ hk_nc st → slots + E.2.1 ≤ hk_ns st → W p l e R s m args below meth c H locs cells slots (E.2.2.2.2 (p, l, e, R, s, m, args, below, meth, c)) (F0 m pc ls S)
def hk_Q (Gd : hk_G) (r : Option Value) (fin : hk_St) : Array Value → State → Outcome → State → Prop := fun _ st oc t => (oc = .returned r ∧ hk_R Gd fin t.heap) ∧ va_F (hk_A Gd) st t
/-- a method's ends: its answer and the last state are known -/
def hk_end (Gd : hk_G) (st0 : hk_St) (r : Option Value) (fin : hk_St) : hk_E :=
  (hk_nc st0, hk_ns st0, hk_nc fin, hk_ns fin, fun K => MQ K.2.2.2.2.2.2.2.1 (hk_Q Gd r fin) K.2.2.2.2.2.2.1 K.2.2.2.2.1 (hk_nc fin - hk_nc st0) (hk_ns fin - hk_ns st0) (hk_A Gd))
def hk_Met (Gd : hk_G) (l : Launch) (y : MethodName) (bytes : ByteArray) (maxL : Nat) (ret : Option FieldType) (fr lo : Nat) (av : List Value) (st : hk_St) (r : Option Value) (fin : hk_St) : Prop :=
  hk_nc st ≤ hk_nc fin ∧ hk_ns st ≤ hk_ns fin ∧
  Met l y (ws_ y bytes maxL ret) { frames := fr, cells := hk_nc fin - hk_nc st, slots := hk_ns fin - hk_ns st, locals := lo } (va_Pc av (fun U => hk_WW Gd U ∧ hk_R Gd st U.heap)) (hk_Q Gd r fin) (hk_nc fin - hk_nc st) (hk_ns fin - hk_ns st) (hk_A Gd)
theorem hk_ofW {l : Launch} {y : MethodName} {ws ws' : List Cond} {rm : Room} {Pc : Array Value → State → Prop} {Qc : Array Value → State → Outcome → State → Prop} {mc ms : Nat} {free : Addr → Prop} {cc : ByteArray} {maxL : Nat} {ret : Option FieldType}
    (hy : plainFor y = true) (hw : ws = Cond.code y cc maxL ret :: ws')
    (body : ∀ p e s m args below meth c s₁, BodyLoose p l y (headSpec ws rm) cc maxL ret e s m args below meth c s₁ → c.maxLocals = maxL → Pc args s →
      W p l e (headSpec ws rm).room s m args below meth c s.heap [] 0 0 (MQ below Qc args s mc ms free) (entryFrame m args maxL)) : Met l y ws rm Pc Qc mc ms free := by
  refine MetFree.of_bodySF (code := cc) (maxLocals := maxL) (ret := ret) hy ?_ ?_
  · intro args s m h hn
    obtain ⟨meth, c, h1, h2, h3, h4, h5, h6, -, -⟩ := Cond.code_spec hn (atoms_spec (ws := ws) h _ (by rw [hw]; exact List.mem_cons_self))
    exact ⟨meth, c, h1, h2, h3, h4, h5, h6⟩
  · intro p e s m args below meth c s₁ B hml hP _
    have hh0 : s₁.heap = s.heap := by rw [B.state]; rfl
    obtain ⟨t, a1, o, b1, b2, b3⟩ := body p e s m args below meth c s₁ B hml hP s₁ hh0 (Stand.of_body B)
    exact ⟨t, o, a1, b1, b2, ⟨b3.1, b3.2⟩⟩
/-- a contract out of a walk from the entry -/
theorem hk_start {Gd : hk_G} {l : Launch} {y : MethodName} {bytes : ByteArray} {maxL : Nat} {ret : Option FieldType} {fr lo : Nat} {av : List Value} {st : hk_St} {r : Option Value} {fin : hk_St} (own : String) (ini : Bool) (hy : plainFor y = true) (ho : y.cls = own) (hi : ini = true → y.name = "<init>") (hs : (lg_sl av).length ≤ maxL)
    (k : hk_V Gd (l, bytes, own, maxL, ret, fr, lo, ini) (hk_end Gd st r fin) 0 (lv_args 0 av) [] st) : hk_Met Gd l y bytes maxL ret fr lo av st r fin := by
  obtain ⟨k1, k2, k⟩ := k
  have k1 : hk_nc st ≤ hk_nc fin := k1
  have k2 : hk_ns st ≤ hk_ns fin := k2
  refine ⟨k1, k2, ?_⟩
  refine hk_ofW (cc := bytes) (maxL := maxL) (ret := ret) hy rfl ?_
  intro p e s m args below meth c s₁ B hml hv
  obtain ⟨rfl, hWW, hR⟩ := hv
  have hts := atoms_spec (ws := ws_ y bytes maxL ret) B.pre
  have hts : ∀ w ∈ lw_all, w.before _ s = true := fun w h => hts w (List.mem_cons_of_mem _ h)
  have hown : s.vm.findClass own = some m.cls := by rw [← ho]; exact findClass_of_methodNamed B.named
  have hnm : meth.name = y.name := (name_of_methodNamed B.named B.method).1
  have hz : Gd.2.2.1 ≤ s.heap.size := by rw [hR.1]; exact hR.2.1
  have hl := lv_entry av (n := maxL) hs
  rw [lg_entry_eq]
  exact k p l e _ s m av.toArray below meth c ⟨B.exec, B.bytes, hown, hts, B.notSynchronized, B.returns, hml, hWW, rfl, rfl, by show hk_nc fin ≤ hk_nc st + (hk_nc fin - hk_nc st); omega, by show hk_ns fin ≤ hk_ns st + (hk_ns fin - hk_ns st); omega, hz, rfl, fun h => hnm.trans (hi h), hR.2.2.1⟩
    s.heap [] 0 0 _ (by rw [hml]; exact hl) hR va_S.rf (by show 0 + hk_nc st ≤ hk_nc st; omega) (by show 0 + hk_ns st ≤ hk_ns st; omega)

section HKR
variable {Gd : hk_G} {N : hk_N} {E : hk_E} {pc : Nat} {L : List (Nat × Value)} {S : List Value} {st : hk_St}
theorem hv_iadd {x y : Int32} (d : decode N.2.1 pc = .ok (.iadd, 1)) (k : hk_V Gd N E (pc + 1) L (.int (x + y) :: S) st) : hk_V Gd N E pc L (.int y :: .int x :: S) st :=
  ⟨k.1, k.2.1, fun p l e R s m args below meth c X H locs cells slots ls hl hR hS h1 h2 => lv_iadd X.1 X.2.1 d (k.2.2 p l e R s m args below meth c X H locs cells slots ls hl hR hS h1 h2)⟩
theorem hv_isub {x y : Int32} (d : decode N.2.1 pc = .ok (.isub, 1)) (k : hk_V Gd N E (pc + 1) L (.int (x - y) :: S) st) : hk_V Gd N E pc L (.int y :: .int x :: S) st :=
  ⟨k.1, k.2.1, fun p l e R s m args below meth c X H locs cells slots ls hl hR hS h1 h2 => lv_isub X.1 X.2.1 d (k.2.2 p l e R s m args below meth c X H locs cells slots ls hl hR hS h1 h2)⟩
theorem hv_imul {x y : Int32} (d : decode N.2.1 pc = .ok (.imul, 1)) (k : hk_V Gd N E (pc + 1) L (.int (x * y) :: S) st) : hk_V Gd N E pc L (.int y :: .int x :: S) st :=
  ⟨k.1, k.2.1, fun p l e R s m args below meth c X H locs cells slots ls hl hR hS h1 h2 => lv_imul X.1 X.2.1 d (k.2.2 p l e R s m args below meth c X H locs cells slots ls hl hR hS h1 h2)⟩
theorem hv_iand {x y : Int32} (d : decode N.2.1 pc = .ok (.iand, 1)) (k : hk_V Gd N E (pc + 1) L (.int (x &&& y) :: S) st) : hk_V Gd N E pc L (.int y :: .int x :: S) st :=
  ⟨k.1, k.2.1, fun p l e R s m args below meth c X H locs cells slots ls hl hR hS h1 h2 => lv_iand X.1 X.2.1 d (k.2.2 p l e R s m args below meth c X H locs cells slots ls hl hR hS h1 h2)⟩
theorem hv_ior {x y : Int32} (d : decode N.2.1 pc = .ok (.ior, 1)) (k : hk_V Gd N E (pc + 1) L (.int (x ||| y) :: S) st) : hk_V Gd N E pc L (.int y :: .int x :: S) st :=
  ⟨k.1, k.2.1, fun p l e R s m args below meth c X H locs cells slots ls hl hR hS h1 h2 => lv_ior X.1 X.2.1 d (k.2.2 p l e R s m args below meth c X H locs cells slots ls hl hR hS h1 h2)⟩
theorem hv_ixor {x y : Int32} (d : decode N.2.1 pc = .ok (.ixor, 1)) (k : hk_V Gd N E (pc + 1) L (.int (x ^^^ y) :: S) st) : hk_V Gd N E pc L (.int y :: .int x :: S) st :=
  ⟨k.1, k.2.1, fun p l e R s m args below meth c X H locs cells slots ls hl hR hS h1 h2 => lv_ixor X.1 X.2.1 d (k.2.2 p l e R s m args below meth c X H locs cells slots ls hl hR hS h1 h2)⟩
theorem hv_ishl {x y : Int32} (d : decode N.2.1 pc = .ok (.ishl, 1)) (k : hk_V Gd N E (pc + 1) L (.int (x <<< (y &&& 31)) :: S) st) : hk_V Gd N E pc L (.int y :: .int x :: S) st :=
  ⟨k.1, k.2.1, fun p l e R s m args below meth c X H locs cells slots ls hl hR hS h1 h2 => lv_ishl X.1 X.2.1 d (k.2.2 p l e R s m args below meth c X H locs cells slots ls hl hR hS h1 h2)⟩
theorem hv_ishr {x y : Int32} (d : decode N.2.1 pc = .ok (.ishr, 1)) (k : hk_V Gd N E (pc + 1) L (.int (x >>> (y &&& 31)) :: S) st) : hk_V Gd N E pc L (.int y :: .int x :: S) st :=
  ⟨k.1, k.2.1, fun p l e R s m args below meth c X H locs cells slots ls hl hR hS h1 h2 => lv_ishr X.1 X.2.1 d (k.2.2 p l e R s m args below meth c X H locs cells slots ls hl hR hS h1 h2)⟩
theorem hv_ladd {x y : Int64} (d : decode N.2.1 pc = .ok (.ladd, 1)) (k : hk_V Gd N E (pc + 1) L (.long (x + y) :: S) st) : hk_V Gd N E pc L (.long y :: .long x :: S) st :=
  ⟨k.1, k.2.1, fun p l e R s m args below meth c X H locs cells slots ls hl hR hS h1 h2 => lv_ladd X.1 X.2.1 d (k.2.2 p l e R s m args below meth c X H locs cells slots ls hl hR hS h1 h2)⟩
theorem hv_lsub {x y : Int64} (d : decode N.2.1 pc = .ok (.lsub, 1)) (k : hk_V Gd N E (pc + 1) L (.long (x - y) :: S) st) : hk_V Gd N E pc L (.long y :: .long x :: S) st :=
  ⟨k.1, k.2.1, fun p l e R s m args below meth c X H locs cells slots ls hl hR hS h1 h2 => lv_lsub X.1 X.2.1 d (k.2.2 p l e R s m args below meth c X H locs cells slots ls hl hR hS h1 h2)⟩
theorem hv_lmul {x y : Int64} (d : decode N.2.1 pc = .ok (.lmul, 1)) (k : hk_V Gd N E (pc + 1) L (.long (x * y) :: S) st) : hk_V Gd N E pc L (.long y :: .long x :: S) st :=
  ⟨k.1, k.2.1, fun p l e R s m args below meth c X H locs cells slots ls hl hR hS h1 h2 => lv_lmul X.1 X.2.1 d (k.2.2 p l e R s m args below meth c X H locs cells slots ls hl hR hS h1 h2)⟩
theorem hv_land {x y : Int64} (d : decode N.2.1 pc = .ok (.land, 1)) (k : hk_V Gd N E (pc + 1) L (.long (x &&& y) :: S) st) : hk_V Gd N E pc L (.long y :: .long x :: S) st :=
  ⟨k.1, k.2.1, fun p l e R s m args below meth c X H locs cells slots ls hl hR hS h1 h2 => lv_land X.1 X.2.1 d (k.2.2 p l e R s m args below meth c X H locs cells slots ls hl hR hS h1 h2)⟩
theorem hv_lor {x y : Int64} (d : decode N.2.1 pc = .ok (.lor, 1)) (k : hk_V Gd N E (pc + 1) L (.long (x ||| y) :: S) st) : hk_V Gd N E pc L (.long y :: .long x :: S) st :=
  ⟨k.1, k.2.1, fun p l e R s m args below meth c X H locs cells slots ls hl hR hS h1 h2 => lv_lor X.1 X.2.1 d (k.2.2 p l e R s m args below meth c X H locs cells slots ls hl hR hS h1 h2)⟩
theorem hv_lxor {x y : Int64} (d : decode N.2.1 pc = .ok (.lxor, 1)) (k : hk_V Gd N E (pc + 1) L (.long (x ^^^ y) :: S) st) : hk_V Gd N E pc L (.long y :: .long x :: S) st :=
  ⟨k.1, k.2.1, fun p l e R s m args below meth c X H locs cells slots ls hl hR hS h1 h2 => lv_lxor X.1 X.2.1 d (k.2.2 p l e R s m args below meth c X H locs cells slots ls hl hR hS h1 h2)⟩
theorem hv_idiv {x y : Int32} (hne : ¬ y = 0) (d : decode N.2.1 pc = .ok (.idiv, 1)) (k : hk_V Gd N E (pc + 1) L (.int (x / y) :: S) st) : hk_V Gd N E pc L (.int y :: .int x :: S) st :=
  ⟨k.1, k.2.1, fun p l e R s m args below meth c X H locs cells slots ls hl hR hS h1 h2 => lv_idiv X.1 X.2.1 d hne (k.2.2 p l e R s m args below meth c X H locs cells slots ls hl hR hS h1 h2)⟩
theorem hv_irem {x y : Int32} (hne : ¬ y = 0) (d : decode N.2.1 pc = .ok (.irem, 1)) (k : hk_V Gd N E (pc + 1) L (.int (x - x / y * y) :: S) st) : hk_V Gd N E pc L (.int y :: .int x :: S) st :=
  ⟨k.1, k.2.1, fun p l e R s m args below meth c X H locs cells slots ls hl hR hS h1 h2 => lv_irem X.1 X.2.1 d hne (k.2.2 p l e R s m args below meth c X H locs cells slots ls hl hR hS h1 h2)⟩
theorem hv_ldiv {x y : Int64} (hne : ¬ y = 0) (d : decode N.2.1 pc = .ok (.ldiv, 1)) (k : hk_V Gd N E (pc + 1) L (.long (x / y) :: S) st) : hk_V Gd N E pc L (.long y :: .long x :: S) st :=
  ⟨k.1, k.2.1, fun p l e R s m args below meth c X H locs cells slots ls hl hR hS h1 h2 => lv_ldiv X.1 X.2.1 d hne (k.2.2 p l e R s m args below meth c X H locs cells slots ls hl hR hS h1 h2)⟩
theorem hv_lrem {x y : Int64} (hne : ¬ y = 0) (d : decode N.2.1 pc = .ok (.lrem, 1)) (k : hk_V Gd N E (pc + 1) L (.long (x - x / y * y) :: S) st) : hk_V Gd N E pc L (.long y :: .long x :: S) st :=
  ⟨k.1, k.2.1, fun p l e R s m args below meth c X H locs cells slots ls hl hR hS h1 h2 => lv_lrem X.1 X.2.1 d hne (k.2.2 p l e R s m args below meth c X H locs cells slots ls hl hR hS h1 h2)⟩
theorem hv_ineg {x : Int32} (d : decode N.2.1 pc = .ok (.ineg, 1)) (k : hk_V Gd N E (pc + 1) L (.int (-x) :: S) st) : hk_V Gd N E pc L (.int x :: S) st :=
  ⟨k.1, k.2.1, fun p l e R s m args below meth c X H locs cells slots ls hl hR hS h1 h2 => lv_ineg X.1 X.2.1 d (k.2.2 p l e R s m args below meth c X H locs cells slots ls hl hR hS h1 h2)⟩
theorem hv_lneg {x : Int64} (d : decode N.2.1 pc = .ok (.lneg, 1)) (k : hk_V Gd N E (pc + 1) L (.long (-x) :: S) st) : hk_V Gd N E pc L (.long x :: S) st :=
  ⟨k.1, k.2.1, fun p l e R s m args below meth c X H locs cells slots ls hl hR hS h1 h2 => lv_lneg X.1 X.2.1 d (k.2.2 p l e R s m args below meth c X H locs cells slots ls hl hR hS h1 h2)⟩
theorem hv_i2l {x : Int32} (d : decode N.2.1 pc = .ok (.i2l, 1)) (k : hk_V Gd N E (pc + 1) L (.long x.toInt64 :: S) st) : hk_V Gd N E pc L (.int x :: S) st :=
  ⟨k.1, k.2.1, fun p l e R s m args below meth c X H locs cells slots ls hl hR hS h1 h2 => lv_i2l X.1 X.2.1 d rfl (k.2.2 p l e R s m args below meth c X H locs cells slots ls hl hR hS h1 h2)⟩
theorem hv_l2i {x : Int64} (d : decode N.2.1 pc = .ok (.l2i, 1)) (k : hk_V Gd N E (pc + 1) L (.int x.toInt32 :: S) st) : hk_V Gd N E pc L (.long x :: S) st :=
  ⟨k.1, k.2.1, fun p l e R s m args below meth c X H locs cells slots ls hl hR hS h1 h2 => lv_l2i X.1 X.2.1 d rfl (k.2.2 p l e R s m args below meth c X H locs cells slots ls hl hR hS h1 h2)⟩
theorem hv_i2b {x : Int32} (d : decode N.2.1 pc = .ok (.i2b, 1)) (k : hk_V Gd N E (pc + 1) L (.int x.toInt8.toInt32 :: S) st) : hk_V Gd N E pc L (.int x :: S) st :=
  ⟨k.1, k.2.1, fun p l e R s m args below meth c X H locs cells slots ls hl hR hS h1 h2 => lv_i2b X.1 X.2.1 d rfl (k.2.2 p l e R s m args below meth c X H locs cells slots ls hl hR hS h1 h2)⟩
theorem hv_i2s {x : Int32} (d : decode N.2.1 pc = .ok (.i2s, 1)) (k : hk_V Gd N E (pc + 1) L (.int x.toInt16.toInt32 :: S) st) : hk_V Gd N E pc L (.int x :: S) st :=
  ⟨k.1, k.2.1, fun p l e R s m args below meth c X H locs cells slots ls hl hR hS h1 h2 => lv_i2s X.1 X.2.1 d rfl (k.2.2 p l e R s m args below meth c X H locs cells slots ls hl hR hS h1 h2)⟩
theorem hv_iushr {x y : Int32} (d : decode N.2.1 pc = .ok (.iushr, 1)) (k : hk_V Gd N E (pc + 1) L (.int (x.toUInt32 >>> (y.toUInt32 &&& Int32.toUInt32 31)).toInt32 :: S) st) : hk_V Gd N E pc L (.int y :: .int x :: S) st :=
  ⟨k.1, k.2.1, fun p l e R s m args below meth c X H locs cells slots ls hl hR hS h1 h2 => lv_iushr X.1 X.2.1 d rfl (k.2.2 p l e R s m args below meth c X H locs cells slots ls hl hR hS h1 h2)⟩
theorem hv_lshl {x : Int64} {y : Int32} (d : decode N.2.1 pc = .ok (.lshl, 1)) (k : hk_V Gd N E (pc + 1) L (.long (x <<< (y.toInt64 &&& 63)) :: S) st) : hk_V Gd N E pc L (.int y :: .long x :: S) st :=
  ⟨k.1, k.2.1, fun p l e R s m args below meth c X H locs cells slots ls hl hR hS h1 h2 => lv_lshl X.1 X.2.1 d rfl (k.2.2 p l e R s m args below meth c X H locs cells slots ls hl hR hS h1 h2)⟩
theorem hv_iconst {n : Int} {v : Int32} (d : decode N.2.1 pc = .ok (.iconst n, 1)) (hv : Int32.ofInt n = v) (k : hk_V Gd N E (pc + 1) L (.int v :: S) st) : hk_V Gd N E pc L (S) st :=
  ⟨k.1, k.2.1, fun p l e R s m args below meth c X H locs cells slots ls hl hR hS h1 h2 => lv_iconst X.1 X.2.1 d hv (k.2.2 p l e R s m args below meth c X H locs cells slots ls hl hR hS h1 h2)⟩
theorem hv_bipush {n : Int} {v : Int32} (d : decode N.2.1 pc = .ok (.bipush n, 2)) (hv : (Int8.ofInt n).toInt32 = v) (k : hk_V Gd N E (pc + 2) L (.int v :: S) st) : hk_V Gd N E pc L (S) st :=
  ⟨k.1, k.2.1, fun p l e R s m args below meth c X H locs cells slots ls hl hR hS h1 h2 => lv_bipush X.1 X.2.1 d hv (k.2.2 p l e R s m args below meth c X H locs cells slots ls hl hR hS h1 h2)⟩
theorem hv_sipush {n : Int} {v : Int32} (d : decode N.2.1 pc = .ok (.sipush n, 3)) (hv : (Int16.ofInt n).toInt32 = v) (k : hk_V Gd N E (pc + 3) L (.int v :: S) st) : hk_V Gd N E pc L (S) st :=
  ⟨k.1, k.2.1, fun p l e R s m args below meth c X H locs cells slots ls hl hR hS h1 h2 => lv_sipush X.1 X.2.1 d hv (k.2.2 p l e R s m args below meth c X H locs cells slots ls hl hR hS h1 h2)⟩
theorem hv_lconst {n : Fin 2} {v : Int64} (d : decode N.2.1 pc = .ok (.lconst n, 1)) (hv : Int64.ofNat (n : Nat) = v) (k : hk_V Gd N E (pc + 1) L (.long v :: S) st) : hk_V Gd N E pc L (S) st :=
  ⟨k.1, k.2.1, fun p l e R s m args below meth c X H locs cells slots ls hl hR hS h1 h2 => lv_lconst X.1 X.2.1 d hv (k.2.2 p l e R s m args below meth c X H locs cells slots ls hl hR hS h1 h2)⟩
theorem hv_null (d : decode N.2.1 pc = .ok (.aconst_null, 1)) (k : hk_V Gd N E (pc + 1) L (va_rf none :: S) st) : hk_V Gd N E pc L (S) st :=
  ⟨k.1, k.2.1, fun p l e R s m args below meth c X H locs cells slots ls hl hR hS h1 h2 => lv_null X.1 X.2.1 d (k.2.2 p l e R s m args below meth c X H locs cells slots ls hl hR hS h1 h2)⟩
theorem hv_dup {v : Value} (d : decode N.2.1 pc = .ok (.dup, 1)) (hv : v.category = 1) (k : hk_V Gd N E (pc + 1) L (v :: v :: S) st) : hk_V Gd N E pc L (v :: S) st :=
  ⟨k.1, k.2.1, fun p l e R s m args below meth c X H locs cells slots ls hl hR hS h1 h2 => lv_dup X.1 X.2.1 d hv (k.2.2 p l e R s m args below meth c X H locs cells slots ls hl hR hS h1 h2)⟩
theorem hv_pop {v : Value} (d : decode N.2.1 pc = .ok (.pop, 1)) (hv : v.category = 1) (k : hk_V Gd N E (pc + 1) L (S) st) : hk_V Gd N E pc L (v :: S) st :=
  ⟨k.1, k.2.1, fun p l e R s m args below meth c X H locs cells slots ls hl hR hS h1 h2 => lv_pop X.1 X.2.1 d hv (k.2.2 p l e R s m args below meth c X H locs cells slots ls hl hR hS h1 h2)⟩
theorem hv_dup2 {v w : Value} (d : decode N.2.1 pc = .ok (.dup2, 1)) (hv : v.category = 1) (hw : w.category = 1) (k : hk_V Gd N E (pc + 1) L (v :: w :: v :: w :: S) st) : hk_V Gd N E pc L (v :: w :: S) st :=
  ⟨k.1, k.2.1, fun p l e R s m args below meth c X H locs cells slots ls hl hR hS h1 h2 => lv_dup2_11 X.1 X.2.1 d hv hw (k.2.2 p l e R s m args below meth c X H locs cells slots ls hl hR hS h1 h2)⟩
theorem hv_ldc {index : Nat} {v : Int32} (q : Cond.constant N.2.2.1 index v ∈ lw_all) (d : decode N.2.1 pc = .ok (.ldc index, 2)) (k : hk_V Gd N E (pc + 2) L (.int v :: S) st) : hk_V Gd N E pc L (S) st :=
  ⟨k.1, k.2.1, fun p l e R s m args below meth c X H locs cells slots ls hl hR hS h1 h2 => lv_ldc X.1 X.2.1 X.2.2.1 (X.2.2.2.1 _ q) d (k.2.2 p l e R s m args below meth c X H locs cells slots ls hl hR hS h1 h2)⟩
theorem hv_ldcw {index : Nat} {v : Int32} (q : Cond.constant N.2.2.1 index v ∈ lw_all) (d : decode N.2.1 pc = .ok (.ldc_w index, 3)) (k : hk_V Gd N E (pc + 3) L (.int v :: S) st) : hk_V Gd N E pc L (S) st :=
  ⟨k.1, k.2.1, fun p l e R s m args below meth c X H locs cells slots ls hl hR hS h1 h2 => lv_ldcw X.1 X.2.1 X.2.2.1 (X.2.2.2.1 _ q) d (k.2.2 p l e R s m args below meth c X H locs cells slots ls hl hR hS h1 h2)⟩
theorem hv_ldc2 {index : Nat} {v : Int64} (q : Cond.constantLong N.2.2.1 index v ∈ lw_all) (d : decode N.2.1 pc = .ok (.ldc2_w index, 3)) (k : hk_V Gd N E (pc + 3) L (.long v :: S) st) : hk_V Gd N E pc L (S) st :=
  ⟨k.1, k.2.1, fun p l e R s m args below meth c X H locs cells slots ls hl hR hS h1 h2 => lv_ldc2 X.1 X.2.1 X.2.2.1 (X.2.2.2.1 _ q) d (k.2.2 p l e R s m args below meth c X H locs cells slots ls hl hR hS h1 h2)⟩
theorem hv_iload_n {k : Fin 4} {i : Nat} {x : Int32} (j : Nat) (d : decode N.2.1 pc = .ok (.iload_n k, 1)) (hi : (k : Nat) = i) (hj : L[j]? = some (i, .int x)) (k : hk_V Gd N E (pc + 1) L (.int x :: S) st) : hk_V Gd N E pc L S st :=
  ⟨k.1, k.2.1, fun p l e R s m args below meth c X H locs cells slots ls hl hR hS h1 h2 => lv_iload_n X.1 X.2.1 d hi (lv_at hl j hj) (k.2.2 p l e R s m args below meth c X H locs cells slots ls hl hR hS h1 h2)⟩
theorem hv_iload {i : Nat} {x : Int32} (j : Nat) (d : decode N.2.1 pc = .ok (.iload i, 2)) (hj : L[j]? = some (i, .int x)) (k : hk_V Gd N E (pc + 2) L (.int x :: S) st) : hk_V Gd N E pc L S st :=
  ⟨k.1, k.2.1, fun p l e R s m args below meth c X H locs cells slots ls hl hR hS h1 h2 => lv_iload X.1 X.2.1 d (lv_at hl j hj) (k.2.2 p l e R s m args below meth c X H locs cells slots ls hl hR hS h1 h2)⟩
theorem hv_lload_n {k : Fin 4} {i : Nat} {x : Int64} (j : Nat) (d : decode N.2.1 pc = .ok (.lload_n k, 1)) (hi : (k : Nat) = i) (hj : L[j]? = some (i, .long x)) (k : hk_V Gd N E (pc + 1) L (.long x :: S) st) : hk_V Gd N E pc L S st :=
  ⟨k.1, k.2.1, fun p l e R s m args below meth c X H locs cells slots ls hl hR hS h1 h2 => lv_lload_n X.1 X.2.1 d hi (lv_at hl j hj) (k.2.2 p l e R s m args below meth c X H locs cells slots ls hl hR hS h1 h2)⟩
theorem hv_lload {i : Nat} {x : Int64} (j : Nat) (d : decode N.2.1 pc = .ok (.lload i, 2)) (hj : L[j]? = some (i, .long x)) (k : hk_V Gd N E (pc + 2) L (.long x :: S) st) : hk_V Gd N E pc L S st :=
  ⟨k.1, k.2.1, fun p l e R s m args below meth c X H locs cells slots ls hl hR hS h1 h2 => lv_lload X.1 X.2.1 d (lv_at hl j hj) (k.2.2 p l e R s m args below meth c X H locs cells slots ls hl hR hS h1 h2)⟩
theorem hv_aload_n {k : Fin 4} {i : Nat} {x : Nat} (j : Nat) (d : decode N.2.1 pc = .ok (.aload_n k, 1)) (hi : (k : Nat) = i) (hj : L[j]? = some (i, .ref x)) (k : hk_V Gd N E (pc + 1) L (.ref x :: S) st) : hk_V Gd N E pc L S st :=
  ⟨k.1, k.2.1, fun p l e R s m args below meth c X H locs cells slots ls hl hR hS h1 h2 => lv_aload_n X.1 X.2.1 d hi (lv_at hl j hj) (k.2.2 p l e R s m args below meth c X H locs cells slots ls hl hR hS h1 h2)⟩
theorem hv_aload {i : Nat} {x : Nat} (j : Nat) (d : decode N.2.1 pc = .ok (.aload i, 2)) (hj : L[j]? = some (i, .ref x)) (k : hk_V Gd N E (pc + 2) L (.ref x :: S) st) : hk_V Gd N E pc L S st :=
  ⟨k.1, k.2.1, fun p l e R s m args below meth c X H locs cells slots ls hl hR hS h1 h2 => lv_aload X.1 X.2.1 d (lv_at hl j hj) (k.2.2 p l e R s m args below meth c X H locs cells slots ls hl hR hS h1 h2)⟩
theorem hv_aload_nq {k : Fin 4} {i : Nat} {x : Option Nat} (j : Nat) (d : decode N.2.1 pc = .ok (.aload_n k, 1)) (hi : (k : Nat) = i) (hj : L[j]? = some (i, va_rf x)) (k : hk_V Gd N E (pc + 1) L (va_rf x :: S) st) : hk_V Gd N E pc L S st := by
  cases x with
  | none => exact ⟨k.1, k.2.1, fun p l e R s m args below meth c X H locs cells slots ls hl hR hS h1 h2 => lv_aload_nN X.1 X.2.1 d hi (lv_at hl j hj) (k.2.2 p l e R s m args below meth c X H locs cells slots ls hl hR hS h1 h2)⟩
  | some a => exact hv_aload_n j d hi hj k
theorem hv_aloadq {i : Nat} {x : Option Nat} (j : Nat) (d : decode N.2.1 pc = .ok (.aload i, 2)) (hj : L[j]? = some (i, va_rf x)) (k : hk_V Gd N E (pc + 2) L (va_rf x :: S) st) : hk_V Gd N E pc L S st := by
  cases x with
  | none => exact ⟨k.1, k.2.1, fun p l e R s m args below meth c X H locs cells slots ls hl hR hS h1 h2 => lv_aloadN X.1 X.2.1 d (lv_at hl j hj) (k.2.2 p l e R s m args below meth c X H locs cells slots ls hl hR hS h1 h2)⟩
  | some a => exact hv_aload j d hj k
theorem hv_istore_n {k : Fin 4} {i : Nat} {x : Int32} {L' : List (Nat × Value)} (d : decode N.2.1 pc = .ok (.istore_n k, 1)) (hi : (k : Nat) = i) (hn : i < N.2.2.2.1) (hl' : (i, Value.int x) :: L.filter (fun q => !(q.1 == i) && !(q.1 + 1 == i && q.2.category == 2)) = L') (k : hk_V Gd N E (pc + 1) L' S st) : hk_V Gd N E pc L (Value.int x :: S) st :=
  ⟨k.1, k.2.1, fun p l e R s m args below meth c X H locs cells slots ls hl hR hS h1 h2 => lv_istore_n X.1 X.2.1 d hi hl (by rw [X.2.2.2.2.2.2.1]; exact hn) hl' (fun ls hl => k.2.2 p l e R s m args below meth c X H locs cells slots ls hl hR hS h1 h2)⟩
theorem hv_istore {i : Nat} {x : Int32} {L' : List (Nat × Value)} (d : decode N.2.1 pc = .ok (.istore i, 2)) (hn : i < N.2.2.2.1) (hl' : (i, Value.int x) :: L.filter (fun q => !(q.1 == i) && !(q.1 + 1 == i && q.2.category == 2)) = L') (k : hk_V Gd N E (pc + 2) L' S st) : hk_V Gd N E pc L (Value.int x :: S) st :=
  ⟨k.1, k.2.1, fun p l e R s m args below meth c X H locs cells slots ls hl hR hS h1 h2 => lv_istore X.1 X.2.1 d hl (by rw [X.2.2.2.2.2.2.1]; exact hn) hl' (fun ls hl => k.2.2 p l e R s m args below meth c X H locs cells slots ls hl hR hS h1 h2)⟩
theorem hv_lstore_n {k : Fin 4} {i : Nat} {x : Int64} {L' : List (Nat × Value)} (d : decode N.2.1 pc = .ok (.lstore_n k, 1)) (hi : (k : Nat) = i) (hn : i + 1 < N.2.2.2.1) (hl' : (i, Value.long x) :: L.filter (fun q => !(q.1 == i) && (!(q.1 == i + 1) && !(q.1 + 1 == i && q.2.category == 2))) = L') (k : hk_V Gd N E (pc + 1) L' S st) : hk_V Gd N E pc L (Value.long x :: S) st :=
  ⟨k.1, k.2.1, fun p l e R s m args below meth c X H locs cells slots ls hl hR hS h1 h2 => lv_lstore_n X.1 X.2.1 d hi hl (by rw [X.2.2.2.2.2.2.1]; exact hn) hl' (fun ls hl => k.2.2 p l e R s m args below meth c X H locs cells slots ls hl hR hS h1 h2)⟩
theorem hv_lstore {i : Nat} {x : Int64} {L' : List (Nat × Value)} (d : decode N.2.1 pc = .ok (.lstore i, 2)) (hn : i + 1 < N.2.2.2.1) (hl' : (i, Value.long x) :: L.filter (fun q => !(q.1 == i) && (!(q.1 == i + 1) && !(q.1 + 1 == i && q.2.category == 2))) = L') (k : hk_V Gd N E (pc + 2) L' S st) : hk_V Gd N E pc L (Value.long x :: S) st :=
  ⟨k.1, k.2.1, fun p l e R s m args below meth c X H locs cells slots ls hl hR hS h1 h2 => lv_lstore X.1 X.2.1 d hl (by rw [X.2.2.2.2.2.2.1]; exact hn) hl' (fun ls hl => k.2.2 p l e R s m args below meth c X H locs cells slots ls hl hR hS h1 h2)⟩
theorem hv_astore_n {k : Fin 4} {i : Nat} {x : Nat} {L' : List (Nat × Value)} (d : decode N.2.1 pc = .ok (.astore_n k, 1)) (hi : (k : Nat) = i) (hn : i < N.2.2.2.1) (hl' : (i, Value.ref x) :: L.filter (fun q => !(q.1 == i) && !(q.1 + 1 == i && q.2.category == 2)) = L') (k : hk_V Gd N E (pc + 1) L' S st) : hk_V Gd N E pc L (Value.ref x :: S) st :=
  ⟨k.1, k.2.1, fun p l e R s m args below meth c X H locs cells slots ls hl hR hS h1 h2 => lv_astore_n X.1 X.2.1 d hi hl (by rw [X.2.2.2.2.2.2.1]; exact hn) hl' (fun ls hl => k.2.2 p l e R s m args below meth c X H locs cells slots ls hl hR hS h1 h2)⟩
theorem hv_astore {i : Nat} {x : Nat} {L' : List (Nat × Value)} (d : decode N.2.1 pc = .ok (.astore i, 2)) (hn : i < N.2.2.2.1) (hl' : (i, Value.ref x) :: L.filter (fun q => !(q.1 == i) && !(q.1 + 1 == i && q.2.category == 2)) = L') (k : hk_V Gd N E (pc + 2) L' S st) : hk_V Gd N E pc L (Value.ref x :: S) st :=
  ⟨k.1, k.2.1, fun p l e R s m args below meth c X H locs cells slots ls hl hR hS h1 h2 => lv_astore X.1 X.2.1 d hl (by rw [X.2.2.2.2.2.2.1]; exact hn) hl' (fun ls hl => k.2.2 p l e R s m args below meth c X H locs cells slots ls hl hR hS h1 h2)⟩
theorem hv_astore_nq {k : Fin 4} {i : Nat} {x : Option Nat} {L' : List (Nat × Value)} (d : decode N.2.1 pc = .ok (.astore_n k, 1)) (hi : (k : Nat) = i) (hn : i < N.2.2.2.1) (hl' : (i, va_rf x) :: L.filter (fun q => !(q.1 == i) && !(q.1 + 1 == i && q.2.category == 2)) = L') (k : hk_V Gd N E (pc + 1) L' S st) : hk_V Gd N E pc L (va_rf x :: S) st := by
  cases x with
  | none => exact ⟨k.1, k.2.1, fun p l e R s m args below meth c X H locs cells slots ls hl hR hS h1 h2 => lv_astore_nN X.1 X.2.1 d hi hl (by rw [X.2.2.2.2.2.2.1]; exact hn) hl' (fun ls hl => k.2.2 p l e R s m args below meth c X H locs cells slots ls hl hR hS h1 h2)⟩
  | some a => exact hv_astore_n d hi hn hl' k
theorem hv_astoreq {i : Nat} {x : Option Nat} {L' : List (Nat × Value)} (d : decode N.2.1 pc = .ok (.astore i, 2)) (hn : i < N.2.2.2.1) (hl' : (i, va_rf x) :: L.filter (fun q => !(q.1 == i) && !(q.1 + 1 == i && q.2.category == 2)) = L') (k : hk_V Gd N E (pc + 2) L' S st) : hk_V Gd N E pc L (va_rf x :: S) st := by
  cases x with
  | none => exact ⟨k.1, k.2.1, fun p l e R s m args below meth c X H locs cells slots ls hl hR hS h1 h2 => lv_astoreN X.1 X.2.1 d hl (by rw [X.2.2.2.2.2.2.1]; exact hn) hl' (fun ls hl => k.2.2 p l e R s m args below meth c X H locs cells slots ls hl hR hS h1 h2)⟩
  | some a => exact hv_astore d hn hl' k
theorem hv_iinc {i : Nat} {n : Int} {x v : Int32} {L' : List (Nat × Value)} (j : Nat) (d : decode N.2.1 pc = .ok (.iinc i n, 3)) (hj : L[j]? = some (i, .int x)) (hv : x + Int32.ofInt n = v) (hn : i < N.2.2.2.1) (hl' : (i, Value.int v) :: L.filter (fun q => !(q.1 == i) && !(q.1 + 1 == i && q.2.category == 2)) = L') (k : hk_V Gd N E (pc + 3) L' S st) : hk_V Gd N E pc L S st :=
  ⟨k.1, k.2.1, fun p l e R s m args below meth c X H locs cells slots ls hl hR hS h1 h2 => lv_iinc X.1 X.2.1 d hl hj hv (by rw [X.2.2.2.2.2.2.1]; exact hn) hl' (fun ls hl => k.2.2 p l e R s m args below meth c X H locs cells slots ls hl hR hS h1 h2)⟩
theorem hv_if_eq {x : Int32} {off : Int} {tgt : Nat} (d : decode N.2.1 pc = .ok (.ifCond .eq off, 3)) (ht : (pc : Int) + off = (tgt : Int)) (kt : x = 0 → hk_V Gd N E tgt L S st) (kf : ¬ (x = 0) → hk_V Gd N E (pc + 3) L S st) : hk_V Gd N E pc L (.int x :: S) st := by
  by_cases hP : x = 0
  · have k := kt hP
    exact ⟨k.1, k.2.1, fun p l e R s m args below meth c X H locs cells slots ls hl hR hS h1 h2 => lv_if_eq X.1 X.2.1 d ht (fun _ => k.2.2 p l e R s m args below meth c X H locs cells slots ls hl hR hS h1 h2) (fun h => absurd hP h)⟩
  · have k := kf hP
    exact ⟨k.1, k.2.1, fun p l e R s m args below meth c X H locs cells slots ls hl hR hS h1 h2 => lv_if_eq X.1 X.2.1 d ht (fun h => absurd h hP) (fun _ => k.2.2 p l e R s m args below meth c X H locs cells slots ls hl hR hS h1 h2)⟩
theorem hv_icmp_eq {x y : Int32} {off : Int} {tgt : Nat} (d : decode N.2.1 pc = .ok (.if_icmp .eq off, 3)) (ht : (pc : Int) + off = (tgt : Int)) (kt : x = y → hk_V Gd N E tgt L S st) (kf : ¬ (x = y) → hk_V Gd N E (pc + 3) L S st) : hk_V Gd N E pc L (.int y :: .int x :: S) st := by
  by_cases hP : x = y
  · have k := kt hP
    exact ⟨k.1, k.2.1, fun p l e R s m args below meth c X H locs cells slots ls hl hR hS h1 h2 => lv_icmp_eq X.1 X.2.1 d ht (fun _ => k.2.2 p l e R s m args below meth c X H locs cells slots ls hl hR hS h1 h2) (fun h => absurd hP h)⟩
  · have k := kf hP
    exact ⟨k.1, k.2.1, fun p l e R s m args below meth c X H locs cells slots ls hl hR hS h1 h2 => lv_icmp_eq X.1 X.2.1 d ht (fun h => absurd h hP) (fun _ => k.2.2 p l e R s m args below meth c X H locs cells slots ls hl hR hS h1 h2)⟩
theorem hv_if_ne {x : Int32} {off : Int} {tgt : Nat} (d : decode N.2.1 pc = .ok (.ifCond .ne off, 3)) (ht : (pc : Int) + off = (tgt : Int)) (kt : ¬ x = 0 → hk_V Gd N E tgt L S st) (kf : x = 0 → hk_V Gd N E (pc + 3) L S st) : hk_V Gd N E pc L (.int x :: S) st := by
  by_cases hP : ¬ x = 0
  · have k := kt hP
    exact ⟨k.1, k.2.1, fun p l e R s m args below meth c X H locs cells slots ls hl hR hS h1 h2 => lv_if_ne X.1 X.2.1 d ht (fun _ => k.2.2 p l e R s m args below meth c X H locs cells slots ls hl hR hS h1 h2) (fun h => absurd h hP)⟩
  · have k := kf (Decidable.not_not.mp hP)
    exact ⟨k.1, k.2.1, fun p l e R s m args below meth c X H locs cells slots ls hl hR hS h1 h2 => lv_if_ne X.1 X.2.1 d ht (fun h => absurd h hP) (fun _ => k.2.2 p l e R s m args below meth c X H locs cells slots ls hl hR hS h1 h2)⟩
theorem hv_icmp_ne {x y : Int32} {off : Int} {tgt : Nat} (d : decode N.2.1 pc = .ok (.if_icmp .ne off, 3)) (ht : (pc : Int) + off = (tgt : Int)) (kt : ¬ x = y → hk_V Gd N E tgt L S st) (kf : x = y → hk_V Gd N E (pc + 3) L S st) : hk_V Gd N E pc L (.int y :: .int x :: S) st := by
  by_cases hP : ¬ x = y
  · have k := kt hP
    exact ⟨k.1, k.2.1, fun p l e R s m args below meth c X H locs cells slots ls hl hR hS h1 h2 => lv_icmp_ne X.1 X.2.1 d ht (fun _ => k.2.2 p l e R s m args below meth c X H locs cells slots ls hl hR hS h1 h2) (fun h => absurd h hP)⟩
  · have k := kf (Decidable.not_not.mp hP)
    exact ⟨k.1, k.2.1, fun p l e R s m args below meth c X H locs cells slots ls hl hR hS h1 h2 => lv_icmp_ne X.1 X.2.1 d ht (fun h => absurd h hP) (fun _ => k.2.2 p l e R s m args below meth c X H locs cells slots ls hl hR hS h1 h2)⟩
theorem hv_if_lt {x : Int32} {off : Int} {tgt : Nat} (d : decode N.2.1 pc = .ok (.ifCond .lt off, 3)) (ht : (pc : Int) + off = (tgt : Int)) (kt : x < 0 → hk_V Gd N E tgt L S st) (kf : ¬ (x < 0) → hk_V Gd N E (pc + 3) L S st) : hk_V Gd N E pc L (.int x :: S) st := by
  by_cases hP : x < 0
  · have k := kt hP
    exact ⟨k.1, k.2.1, fun p l e R s m args below meth c X H locs cells slots ls hl hR hS h1 h2 => lv_if_lt X.1 X.2.1 d ht (fun _ => k.2.2 p l e R s m args below meth c X H locs cells slots ls hl hR hS h1 h2) (fun h => absurd hP h)⟩
  · have k := kf hP
    exact ⟨k.1, k.2.1, fun p l e R s m args below meth c X H locs cells slots ls hl hR hS h1 h2 => lv_if_lt X.1 X.2.1 d ht (fun h => absurd h hP) (fun _ => k.2.2 p l e R s m args below meth c X H locs cells slots ls hl hR hS h1 h2)⟩
theorem hv_icmp_lt {x y : Int32} {off : Int} {tgt : Nat} (d : decode N.2.1 pc = .ok (.if_icmp .lt off, 3)) (ht : (pc : Int) + off = (tgt : Int)) (kt : x < y → hk_V Gd N E tgt L S st) (kf : ¬ (x < y) → hk_V Gd N E (pc + 3) L S st) : hk_V Gd N E pc L (.int y :: .int x :: S) st := by
  by_cases hP : x < y
  · have k := kt hP
    exact ⟨k.1, k.2.1, fun p l e R s m args below meth c X H locs cells slots ls hl hR hS h1 h2 => lv_icmp_lt X.1 X.2.1 d ht (fun _ => k.2.2 p l e R s m args below meth c X H locs cells slots ls hl hR hS h1 h2) (fun h => absurd hP h)⟩
  · have k := kf hP
    exact ⟨k.1, k.2.1, fun p l e R s m args below meth c X H locs cells slots ls hl hR hS h1 h2 => lv_icmp_lt X.1 X.2.1 d ht (fun h => absurd h hP) (fun _ => k.2.2 p l e R s m args below meth c X H locs cells slots ls hl hR hS h1 h2)⟩
theorem hv_if_ge {x : Int32} {off : Int} {tgt : Nat} (d : decode N.2.1 pc = .ok (.ifCond .ge off, 3)) (ht : (pc : Int) + off = (tgt : Int)) (kt : 0 ≤ x → hk_V Gd N E tgt L S st) (kf : ¬ (0 ≤ x) → hk_V Gd N E (pc + 3) L S st) : hk_V Gd N E pc L (.int x :: S) st := by
  by_cases hP : 0 ≤ x
  · have k := kt hP
    exact ⟨k.1, k.2.1, fun p l e R s m args below meth c X H locs cells slots ls hl hR hS h1 h2 => lv_if_ge X.1 X.2.1 d ht (fun _ => k.2.2 p l e R s m args below meth c X H locs cells slots ls hl hR hS h1 h2) (fun h => absurd hP h)⟩
  · have k := kf hP
    exact ⟨k.1, k.2.1, fun p l e R s m args below meth c X H locs cells slots ls hl hR hS h1 h2 => lv_if_ge X.1 X.2.1 d ht (fun h => absurd h hP) (fun _ => k.2.2 p l e R s m args below meth c X H locs cells slots ls hl hR hS h1 h2)⟩
theorem hv_icmp_ge {x y : Int32} {off : Int} {tgt : Nat} (d : decode N.2.1 pc = .ok (.if_icmp .ge off, 3)) (ht : (pc : Int) + off = (tgt : Int)) (kt : y ≤ x → hk_V Gd N E tgt L S st) (kf : ¬ (y ≤ x) → hk_V Gd N E (pc + 3) L S st) : hk_V Gd N E pc L (.int y :: .int x :: S) st := by
  by_cases hP : y ≤ x
  · have k := kt hP
    exact ⟨k.1, k.2.1, fun p l e R s m args below meth c X H locs cells slots ls hl hR hS h1 h2 => lv_icmp_ge X.1 X.2.1 d ht (fun _ => k.2.2 p l e R s m args below meth c X H locs cells slots ls hl hR hS h1 h2) (fun h => absurd hP h)⟩
  · have k := kf hP
    exact ⟨k.1, k.2.1, fun p l e R s m args below meth c X H locs cells slots ls hl hR hS h1 h2 => lv_icmp_ge X.1 X.2.1 d ht (fun h => absurd h hP) (fun _ => k.2.2 p l e R s m args below meth c X H locs cells slots ls hl hR hS h1 h2)⟩
theorem hv_if_gt {x : Int32} {off : Int} {tgt : Nat} (d : decode N.2.1 pc = .ok (.ifCond .gt off, 3)) (ht : (pc : Int) + off = (tgt : Int)) (kt : 0 < x → hk_V Gd N E tgt L S st) (kf : ¬ (0 < x) → hk_V Gd N E (pc + 3) L S st) : hk_V Gd N E pc L (.int x :: S) st := by
  by_cases hP : 0 < x
  · have k := kt hP
    exact ⟨k.1, k.2.1, fun p l e R s m args below meth c X H locs cells slots ls hl hR hS h1 h2 => lv_if_gt X.1 X.2.1 d ht (fun _ => k.2.2 p l e R s m args below meth c X H locs cells slots ls hl hR hS h1 h2) (fun h => absurd hP h)⟩
  · have k := kf hP
    exact ⟨k.1, k.2.1, fun p l e R s m args below meth c X H locs cells slots ls hl hR hS h1 h2 => lv_if_gt X.1 X.2.1 d ht (fun h => absurd h hP) (fun _ => k.2.2 p l e R s m args below meth c X H locs cells slots ls hl hR hS h1 h2)⟩
theorem hv_icmp_gt {x y : Int32} {off : Int} {tgt : Nat} (d : decode N.2.1 pc = .ok (.if_icmp .gt off, 3)) (ht : (pc : Int) + off = (tgt : Int)) (kt : y < x → hk_V Gd N E tgt L S st) (kf : ¬ (y < x) → hk_V Gd N E (pc + 3) L S st) : hk_V Gd N E pc L (.int y :: .int x :: S) st := by
  by_cases hP : y < x
  · have k := kt hP
    exact ⟨k.1, k.2.1, fun p l e R s m args below meth c X H locs cells slots ls hl hR hS h1 h2 => lv_icmp_gt X.1 X.2.1 d ht (fun _ => k.2.2 p l e R s m args below meth c X H locs cells slots ls hl hR hS h1 h2) (fun h => absurd hP h)⟩
  · have k := kf hP
    exact ⟨k.1, k.2.1, fun p l e R s m args below meth c X H locs cells slots ls hl hR hS h1 h2 => lv_icmp_gt X.1 X.2.1 d ht (fun h => absurd h hP) (fun _ => k.2.2 p l e R s m args below meth c X H locs cells slots ls hl hR hS h1 h2)⟩
theorem hv_if_le {x : Int32} {off : Int} {tgt : Nat} (d : decode N.2.1 pc = .ok (.ifCond .le off, 3)) (ht : (pc : Int) + off = (tgt : Int)) (kt : x ≤ 0 → hk_V Gd N E tgt L S st) (kf : ¬ (x ≤ 0) → hk_V Gd N E (pc + 3) L S st) : hk_V Gd N E pc L (.int x :: S) st := by
  by_cases hP : x ≤ 0
  · have k := kt hP
    exact ⟨k.1, k.2.1, fun p l e R s m args below meth c X H locs cells slots ls hl hR hS h1 h2 => lv_if_le X.1 X.2.1 d ht (fun _ => k.2.2 p l e R s m args below meth c X H locs cells slots ls hl hR hS h1 h2) (fun h => absurd hP h)⟩
  · have k := kf hP
    exact ⟨k.1, k.2.1, fun p l e R s m args below meth c X H locs cells slots ls hl hR hS h1 h2 => lv_if_le X.1 X.2.1 d ht (fun h => absurd h hP) (fun _ => k.2.2 p l e R s m args below meth c X H locs cells slots ls hl hR hS h1 h2)⟩
theorem hv_icmp_le {x y : Int32} {off : Int} {tgt : Nat} (d : decode N.2.1 pc = .ok (.if_icmp .le off, 3)) (ht : (pc : Int) + off = (tgt : Int)) (kt : x ≤ y → hk_V Gd N E tgt L S st) (kf : ¬ (x ≤ y) → hk_V Gd N E (pc + 3) L S st) : hk_V Gd N E pc L (.int y :: .int x :: S) st := by
  by_cases hP : x ≤ y
  · have k := kt hP
    exact ⟨k.1, k.2.1, fun p l e R s m args below meth c X H locs cells slots ls hl hR hS h1 h2 => lv_icmp_le X.1 X.2.1 d ht (fun _ => k.2.2 p l e R s m args below meth c X H locs cells slots ls hl hR hS h1 h2) (fun h => absurd hP h)⟩
  · have k := kf hP
    exact ⟨k.1, k.2.1, fun p l e R s m args below meth c X H locs cells slots ls hl hR hS h1 h2 => lv_icmp_le X.1 X.2.1 d ht (fun h => absurd h hP) (fun _ => k.2.2 p l e R s m args below meth c X H locs cells slots ls hl hR hS h1 h2)⟩
theorem hv_lcmp {x y : Int64} (d : decode N.2.1 pc = .ok (.lcmp, 1)) (k : hk_V Gd N E (pc + 1) L (.int (lg_cmp x y) :: S) st) : hk_V Gd N E pc L (.long y :: .long x :: S) st :=
  ⟨k.1, k.2.1, fun p l e R s m args below meth c X H locs cells slots ls hl hR hS h1 h2 => W.lcmp X.1 X.2.1 d (k.2.2 p l e R s m args below meth c X H locs cells slots ls hl hR hS h1 h2)⟩
theorem hw_eq {x y : Int64} : ((lg_cmp x y) = 0) ↔ (x = y) := by
  unfold lg_cmp
  rcases lg_tri x y with h | h | h
  · simp [h, lg_lt_not h, lg_lt_ne h, lg_lt_not_le h, Int64.le_of_lt h] <;> decide
  · subst h
    simp [Int64.lt_irrefl, Int64.le_refl]
  · have h9 : ¬ x = y := fun q => lg_lt_ne h q.symm
    simp [h, lg_lt_not h, h9, lg_lt_not_le h, Int64.le_of_lt h] <;> decide
theorem hv_lcmp_eq {x y : Int64} {off : Int} {tgt : Nat} (d0 : decode N.2.1 pc = .ok (.lcmp, 1)) (d : decode N.2.1 (pc + 1) = .ok (.ifCond .eq off, 3)) (ht : ((pc + 1 : Nat) : Int) + off = (tgt : Int)) (kt : x = y → hk_V Gd N E tgt L S st) (kf : ¬ (x = y) → hk_V Gd N E (pc + 4) L S st) : hk_V Gd N E pc L (.long y :: .long x :: S) st :=
  hv_lcmp d0 (hv_if_eq d ht (fun h => kt (hw_eq.mp h)) (fun h => kf (fun q => h (hw_eq.mpr q))))
theorem hw_ne {x y : Int64} : (¬ (lg_cmp x y) = 0) ↔ (¬ x = y) := by
  unfold lg_cmp
  rcases lg_tri x y with h | h | h
  · simp [h, lg_lt_not h, lg_lt_ne h, lg_lt_not_le h, Int64.le_of_lt h] <;> decide
  · subst h
    simp [Int64.lt_irrefl, Int64.le_refl]
  · have h9 : ¬ x = y := fun q => lg_lt_ne h q.symm
    simp [h, lg_lt_not h, h9, lg_lt_not_le h, Int64.le_of_lt h] <;> decide
theorem hv_lcmp_ne {x y : Int64} {off : Int} {tgt : Nat} (d0 : decode N.2.1 pc = .ok (.lcmp, 1)) (d : decode N.2.1 (pc + 1) = .ok (.ifCond .ne off, 3)) (ht : ((pc + 1 : Nat) : Int) + off = (tgt : Int)) (kt : ¬ x = y → hk_V Gd N E tgt L S st) (kf : x = y → hk_V Gd N E (pc + 4) L S st) : hk_V Gd N E pc L (.long y :: .long x :: S) st :=
  hv_lcmp d0 (hv_if_ne d ht (fun h => kt (hw_ne.mp h)) (fun h => kf (Decidable.not_not.mp (fun q => hw_ne.mpr q h))))
theorem hw_lt {x y : Int64} : ((lg_cmp x y) < 0) ↔ (x < y) := by
  unfold lg_cmp
  rcases lg_tri x y with h | h | h
  · simp [h, lg_lt_not h, lg_lt_ne h, lg_lt_not_le h, Int64.le_of_lt h] <;> decide
  · subst h
    simp [Int64.lt_irrefl, Int64.le_refl]
  · have h9 : ¬ x = y := fun q => lg_lt_ne h q.symm
    simp [h, lg_lt_not h, h9, lg_lt_not_le h, Int64.le_of_lt h] <;> decide
theorem hv_lcmp_lt {x y : Int64} {off : Int} {tgt : Nat} (d0 : decode N.2.1 pc = .ok (.lcmp, 1)) (d : decode N.2.1 (pc + 1) = .ok (.ifCond .lt off, 3)) (ht : ((pc + 1 : Nat) : Int) + off = (tgt : Int)) (kt : x < y → hk_V Gd N E tgt L S st) (kf : ¬ (x < y) → hk_V Gd N E (pc + 4) L S st) : hk_V Gd N E pc L (.long y :: .long x :: S) st :=
  hv_lcmp d0 (hv_if_lt d ht (fun h => kt (hw_lt.mp h)) (fun h => kf (fun q => h (hw_lt.mpr q))))
theorem hw_ge {x y : Int64} : (0 ≤ (lg_cmp x y)) ↔ (y ≤ x) := by
  unfold lg_cmp
  rcases lg_tri x y with h | h | h
  · simp [h, lg_lt_not h, lg_lt_ne h, lg_lt_not_le h, Int64.le_of_lt h] <;> decide
  · subst h
    simp [Int64.lt_irrefl, Int64.le_refl]
  · have h9 : ¬ x = y := fun q => lg_lt_ne h q.symm
    simp [h, lg_lt_not h, h9, lg_lt_not_le h, Int64.le_of_lt h] <;> decide
theorem hv_lcmp_ge {x y : Int64} {off : Int} {tgt : Nat} (d0 : decode N.2.1 pc = .ok (.lcmp, 1)) (d : decode N.2.1 (pc + 1) = .ok (.ifCond .ge off, 3)) (ht : ((pc + 1 : Nat) : Int) + off = (tgt : Int)) (kt : y ≤ x → hk_V Gd N E tgt L S st) (kf : ¬ (y ≤ x) → hk_V Gd N E (pc + 4) L S st) : hk_V Gd N E pc L (.long y :: .long x :: S) st :=
  hv_lcmp d0 (hv_if_ge d ht (fun h => kt (hw_ge.mp h)) (fun h => kf (fun q => h (hw_ge.mpr q))))
theorem hw_gt {x y : Int64} : (0 < (lg_cmp x y)) ↔ (y < x) := by
  unfold lg_cmp
  rcases lg_tri x y with h | h | h
  · simp [h, lg_lt_not h, lg_lt_ne h, lg_lt_not_le h, Int64.le_of_lt h] <;> decide
  · subst h
    simp [Int64.lt_irrefl, Int64.le_refl]
  · have h9 : ¬ x = y := fun q => lg_lt_ne h q.symm
    simp [h, lg_lt_not h, h9, lg_lt_not_le h, Int64.le_of_lt h] <;> decide
theorem hv_lcmp_gt {x y : Int64} {off : Int} {tgt : Nat} (d0 : decode N.2.1 pc = .ok (.lcmp, 1)) (d : decode N.2.1 (pc + 1) = .ok (.ifCond .gt off, 3)) (ht : ((pc + 1 : Nat) : Int) + off = (tgt : Int)) (kt : y < x → hk_V Gd N E tgt L S st) (kf : ¬ (y < x) → hk_V Gd N E (pc + 4) L S st) : hk_V Gd N E pc L (.long y :: .long x :: S) st :=
  hv_lcmp d0 (hv_if_gt d ht (fun h => kt (hw_gt.mp h)) (fun h => kf (fun q => h (hw_gt.mpr q))))
theorem hw_le {x y : Int64} : ((lg_cmp x y) ≤ 0) ↔ (x ≤ y) := by
  unfold lg_cmp
  rcases lg_tri x y with h | h | h
  · simp [h, lg_lt_not h, lg_lt_ne h, lg_lt_not_le h, Int64.le_of_lt h] <;> decide
  · subst h
    simp [Int64.lt_irrefl, Int64.le_refl]
  · have h9 : ¬ x = y := fun q => lg_lt_ne h q.symm
    simp [h, lg_lt_not h, h9, lg_lt_not_le h, Int64.le_of_lt h] <;> decide
theorem hv_lcmp_le {x y : Int64} {off : Int} {tgt : Nat} (d0 : decode N.2.1 pc = .ok (.lcmp, 1)) (d : decode N.2.1 (pc + 1) = .ok (.ifCond .le off, 3)) (ht : ((pc + 1 : Nat) : Int) + off = (tgt : Int)) (kt : x ≤ y → hk_V Gd N E tgt L S st) (kf : ¬ (x ≤ y) → hk_V Gd N E (pc + 4) L S st) : hk_V Gd N E pc L (.long y :: .long x :: S) st :=
  hv_lcmp d0 (hv_if_le d ht (fun h => kt (hw_le.mp h)) (fun h => kf (fun q => h (hw_le.mpr q))))
theorem hv_goto {off : Int} {tgt : Nat} (d : decode N.2.1 pc = .ok (.goto off, 3)) (ht : (pc : Int) + off = (tgt : Int)) (k : hk_V Gd N E tgt L S st) : hk_V Gd N E pc L S st :=
  ⟨k.1, k.2.1, fun p l e R s m args below meth c X H locs cells slots ls hl hR hS h1 h2 => lv_goto X.1 X.2.1 d ht (k.2.2 p l e R s m args below meth c X H locs cells slots ls hl hR hS h1 h2)⟩
theorem hv_ifnull {x : Option Nat} {off : Int} {tgt : Nat} (d : decode N.2.1 pc = .ok (.ifnull off, 3)) (ht : (pc : Int) + off = (tgt : Int)) (kt : x = none → hk_V Gd N E tgt L S st) (kf : ∀ a, x = some a → hk_V Gd N E (pc + 3) L S st) : hk_V Gd N E pc L (va_rf x :: S) st := by
  cases x with
  | none =>
    have k := kt rfl
    exact ⟨k.1, k.2.1, fun p l e R s m args below meth c X H locs cells slots ls hl hR hS h1 h2 => lv_ifnullN X.1 X.2.1 d ht (k.2.2 p l e R s m args below meth c X H locs cells slots ls hl hR hS h1 h2)⟩
  | some a =>
    have k := kf a rfl
    exact ⟨k.1, k.2.1, fun p l e R s m args below meth c X H locs cells slots ls hl hR hS h1 h2 => lv_ifnull X.1 X.2.1 d (k.2.2 p l e R s m args below meth c X H locs cells slots ls hl hR hS h1 h2)⟩
theorem hv_ifnonnull {x : Option Nat} {off : Int} {tgt : Nat} (d : decode N.2.1 pc = .ok (.ifnonnull off, 3)) (ht : (pc : Int) + off = (tgt : Int)) (kt : ∀ a, x = some a → hk_V Gd N E tgt L S st) (kf : x = none → hk_V Gd N E (pc + 3) L S st) : hk_V Gd N E pc L (va_rf x :: S) st := by
  cases x with
  | none =>
    have k := kf rfl
    exact ⟨k.1, k.2.1, fun p l e R s m args below meth c X H locs cells slots ls hl hR hS h1 h2 => lv_ifnonnullN X.1 X.2.1 d (k.2.2 p l e R s m args below meth c X H locs cells slots ls hl hR hS h1 h2)⟩
  | some a =>
    have k := kt a rfl
    exact ⟨k.1, k.2.1, fun p l e R s m args below meth c X H locs cells slots ls hl hR hS h1 h2 => lv_ifnonnull X.1 X.2.1 d ht (k.2.2 p l e R s m args below meth c X H locs cells slots ls hl hR hS h1 h2)⟩
theorem hv_tableOut {dflt lo hi : Int} {offs : Array Int} {len : Nat} {x : Int32} {tgt : Nat} (d : decode N.2.1 pc = .ok (.tableswitch dflt lo hi offs, len)) (h : x.toInt < lo ∨ hi < x.toInt) (ht : (pc : Int) + dflt = (tgt : Int)) (k : hk_V Gd N E tgt L S st) : hk_V Gd N E pc L (.int x :: S) st :=
  ⟨k.1, k.2.1, fun p l e R s m args below meth c X H locs cells slots ls hl hR hS h1 h2 => lv_tableOut X.1 X.2.1 d h ht (k.2.2 p l e R s m args below meth c X H locs cells slots ls hl hR hS h1 h2)⟩
theorem hv_tableIn {dflt lo hi : Int} {offs : Array Int} {len : Nat} {x : Int32} {off : Int} {tgt : Nat} (d : decode N.2.1 pc = .ok (.tableswitch dflt lo hi offs, len)) (h1 : ¬ x.toInt < lo) (h2 : ¬ hi < x.toInt) (ho : offs[(x.toInt - lo).toNat]? = some off) (ht : (pc : Int) + off = (tgt : Int)) (k : hk_V Gd N E tgt L S st) : hk_V Gd N E pc L (.int x :: S) st :=
  ⟨k.1, k.2.1, fun p l e R s m args below meth c X H locs cells slots ls hl hR hS g1 g2 => lv_tableIn X.1 X.2.1 d h1 h2 ho ht (k.2.2 p l e R s m args below meth c X H locs cells slots ls hl hR hS g1 g2)⟩
theorem hv_tableD {dflt lo hi : Int} {offs : Array Int} {len : Nat} {x : Int32} {tgt : Nat} (ks : List Int) (d : decode N.2.1 pc = .ok (.tableswitch dflt lo hi offs, len)) (hh : (List.range offs.size).all (fun i => decide (offs[i]? = some dflt) || ks.contains (lo + (i : Int))) = true) (hn : lo + (offs.size : Int) = hi + 1) (hk : ∀ k ∈ ks, ¬ x.toInt = k) (ht : (pc : Int) + dflt = (tgt : Int)) (k : hk_V Gd N E tgt L S st) : hk_V Gd N E pc L (.int x :: S) st := by
  by_cases h1 : x.toInt < lo
  · exact hv_tableOut d (Or.inl h1) ht k
  · by_cases h2 : hi < x.toInt
    · exact hv_tableOut d (Or.inr h2) ht k
    · have h3 := List.all_eq_true.mp hh (x.toInt - lo).toNat (List.mem_range.mpr (by omega))
      simp only [Bool.or_eq_true, decide_eq_true_eq, List.contains_eq_mem] at h3
      have e : lo + (((x.toInt - lo).toNat : Nat) : Int) = x.toInt := by omega
      rw [e] at h3
      rcases h3 with h3 | h3
      · exact hv_tableIn d h1 h2 h3 ht k
      · exact absurd rfl (hk _ h3)
theorem hv_sub {L' : List (Nat × Value)} (ks : List Nat) (h : lv_pick L ks = L') (k : hk_V Gd N E pc L' S st) : hk_V Gd N E pc L S st :=
  ⟨k.1, k.2.1, fun p l e R s m args below meth c X H locs cells slots ls hl hR hS h1 h2 => k.2.2 p l e R s m args below meth c X H locs cells slots ls (lv_sub hl ks h) hR hS h1 h2⟩
theorem hv_F {s : State} {H : Heap} {locs : List Loc} {fin : hk_St} {r : Option Value} {args : Array Value} (hR : hk_R Gd fin H) (hS : va_S (hk_A Gd) s.heap H locs) (t : State) (ht : t.heap = H) : hk_Q Gd r fin args s (.returned r) t := ⟨⟨rfl, by rw [ht]; exact hR⟩, hS.F ht⟩
theorem hv_iret {v : Int32} {st0 : hk_St} (hr : N.2.2.2.2.1 = some .int) (d : decode N.2.1 pc = .ok (.ireturn, 1)) : hk_V Gd N (hk_end Gd st0 (some (.int v)) st) pc L [.int v] st :=
  ⟨Nat.le_refl _, Nat.le_refl _, fun p l e R s m args below meth c X H locs cells slots ls hl hR hS h1 h2 => W.widen (k := hk_nc st - hk_nc st0) (n := hk_ns st - hk_ns st0) (Nat.le_sub_of_add_le h1) (Nat.le_sub_of_add_le h2) (W.iret X.1 X.2.1 (X.2.2.2.2.2.1.trans hr) (fun t ht _ => hv_F hR hS t ht) hS.2.2 d X.2.2.2.2.1)⟩
theorem hv_zret {v : Int32} {ty : FieldType} {st0 : hk_St} (hr : N.2.2.2.2.1 = some ty) (hn : narrow ty (.int v) = .int v) (d : decode N.2.1 pc = .ok (.ireturn, 1)) : hk_V Gd N (hk_end Gd st0 (some (.int v)) st) pc L [.int v] st :=
  ⟨Nat.le_refl _, Nat.le_refl _, fun p l e R s m args below meth c X H locs cells slots ls hl hR hS h1 h2 => W.widen (k := hk_nc st - hk_nc st0) (n := hk_ns st - hk_ns st0) (Nat.le_sub_of_add_le h1) (Nat.le_sub_of_add_le h2) (W.zret X.1 X.2.1 (X.2.2.2.2.2.1.trans hr) hn (fun t ht _ => hv_F hR hS t ht) hS.2.2 d X.2.2.2.2.1)⟩
theorem hv_lret {v : Int64} {st0 : hk_St} (hr : N.2.2.2.2.1 = some .long) (d : decode N.2.1 pc = .ok (.lreturn, 1)) : hk_V Gd N (hk_end Gd st0 (some (.long v)) st) pc L [.long v] st :=
  ⟨Nat.le_refl _, Nat.le_refl _, fun p l e R s m args below meth c X H locs cells slots ls hl hR hS h1 h2 => W.widen (k := hk_nc st - hk_nc st0) (n := hk_ns st - hk_ns st0) (Nat.le_sub_of_add_le h1) (Nat.le_sub_of_add_le h2) (W.lret X.1 X.2.1 (X.2.2.2.2.2.1.trans hr) (fun t ht _ => hv_F hR hS t ht) hS.2.2 d X.2.2.2.2.1)⟩
theorem hv_vret {st0 : hk_St} (hr : N.2.2.2.2.1 = none) (d : decode N.2.1 pc = .ok (.return_, 1)) : hk_V Gd N (hk_end Gd st0 (none) st) pc L [] st :=
  ⟨Nat.le_refl _, Nat.le_refl _, fun p l e R s m args below meth c X H locs cells slots ls hl hR hS h1 h2 => W.widen (k := hk_nc st - hk_nc st0) (n := hk_ns st - hk_ns st0) (Nat.le_sub_of_add_le h1) (Nat.le_sub_of_add_le h2) (W.vret X.1 X.2.1 (X.2.2.2.2.2.1.trans hr) (fun t ht _ => hv_F hR hS t ht) hS.2.2 d X.2.2.2.2.1)⟩
theorem hv_aret {v : Option Nat} {C : String} {st0 : hk_St} (hr : N.2.2.2.2.1 = some (.object C)) (d : decode N.2.1 pc = .ok (.areturn, 1)) : hk_V Gd N (hk_end Gd st0 (some (va_rf v)) st) pc L [va_rf v] st :=
  ⟨Nat.le_refl _, Nat.le_refl _, fun p l e R s m args below meth c X H locs cells slots ls hl hR hS h1 h2 => W.widen (k := hk_nc st - hk_nc st0) (n := hk_ns st - hk_ns st0) (Nat.le_sub_of_add_le h1) (Nat.le_sub_of_add_le h2) (W.aret X.1 X.2.1 (X.2.2.2.2.2.1.trans hr) (Or.inl ⟨_, rfl⟩) (by cases v with | none => exact Or.inl rfl | some a => exact Or.inr ⟨a, rfl⟩) (fun t ht _ => hv_F hR hS t ht) hS.2.2 d X.2.2.2.2.1)⟩
end HKR

/-! ===== HK: fields ===== -/
theorem hk_apart2 {args : Array Value} {s : State} {C O f d O' f' d' : String} (h : (Cond.laysFinal C O f d).before args s = true) (h' : (Cond.laysFinal C O' f' d').before args s = true)
    {cf fi cf' fi' : Nat} {kf kf' : Class} {fd fd' : Field} (hi : s.fieldFound? O f d = some (cf, kf, fi, fd)) (hi' : s.fieldFound? O' f' d' = some (cf', kf', fi', fd')) (hne : O ≠ O') : fd.slot ≠ fd'.slot := by
  obtain ⟨c, k, c1, k1, i1, g1, hc, -, hg, -, -, -, ho, -, dd, hd, hn, -, -⟩ := Cond.laysFinal_spec h
  obtain ⟨c', k', c2, k2, i2, g2, hc', -, hg', -, -, -, ho', -, dd', hd', hn', -, -⟩ := Cond.laysFinal_spec h'
  cases hi.symm.trans hg
  cases hi'.symm.trans hg'
  cases hc.symm.trans hc'
  intro e
  rw [e] at hd
  cases hd.symm.trans hd'
  obtain ⟨q1, r1, n1⟩ := Vm.findClass_spec ho
  obtain ⟨q2, r2, n2⟩ := Vm.findClass_spec ho'
  have e1 := (State.fieldFound?_spec hi).1
  have e2 := (State.fieldFound?_spec hi').1
  cases e1.symm.trans r1
  cases e2.symm.trans r2
  exact hne (n1.symm.trans ((hn.symm.trans hn').trans n2))
/-- the tables of a class: its words, its fields' types, its fields apart -/
def hk_ok (t : Nat) (r : vw_C) : Prop :=
  (∀ w ∈ u_ws r.1 r.2.1 r.2.2, w ∈ lw_all) ∧ (∃ ty : Nat → FieldType, (∀ k, k < r.2.2 → parseFieldDescriptor (r.2.1 k).2.2.1 = some (ty k)) ∧
    (∀ k, k < r.2.2 → ((hk_fT t k).2 = 0 ∧ ty k = .int) ∨ ((hk_fT t k).2 = 1 ∧ ty k = .long) ∨ ((hk_fT t k).2 = 3 ∧ ty k = .boolean) ∨ ((hk_fT t k).2 = 2 ∧ ((∃ C, ty k = .object C) ∨ ∃ q, ty k = .array q)))) ∧
  (∀ x, x < r.2.2 → ∀ y, y < r.2.2 → x ≠ y → (r.2.1 x).2.1 ≠ (r.2.1 y).2.1 ∨ ((r.2.1 x).2.2.2 = true ∧ (r.2.1 y).2.2.2 = true ∧ (r.2.1 x).1 ≠ (r.2.1 y).1)) ∧
  (∀ x, x < r.2.2 → ∀ y, y < r.2.2 → (hk_fT t x).1 = (hk_fT t y).1 → x = y)
theorem hk_slots {args : Array Value} {s : State} {D : va_G} {tys : List (ClassId × FieldType)} {t : Nat} {r : vw_C} (hok : hk_ok t r) (hts : ∀ w ∈ lw_all, w.before args s = true) (hK : va_K D hk_cl tys s) (hc : hk_cl[t]? = some r) :
    ∀ x y, x < r.2.2 → y < r.2.2 → x ≠ y → (D.2 t) x ≠ (D.2 t) y := by
  intro x y hx hy hne
  obtain ⟨hin, ⟨ty, hty, -⟩, hnm, -⟩ := hok
  obtain ⟨hS, -⟩ := hK.1 t _ hc
  obtain ⟨_, _, _, fa, hia, ea⟩ := hS x hx
  obtain ⟨_, _, _, fb, hib, eb⟩ := hS y hy
  rw [← ea, ← eb]
  rcases hnm x hx y hy hne with h | ⟨h1, h2, h3⟩
  · refine u_apart (u_lays hts hin hx) (u_lays hts hin hy) hia hib ?_
    rw [(State.fieldFound?_type hia (hty x hx)).1, (State.fieldFound?_type hib (hty y hy)).1]
    exact h
  · have l1 := hts _ (hin _ (u_in_lay hx))
    have l2 := hts _ (hin _ (u_in_lay hy))
    unfold u_lay at l1 l2
    rw [if_pos h1] at l1
    rw [if_pos h2] at l2
    exact hk_apart2 l1 l2 hia hib h3
/-- a field's place at a site of the code: class own, constant index; the field f of type code ty, of the classes cs -/
def hk_FL (own : String) (index f ty : Nat) (cs : List Nat) : Prop := ∀ ci ∈ cs, ci < 100 ∧ ∃ (r : vw_C) (k : Nat), hk_cl[ci]? = some r ∧ hk_ok ci r ∧ k < r.2.2 ∧ hk_fT ci k = (f, ty) ∧
  (Cond.fieldLink own index (r.2.1 k).1 (r.2.1 k).2.1 (r.2.1 k).2.2.1 ∈ lw_all ∨ ∃ host, Cond.fieldLinkNest own index (r.2.1 k).1 (r.2.1 k).2.1 (r.2.1 k).2.2.1 host ∈ lw_tbl)
/-- the same, of a field that is stored to: not final, or final and its own constructor's -/
def hk_FP (own : String) (index f ty : Nat) (cs : List Nat) (ini : Bool) : Prop := ∀ ci ∈ cs, ci < 100 ∧ ∃ (r : vw_C) (k : Nat), hk_cl[ci]? = some r ∧ hk_ok ci r ∧ k < r.2.2 ∧ hk_fT ci k = (f, ty) ∧
  ((Cond.fieldLink own index (r.2.1 k).1 (r.2.1 k).2.1 (r.2.1 k).2.2.1 ∈ lw_all ∧ ((r.2.1 k).2.2.2 = false ∨ ((r.2.1 k).2.2.2 = true ∧ (r.2.1 k).1 = own ∧ ini = true))) ∨
    ∃ host, Cond.fieldLinkNest own index (r.2.1 k).1 (r.2.1 k).2.1 (r.2.1 k).2.2.1 host ∈ lw_tbl ∧ (r.2.1 k).2.2.2 = false)
section HKF
variable {Gd : hk_G} {N : hk_N} {E : hk_E} {pc : Nat} {L : List (Nat × Value)} {S : List Value} {st : hk_St}
theorem hv_getV {cs : List Nat} {index f ty a : Nat} {v : Value} (fl : hk_FL N.2.2.1 index f ty cs) (hb : hk_bf cs st a = true) (hv : ∀ t k, hk_fT t k = (f, ty) → hk_fv st t a k = v) (d : decode N.2.1 pc = .ok (.getfield index, 3)) (k : hk_V Gd N E (pc + 3) L (v :: S) st) : hk_V Gd N E pc L (.ref a :: S) st := by
  obtain ⟨t, n, hk, ht⟩ := hk_bf_of hb
  obtain ⟨h100, r, kk, hcl, hok, hkk, hfT, hlink⟩ := fl t ht
  refine ⟨k.1, k.2.1, fun p l e R s m args below meth c X H locs cells slots ls hl hR hS h1 h2 => ?_⟩
  have kW := k.2.2 p l e R s m args below meth c X H locs cells slots ls hl hR hS h1 h2
  obtain ⟨hx, hbc, hown, hts, -, -, -, hWW, -⟩ := X
  obtain ⟨-, -, hat⟩ := hR.2.2.2 a t n hk
  obtain ⟨r', hr', cell, q1, q2, q3, q4⟩ := hat.1 h100
  cases hcl.symm.trans hr'
  obtain ⟨hSl, hfc, kC, hkC, hkind⟩ := hWW.1.1 t _ hcl
  obtain ⟨cf, kf, fi, fd, hi, hsl⟩ := hSl kk hkk
  have hvk : cell.slots[fd.slot]? = some v := by rw [hsl, q4 kk hkk, hv t kk hfT]
  rcases hlink with hq | ⟨host, hq⟩
  · exact W.getf hx hbc hown (hts _ hq) hi (u_facts hfc hkC (u_lays hts hok.1 hkk) hi).1 q1 (by rw [q3]; exact fun h => by cases h) hvk rfl rfl d kW
  · exact va_Wgetf hx hbc hown (va_Nw.use rfl (hWW.2.1 _ hq rfl)) hi (u_facts hfc hkC (u_lays hts hok.1 hkk) hi).1 q1 (by rw [q3]; exact fun h => by cases h) hvk rfl rfl d kW
theorem hv_getI {cs : List Nat} {index f a : Nat} {x : Int32} (fl : hk_FL N.2.2.1 index f 0 cs) (h : hk_gI cs f st a = some x) (d : decode N.2.1 pc = .ok (.getfield index, 3)) (k : hk_V Gd N E (pc + 3) L (.int x :: S) st) : hk_V Gd N E pc L (.ref a :: S) st := by
  obtain ⟨hb, rfl⟩ := hq_i h
  exact hv_getV fl hb (fun t k e => by simp [hk_fv, e]) d k
theorem hv_getZ {cs : List Nat} {index f a : Nat} {x : Int32} (fl : hk_FL N.2.2.1 index f 3 cs) (h : hk_gI cs f st a = some x) (d : decode N.2.1 pc = .ok (.getfield index, 3)) (k : hk_V Gd N E (pc + 3) L (.int x :: S) st) : hk_V Gd N E pc L (.ref a :: S) st := by
  obtain ⟨hb, rfl⟩ := hq_i h
  exact hv_getV fl hb (fun t k e => by simp [hk_fv, e]) d k
theorem hv_getL {cs : List Nat} {index f a : Nat} {x : Int64} (fl : hk_FL N.2.2.1 index f 1 cs) (h : hk_gL cs f st a = some x) (d : decode N.2.1 pc = .ok (.getfield index, 3)) (k : hk_V Gd N E (pc + 3) L (.long x :: S) st) : hk_V Gd N E pc L (.ref a :: S) st := by
  obtain ⟨hb, rfl⟩ := hq_i h
  exact hv_getV fl hb (fun t k e => by simp [hk_fv, e]) d k
theorem hv_getR {cs : List Nat} {index f a : Nat} {x : Option Nat} (fl : hk_FL N.2.2.1 index f 2 cs) (h : hk_gR cs f st a = some x) (d : decode N.2.1 pc = .ok (.getfield index, 3)) (k : hk_V Gd N E (pc + 3) L (va_rf x :: S) st) : hk_V Gd N E pc L (.ref a :: S) st := by
  obtain ⟨hb, rfl⟩ := hq_i h
  exact hv_getV fl hb (fun t k e => by simp [hk_fv, e]) d k
/-- what a store to a field may change of the idealised state -/
def hk_upf (st st' : hk_St) (f a : Nat) (v : Value) : Prop :=
  hk_k st' = hk_k st ∧ hk_nx st' = hk_nx st ∧ hk_nc st' = hk_nc st ∧ hk_ns st' = hk_ns st ∧ (∀ t b, hk_ac st' t b = hk_ac st t b) ∧
  ∀ t b k, (b ≠ a ∨ (hk_fT t k).1 ≠ f → hk_fv st' t b k = hk_fv st t b k)
theorem hk_R_put {st st' : hk_St} {f a t n k : Nat} {v : Value} {H H' : Heap} {r : vw_C} {cell : Cell} (hu : hk_upf st st' f a v) (hR : hk_R Gd st H) (hk : hk_k st a = some (t, n)) (h100 : t < 100) (hcl : hk_cl[t]? = some r) (hok : hk_ok t r) (hkk : k < r.2.2) (hfT : (hk_fT t k).1 = f) (hfv : hk_fv st' t a k = v)
    (hap : ∀ x y, x < r.2.2 → y < r.2.2 → x ≠ y → (Gd.1.2 t) x ≠ (Gd.1.2 t) y)
    (q2 : cell.cls = Gd.1.1 t) (q3 : cell.vm = .none) (q4 : ∀ j, j < r.2.2 → cell.slots[Gd.1.2 t j]? = some (hk_fv st t a j))
    (e1 : H'[a]? = some (cell.setSlot (Gd.1.2 t k) v)) (e2 : H'.size = H.size) (e3 : ∀ q, q ≠ a → H'[q]? = H[q]?) : hk_R Gd st' H' := by
  obtain ⟨u1, u2, u3, u4, u5, u6⟩ := hu
  obtain ⟨r1, r2, r3, r4⟩ := hR
  have ha := r4 a t n hk
  refine ⟨by rw [e2, u2]; exact r1, by rw [u2]; exact r2, fun q hq => by rw [e3 q (by omega)]; exact r3 q hq, fun b t' n' hb => ?_⟩
  rw [u1] at hb
  obtain ⟨g1, g2, g3⟩ := r4 b t' n' hb
  refine ⟨g1, by rw [u2]; exact g2, fun h => ?_, fun h => ?_⟩
  · obtain ⟨r', hr', hob⟩ := g3.1 h
    refine ⟨r', hr', ?_⟩
    by_cases hba : b = a
    · subst hba
      cases hb.symm.trans hk
      cases hr'.symm.trans hcl
      refine t_OB.to (V := updV (hk_fv st t b) k v) ⟨_, e1, q2, q3, t_set q4 hap hkk v⟩ (fun j hj => ?_)
      unfold updV
      split
      · rename_i h; subst h; exact hfv.symm
      · rename_i h
        exact (u6 t b j (Or.inr (fun q => h (hok.2.2.2 j hj k hkk (q.trans hfT.symm))))).symm
    · exact (hob.kept (e3 b hba)).to (fun j _ => (u6 t' b j (Or.inl hba)).symm)
  · have hba : b ≠ a := by
      rintro rfl
      cases hb.symm.trans hk
      omega
    obtain ⟨g4, g5⟩ := g3.2 h
    exact ⟨g4, by rw [e3 b hba, u5]; exact g5⟩
theorem hv_putV {cs : List Nat} {index f ty a : Nat} {v : Value} {st' : hk_St} {ini : Bool} (fl : hk_FP N.2.2.1 index f ty cs ini) (hini : ini = true → N.2.2.2.2.2.2.2 = true) (hb : hk_bf cs st a = true) (hu : hk_upf st st' f a v) (hv : ∀ t k, hk_fT t k = (f, ty) → hk_fv st' t a k = v)
    (hfit : ∀ T : FieldType, ((ty = 0 ∧ T = .int) ∨ (ty = 1 ∧ T = .long) ∨ (ty = 3 ∧ T = .boolean) ∨ (ty = 2 ∧ ((∃ C, T = .object C) ∨ ∃ q, T = .array q))) → narrow T v = v ∧ fits T v = true)
    (d : decode N.2.1 pc = .ok (.putfield index, 3)) (k : hk_V Gd N E (pc + 3) L S st') : hk_V Gd N E pc L (v :: .ref a :: S) st := by
  obtain ⟨t, n, hk, ht⟩ := hk_bf_of hb
  obtain ⟨h100, r, kk, hcl, hok, hkk, hfT, hlink⟩ := fl t ht
  refine ⟨by rw [← hu.2.2.1]; exact k.1, by rw [← hu.2.2.2.1]; exact k.2.1, fun p l e R s m args below meth c X H locs cells slots ls hl hR hS h1 h2 => ?_⟩
  have kW := fun H' locs' hR' hS' => k.2.2 p l e R s m args below meth c X H' locs' cells slots ls hl hR' hS' (by rw [hu.2.2.1]; exact h1) (by rw [hu.2.2.2.1]; exact h2)
  obtain ⟨hx, hbc, hown, hts, -, -, -, hWW, -, -, -, -, -, -, hmn, -⟩ := X
  obtain ⟨hz0, hz1, hat⟩ := hR.2.2.2 a t n hk
  obtain ⟨r', hr', cell, q1, q2, q3, q4⟩ := hat.1 h100
  cases hcl.symm.trans hr'
  have hap := hk_slots hok hts hWW.1 hcl
  obtain ⟨hSl, hfc, kC, hkC, hkind⟩ := hWW.1.1 t _ hcl
  obtain ⟨cf, kf, fi, fd, hi, hsl⟩ := hSl kk hkk
  have hst := (u_facts hfc hkC (u_lays hts hok.1 hkk) hi).1
  obtain ⟨tyf, hty, hcode⟩ := hok.2.1
  have hc2 := hcode kk hkk
  rw [hfT] at hc2
  obtain ⟨hn, hf⟩ := hfit (tyf kk) hc2
  have hlay := hts _ (hok.1 _ (u_in_lay hkk))
  unfold u_lay at hlay
  have fin : ∀ H' : Heap, H'[a]? = some (cell.setSlot fd.slot v) → H'.size = H.size → (∀ q, q ≠ a → H'[q]? = H[q]?) → W p l e R s m args below meth c H' (locs ++ [⟨a, fd.slot⟩]) cells slots (E.2.2.2.2 (p, l, e, R, s, m, args, below, meth, c)) (F0 m (pc + 3) ls S) := by
    intro H' e1 e2 e3
    rw [hsl] at e1
    exact kW H' _ (hk_R_put hu hR hk h100 hcl hok hkk (by rw [hfT]) (hv t kk hfT) hap q2 q3 q4 e1 e2 e3) (hS.put e2 e3 hz0)
  have hlt : fd.slot < cell.slots.size := by rw [hsl]; exact k2_hasslot (q4 kk hkk)
  rcases hlink with ⟨hq, hf0 | ⟨hf1, hown1, hin1⟩⟩ | ⟨host, hq, hf0⟩
  · rw [if_neg (by rw [hf0]; decide)] at hlay
    have h6 := u_store hfc hkC hkind hlay hi (hty kk hkk) hn hf
    exact W.putK hx hbc (f := fd) ⟨hown, hts _ hq, ⟨_, _, _, hi⟩, hst⟩ (by rw [q2]; exact h6) q1 q3 hlt rfl rfl d fin
  · rw [if_pos hf1] at hlay
    have hcf : m.cls = cf := by
      obtain ⟨_, _, c', _, _, _, -, -, hf', -, -, -, hown2, -⟩ := Cond.laysFinal_spec hlay
      have e1 : c' = cf := by have := hi.symm.trans hf'; simp at this; exact this.1.symm
      rw [hown1] at hown2
      rw [← e1]; exact Option.some.inj (hown.symm.trans hown2)
    have h6 := u_fits hfc hkC hkind (Or.inr hlay) hi (hty kk hkk) hn hf
    exact W.putFinK hx hbc hown (hts _ hq) hi hst hcf (hmn (hini hin1)) (by rw [q2]; exact h6) q1 q3 hlt rfl rfl d fin
  · rw [if_neg (by rw [hf0]; decide)] at hlay
    have h6 := u_store hfc hkC hkind hlay hi (hty kk hkk) hn hf
    exact va_WputK hx hbc hown (va_Nw.use rfl (hWW.2.1 _ hq rfl)) hi hst (by rw [q2]; exact h6) q1 q3 hlt rfl rfl d fin
theorem hk_upf_I {f a : Nat} {v : Int32} : hk_upf st (hk_sfI st f a v) f a (.int v) := by
  refine ⟨rfl, rfl, rfl, rfl, fun _ _ => rfl, fun t b k h => ?_⟩
  have : hk_fI (hk_sfI st f a v) (hk_fT t k).1 b = hk_fI st (hk_fT t k).1 b := by
    show hk_u2 st.2.1 f a v _ _ = st.2.1 _ _
    unfold hk_u2
    rw [if_neg]
    rintro ⟨e1, e2⟩
    rcases h with h | h
    · exact h e2
    · exact h e1
  unfold hk_fv
  rw [this]
  rfl
theorem hk_upf_L {f a : Nat} {v : Int64} : hk_upf st (hk_sfL st f a v) f a (.long v) := by
  refine ⟨rfl, rfl, rfl, rfl, fun _ _ => rfl, fun t b k h => ?_⟩
  have : hk_fL (hk_sfL st f a v) (hk_fT t k).1 b = hk_fL st (hk_fT t k).1 b := by
    show hk_u2 st.2.2.1 f a v _ _ = st.2.2.1 _ _
    unfold hk_u2
    rw [if_neg]
    rintro ⟨e1, e2⟩
    rcases h with h | h
    · exact h e2
    · exact h e1
  unfold hk_fv
  rw [this]
  rfl
theorem hk_upf_R {f a : Nat} {v : Option Nat} : hk_upf st (hk_sfR st f a v) f a (va_rf v) := by
  refine ⟨rfl, rfl, rfl, rfl, fun _ _ => rfl, fun t b k h => ?_⟩
  have : hk_fR (hk_sfR st f a v) (hk_fT t k).1 b = hk_fR st (hk_fT t k).1 b := by
    show hk_u2 st.2.2.2.1 f a v _ _ = st.2.2.2.1 _ _
    unfold hk_u2
    rw [if_neg]
    rintro ⟨e1, e2⟩
    rcases h with h | h
    · exact h e2
    · exact h e1
  unfold hk_fv
  rw [this]
  rfl
theorem hv_putI {cs : List Nat} {index f a : Nat} {x : Int32} {st' : hk_St} {ini : Bool} (fl : hk_FP N.2.2.1 index f 0 cs ini) (h : hk_pI cs f st a x = some st') (hini : ini = true → N.2.2.2.2.2.2.2 = true) (d : decode N.2.1 pc = .ok (.putfield index, 3)) (k : hk_V Gd N E (pc + 3) L S st') : hk_V Gd N E pc L (.int x :: .ref a :: S) st := by
  obtain ⟨hb, rfl⟩ := hq_i h
  refine hv_putV fl hini hb hk_upf_I (fun t k e => by simp [hk_fv, e, hk_fI, hk_sfI, hk_u2]) (fun T hT => ?_) d k
  rcases hT with ⟨-, rfl⟩ | ⟨h, -⟩ | ⟨h, -⟩ | ⟨h, -⟩
  · exact ⟨rfl, rfl⟩
  · cases h
  · cases h
  · cases h
theorem hv_putZ {cs : List Nat} {index f a : Nat} {x : Int32} {st' : hk_St} {ini : Bool} (fl : hk_FP N.2.2.1 index f 3 cs ini) (h : hk_pI cs f st a x = some st') (hini : ini = true → N.2.2.2.2.2.2.2 = true) (hx : narrow .boolean (.int x) = .int x ∧ fits .boolean (.int x) = true) (d : decode N.2.1 pc = .ok (.putfield index, 3)) (k : hk_V Gd N E (pc + 3) L S st') : hk_V Gd N E pc L (.int x :: .ref a :: S) st := by
  obtain ⟨hb, rfl⟩ := hq_i h
  refine hv_putV fl hini hb hk_upf_I (fun t k e => by simp [hk_fv, e, hk_fI, hk_sfI, hk_u2]) (fun T hT => ?_) d k
  rcases hT with ⟨h, -⟩ | ⟨h, -⟩ | ⟨-, rfl⟩ | ⟨h, -⟩
  · cases h
  · cases h
  · exact hx
  · cases h
theorem hv_putL {cs : List Nat} {index f a : Nat} {x : Int64} {st' : hk_St} {ini : Bool} (fl : hk_FP N.2.2.1 index f 1 cs ini) (h : hk_pL cs f st a x = some st') (hini : ini = true → N.2.2.2.2.2.2.2 = true) (d : decode N.2.1 pc = .ok (.putfield index, 3)) (k : hk_V Gd N E (pc + 3) L S st') : hk_V Gd N E pc L (.long x :: .ref a :: S) st := by
  obtain ⟨hb, rfl⟩ := hq_i h
  refine hv_putV fl hini hb hk_upf_L (fun t k e => by simp [hk_fv, e, hk_fL, hk_sfL, hk_u2]) (fun T hT => ?_) d k
  rcases hT with ⟨h, -⟩ | ⟨-, rfl⟩ | ⟨h, -⟩ | ⟨h, -⟩
  · cases h
  · exact ⟨rfl, rfl⟩
  · cases h
  · cases h
theorem hv_putR {cs : List Nat} {index f a : Nat} {x : Option Nat} {st' : hk_St} {ini : Bool} (fl : hk_FP N.2.2.1 index f 2 cs ini) (h : hk_pR cs f st a x = some st') (hini : ini = true → N.2.2.2.2.2.2.2 = true) (d : decode N.2.1 pc = .ok (.putfield index, 3)) (k : hk_V Gd N E (pc + 3) L S st') : hk_V Gd N E pc L (va_rf x :: .ref a :: S) st := by
  obtain ⟨hb, rfl⟩ := hq_i h
  refine hv_putV fl hini hb hk_upf_R (fun t k e => by simp [hk_fv, e, hk_fR, hk_sfR, hk_u2]) (fun T hT => ?_) d k
  rcases hT with ⟨h, -⟩ | ⟨h, -⟩ | ⟨h, -⟩ | ⟨-, ⟨C, rfl⟩ | ⟨q, rfl⟩⟩
  · cases h
  · cases h
  · cases h
  · cases x <;> exact ⟨rfl, rfl⟩
  · cases x <;> exact ⟨rfl, rfl⟩
end HKF

/-! ===== HK: arrays ===== -/
/-- stores of references: of the kinds cs (or null) into an array of the sort ty -/
def hk_bv (cs : List Nat) (st : hk_St) (v : Option Nat) : Bool := match v with
  | none => true
  | some b => hk_bf cs st b
def hk_tR (ty : Nat) (cs : List Nat) (st : hk_St) (a : Nat) (i : Int32) (v : Option Nat) : Option hk_St :=
  if (hk_ba ty st a i && hk_bv cs st v) = true then some (hk_saR st a i.toNatClampNeg v) else none
/-- the classes cs may lie in arrays over C -/
def hk_AS (C : String) (cs : List Nat) : Prop := ∀ ci ∈ cs, ci < 100 ∧ ∃ r, hk_cl[ci]? = some r ∧ (r.1 = C ∨ Cond.castable r.1 C ∈ lw_tbl)
section HKA
variable {Gd : hk_G} {N : hk_N} {E : hk_E} {pc : Nat} {L : List (Nat × Value)} {S : List Value} {st : hk_St}
theorem hk_P1 {D : va_G} {q : Nat × va_E} {H : Heap} (h : va_at D hk_cl q H) : va_P D hk_cl [q] H := by
  intro k x hk
  have hl : k < 1 := (List.getElem?_eq_some_iff.mp hk).1
  have : k = 0 := by omega
  subst this
  cases hk
  exact h
theorem hk_arrI {a n ty : Nat} {H : Heap} (h : hk_at Gd st a (100 + ty) n H) (hty : ty < 4) : H[a]? = some (vp_cell (Gd.2.1 ty) (n, .inl (hk_aI st a))) := by
  have h2 := (h.2 (by omega)).2
  rw [show 100 + ty - 100 = ty by omega] at h2
  rw [h2]
  simp [hk_ac, hty]
theorem hk_arrL {a n : Nat} {H : Heap} (h : hk_at Gd st a 104 n H) : H[a]? = some (vp_cell (Gd.2.1 4) (n, .inr (.inl (hk_aL st a)))) := by
  have h2 := (h.2 (by omega)).2
  exact h2
theorem hk_arrR {a n ty : Nat} {H : Heap} (h : hk_at Gd st a (100 + ty) n H) (hty : 4 < ty) : H[a]? = some (vp_cell (Gd.2.1 ty) (n, .inr (.inr (.inr (.inr (hk_aR st a)))))) := by
  have h2 := (h.2 (by omega)).2
  rw [show 100 + ty - 100 = ty by omega] at h2
  rw [h2]
  have h3 : ¬ ty < 4 := by omega
  have h4 : ¬ ty = 4 := by omega
  simp [hk_ac, h3, h4]
theorem hv_iald {a : Nat} {i x : Int32} (h : hk_lI 0 st a i = some x) (d : decode N.2.1 pc = .ok (.iaload, 1)) (k : hk_V Gd N E (pc + 1) L (.int x :: S) st) : hk_V Gd N E pc L (.int i :: .ref a :: S) st := by
  obtain ⟨hb, rfl⟩ := hq_i h
  obtain ⟨n, hk, hin, hlt⟩ := hk_ba_of hb
  refine ⟨k.1, k.2.1, fun p l e R s m args below meth c X H locs cells slots ls hl hR hS h1 h2 => ?_⟩
  have kW := k.2.2 p l e R s m args below meth c X H locs cells slots ls hl hR hS h1 h2
  have hat := hk_arrI (ty := 0) (hR.2.2.2 a _ n hk).2.2 (by decide)
  exact va_iald X.1 X.2.1 X.2.2.2.2.2.2.2.1.1 (hk_P1 (q := (a, .inl (Gd.2.1 0, n, .inl (hk_aI st a)))) hat) 0 0 rfl (hk_tys_at Gd (by decide) rfl) hin d kW
theorem hv_bald {a : Nat} {i x : Int32} (h : hk_lI 1 st a i = some x) (d : decode N.2.1 pc = .ok (.baload, 1)) (k : hk_V Gd N E (pc + 1) L (.int x :: S) st) : hk_V Gd N E pc L (.int i :: .ref a :: S) st := by
  obtain ⟨hb, rfl⟩ := hq_i h
  obtain ⟨n, hk, hin, hlt⟩ := hk_ba_of hb
  refine ⟨k.1, k.2.1, fun p l e R s m args below meth c X H locs cells slots ls hl hR hS h1 h2 => ?_⟩
  have kW := k.2.2 p l e R s m args below meth c X H locs cells slots ls hl hR hS h1 h2
  have hat := hk_arrI (ty := 1) (hR.2.2.2 a _ n hk).2.2 (by decide)
  exact va_bald X.1 X.2.1 X.2.2.2.2.2.2.2.1.1 (hk_P1 (q := (a, .inl (Gd.2.1 1, n, .inl (hk_aI st a)))) hat) 0 1 rfl (hk_tys_at Gd (by decide) rfl) hin d kW
theorem hv_sald {a : Nat} {i x : Int32} (h : hk_lI 2 st a i = some x) (d : decode N.2.1 pc = .ok (.saload, 1)) (k : hk_V Gd N E (pc + 1) L (.int x :: S) st) : hk_V Gd N E pc L (.int i :: .ref a :: S) st := by
  obtain ⟨hb, rfl⟩ := hq_i h
  obtain ⟨n, hk, hin, hlt⟩ := hk_ba_of hb
  refine ⟨k.1, k.2.1, fun p l e R s m args below meth c X H locs cells slots ls hl hR hS h1 h2 => ?_⟩
  have kW := k.2.2 p l e R s m args below meth c X H locs cells slots ls hl hR hS h1 h2
  have hat := hk_arrI (ty := 2) (hR.2.2.2 a _ n hk).2.2 (by decide)
  exact va_sald X.1 X.2.1 X.2.2.2.2.2.2.2.1.1 (hk_P1 (q := (a, .inl (Gd.2.1 2, n, .inl (hk_aI st a)))) hat) 0 2 rfl (hk_tys_at Gd (by decide) rfl) hin d kW
theorem hv_zald {a : Nat} {i x : Int32} (h : hk_lI 3 st a i = some x) (d : decode N.2.1 pc = .ok (.baload, 1)) (k : hk_V Gd N E (pc + 1) L (.int x :: S) st) : hk_V Gd N E pc L (.int i :: .ref a :: S) st := by
  obtain ⟨hb, rfl⟩ := hq_i h
  obtain ⟨n, hk, hin, hlt⟩ := hk_ba_of hb
  refine ⟨k.1, k.2.1, fun p l e R s m args below meth c X H locs cells slots ls hl hR hS h1 h2 => ?_⟩
  have kW := k.2.2 p l e R s m args below meth c X H locs cells slots ls hl hR hS h1 h2
  have hat := hk_arrI (ty := 3) (hR.2.2.2 a _ n hk).2.2 (by decide)
  exact va_zald X.1 X.2.1 X.2.2.2.2.2.2.2.1.1 (hk_P1 (q := (a, .inl (Gd.2.1 3, n, .inl (hk_aI st a)))) hat) 0 3 rfl (hk_tys_at Gd (by decide) rfl) hin d kW
theorem hv_lald {a : Nat} {i : Int32} {x : Int64} (h : hk_lL st a i = some x) (d : decode N.2.1 pc = .ok (.laload, 1)) (k : hk_V Gd N E (pc + 1) L (.long x :: S) st) : hk_V Gd N E pc L (.int i :: .ref a :: S) st := by
  obtain ⟨hb, rfl⟩ := hq_i h
  obtain ⟨n, hk, hin, hlt⟩ := hk_ba_of hb
  refine ⟨k.1, k.2.1, fun p l e R s m args below meth c X H locs cells slots ls hl hR hS h1 h2 => ?_⟩
  have kW := k.2.2 p l e R s m args below meth c X H locs cells slots ls hl hR hS h1 h2
  have hat := hk_arrL (hR.2.2.2 a _ n hk).2.2
  exact va_lald X.1 X.2.1 X.2.2.2.2.2.2.2.1.1 (hk_P1 (q := (a, .inl (Gd.2.1 4, n, .inr (.inl (hk_aL st a))))) hat) 0 4 rfl (hk_tys_at Gd (by decide) rfl) hin d kW
theorem hv_aald {ty a : Nat} {i : Int32} {x : Option Nat} {C : String} (hty : 4 < ty) (h11 : ty < 11) (hC : hk_tyl.getD ty .int = .object C) (h : hk_lR ty st a i = some x) (d : decode N.2.1 pc = .ok (.aaload, 1)) (k : hk_V Gd N E (pc + 1) L (va_rf x :: S) st) : hk_V Gd N E pc L (.int i :: .ref a :: S) st := by
  obtain ⟨hb, rfl⟩ := hq_i h
  obtain ⟨n, hk, hin, hlt⟩ := hk_ba_of hb
  refine ⟨k.1, k.2.1, fun p l e R s m args below meth c X H locs cells slots ls hl hR hS h1 h2 => ?_⟩
  have kW := k.2.2 p l e R s m args below meth c X H locs cells slots ls hl hR hS h1 h2
  have hat := hk_arrR (hR.2.2.2 a _ n hk).2.2 hty
  exact va_aldq X.1 X.2.1 X.2.2.2.2.2.2.2.1.1 (hk_P1 (q := (a, .inl (Gd.2.1 ty, n, .inr (.inr (.inr (.inr (hk_aR st a))))))) hat) 0 ty rfl (hk_tys_at Gd h11 hC) hin d kW
theorem hv_alen {a : Nat} {x : Int32} (h : hk_len st a = some x) (d : decode N.2.1 pc = .ok (.arraylength, 1)) (k : hk_V Gd N E (pc + 1) L (.int x :: S) st) : hk_V Gd N E pc L (.ref a :: S) st := by
  unfold hk_len at h
  split at h
  · rename_i t n hk
    obtain ⟨⟨h100, h111⟩, rfl⟩ := hq_i h
    refine ⟨k.1, k.2.1, fun p l e R s m args below meth c X H locs cells slots ls hl hR hS h1 h2 => ?_⟩
    have kW := k.2.2 p l e R s m args below meth c X H locs cells slots ls hl hR hS h1 h2
    have hat := ((hR.2.2.2 a _ n hk).2.2.2 h100).2
    exact va_alen X.1 X.2.1 X.2.2.2.2.2.2.2.1.1 (hk_P1 (q := (a, .inl (Gd.2.1 (t - 100), n, hk_ac st (t - 100) a))) hat) 0 (t - 100) rfl (hk_tys_at Gd (by omega) rfl) rfl d kW
  · cases h
/-- what a store into an array may change -/
def hk_upa (st st' : hk_St) (a : Nat) : Prop :=
  hk_k st' = hk_k st ∧ hk_nx st' = hk_nx st ∧ hk_nc st' = hk_nc st ∧ hk_ns st' = hk_ns st ∧ (∀ t b k, hk_fv st' t b k = hk_fv st t b k) ∧ ∀ t b, b ≠ a → hk_ac st' t b = hk_ac st t b
theorem hk_R_store {st' : hk_St} {a ty n : Nat} {H H' : Heap} (hu : hk_upa st st' a) (hR : hk_R Gd st H) (hk : hk_k st a = some (100 + ty, n))
    (e1 : H'[a]? = some (vp_cell (Gd.2.1 ty) (n, hk_ac st' ty a))) (e2 : H'.size = H.size) (e3 : ∀ q, q ≠ a → H'[q]? = H[q]?) : hk_R Gd st' H' := by
  obtain ⟨u1, u2, u3, u4, u5, u6⟩ := hu
  obtain ⟨r1, r2, r3, r4⟩ := hR
  have ha := r4 a _ n hk
  refine ⟨by rw [e2, u2]; exact r1, by rw [u2]; exact r2, fun q hq => by rw [e3 q (by omega)]; exact r3 q hq, fun b t' n' hb => ?_⟩
  rw [u1] at hb
  obtain ⟨g1, g2, g3⟩ := r4 b t' n' hb
  refine ⟨g1, by rw [u2]; exact g2, fun h => ?_, fun h => ?_⟩
  · obtain ⟨r', hr', hob⟩ := g3.1 h
    have hba : b ≠ a := by
      rintro rfl
      cases hb.symm.trans hk
      omega
    exact ⟨r', hr', (hob.kept (e3 b hba)).to (fun j _ => (u5 t' b j).symm)⟩
  · obtain ⟨g4, g5⟩ := g3.2 h
    refine ⟨g4, ?_⟩
    by_cases hba : b = a
    · subst hba
      cases hb.symm.trans hk
      rw [show 100 + ty - 100 = ty by omega]
      exact e1
    · rw [e3 b hba, u6 _ b hba]
      exact g5
theorem hk_upa_I {a j : Nat} {x : Int32} : hk_upa st (hk_saI st a j x) a := by
  refine ⟨rfl, rfl, rfl, rfl, fun _ _ _ => rfl, fun t b h => ?_⟩
  have : hk_aI (hk_saI st a j x) b = hk_aI st b := by
    funext i
    show hk_u2 st.2.2.2.2.1 a j x b i = st.2.2.2.2.1 b i
    unfold hk_u2
    rw [if_neg (fun q => h q.1)]
  unfold hk_ac
  rw [this]
  rfl
theorem hk_upa_L {a j : Nat} {x : Int64} : hk_upa st (hk_saL st a j x) a := by
  refine ⟨rfl, rfl, rfl, rfl, fun _ _ _ => rfl, fun t b h => ?_⟩
  have : hk_aL (hk_saL st a j x) b = hk_aL st b := by
    funext i
    show hk_u2 st.2.2.2.2.2.1 a j x b i = st.2.2.2.2.2.1 b i
    unfold hk_u2
    rw [if_neg (fun q => h q.1)]
  unfold hk_ac
  rw [this]
  rfl
theorem hk_upa_R {a j : Nat} {x : Option Nat} : hk_upa st (hk_saR st a j x) a := by
  refine ⟨rfl, rfl, rfl, rfl, fun _ _ _ => rfl, fun t b h => ?_⟩
  have : hk_aR (hk_saR st a j x) b = hk_aR st b := by
    funext i
    show hk_u2 st.2.2.2.2.2.2.1 a j x b i = st.2.2.2.2.2.2.1 b i
    unfold hk_u2
    rw [if_neg (fun q => h q.1)]
  unfold hk_ac
  rw [this]
  rfl
theorem hk_saI_at {a j : Nat} {x : Int32} : (fun i => Value.int (hk_aI (hk_saI st a j x) a i)) = updV (fun i => .int (hk_aI st a i)) j (.int x) := by
  funext i
  show Value.int (hk_u2 st.2.2.2.2.1 a j x a i) = updV _ j _ i
  unfold hk_u2 updV
  by_cases h : i = j
  · simp [h]
  · simp [h, hk_aI]
theorem hk_saL_at {a j : Nat} {x : Int64} : (fun i => Value.long (hk_aL (hk_saL st a j x) a i)) = updV (fun i => .long (hk_aL st a i)) j (.long x) := by
  funext i
  show Value.long (hk_u2 st.2.2.2.2.2.1 a j x a i) = updV _ j _ i
  unfold hk_u2 updV
  by_cases h : i = j
  · simp [h]
  · simp [h, hk_aL]
theorem hk_saR_at {a j : Nat} {x : Option Nat} : (fun i => va_rf (hk_aR (hk_saR st a j x) a i)) = updV (fun i => va_rf (hk_aR st a i)) j (va_rf x) := by
  funext i
  show va_rf (hk_u2 st.2.2.2.2.2.2.1 a j x a i) = updV _ j _ i
  unfold hk_u2 updV
  by_cases h : i = j
  · simp [h]
  · simp [h, hk_aR]
theorem hv_iast {a : Nat} {i x : Int32} {st' : hk_St} (h : hk_tI 0 st a i x = some st') (d : decode N.2.1 pc = .ok (.iastore, 1)) (k : hk_V Gd N E (pc + 1) L S st') : hk_V Gd N E pc L (.int x :: .int i :: .ref a :: S) st := by
  obtain ⟨hb, rfl⟩ := hq_i h
  obtain ⟨n, hk, hin, hlt⟩ := hk_ba_of hb
  refine ⟨k.1, k.2.1, fun p l e R s m args below meth c X H locs cells slots ls hl hR hS h1 h2 => ?_⟩
  have kW := fun H' locs' hR' hS' => k.2.2 p l e R s m args below meth c X H' locs' cells slots ls hl hR' hS' h1 h2
  have hat := hk_arrI (ty := 0) (hR.2.2.2 a _ n hk).2.2 (by decide)
  refine W.iast X.1 X.2.1 hat ((X.2.2.2.2.2.2.2.1.1.2 0 _ (hk_tys_at Gd (by decide) rfl)).1 n (fun j => .int (hk_aI st a j))) (fun q => by cases q) (by show ¬ (i < 0 ∨ (arrV _ _ _).slots.size ≤ _); rw [arrV_size]; exact hin) rfl rfl d fun H1 e z oq => ?_
  refine kW H1 _ (hk_R_store (ty := 0) hk_upa_I hR hk ?_ z oq) (hS.put z oq (hR.2.2.2 a _ n hk).1)
  rw [e, vp_cell_i, arrV_store]
  show _ = some (arrV _ _ (fun i => Value.int (hk_aI (hk_saI st a _ _) a i)))
  rw [hk_saI_at]
  rfl
theorem hv_bast {a : Nat} {i x : Int32} {st' : hk_St} (h : hk_tI 1 st a i x = some st') (d : decode N.2.1 pc = .ok (.bastore, 1)) (k : hk_V Gd N E (pc + 1) L S st') : hk_V Gd N E pc L (.int x :: .int i :: .ref a :: S) st := by
  obtain ⟨hb, rfl⟩ := hq_i h
  obtain ⟨n, hk, hin, hlt⟩ := hk_ba_of hb
  refine ⟨k.1, k.2.1, fun p l e R s m args below meth c X H locs cells slots ls hl hR hS h1 h2 => ?_⟩
  have kW := fun H' locs' hR' hS' => k.2.2 p l e R s m args below meth c X H' locs' cells slots ls hl hR' hS' h1 h2
  have hat := hk_arrI (ty := 1) (hR.2.2.2 a _ n hk).2.2 (by decide)
  refine W.bast X.1 X.2.1 hat ((X.2.2.2.2.2.2.2.1.1.2 1 _ (hk_tys_at Gd (by decide) rfl)).1 n (fun j => .int (hk_aI st a j))) (fun q => by cases q) (by show ¬ (i < 0 ∨ (arrV _ _ _).slots.size ≤ _); rw [arrV_size]; exact hin) rfl rfl d fun H1 e z oq => ?_
  refine kW H1 _ (hk_R_store (ty := 1) hk_upa_I hR hk ?_ z oq) (hS.put z oq (hR.2.2.2 a _ n hk).1)
  rw [e, vp_cell_i, arrV_store]
  show _ = some (arrV _ _ (fun i => Value.int (hk_aI (hk_saI st a _ _) a i)))
  rw [hk_saI_at]
  rfl
theorem hv_sast {a : Nat} {i x : Int32} {st' : hk_St} (h : hk_tI 2 st a i x = some st') (d : decode N.2.1 pc = .ok (.sastore, 1)) (k : hk_V Gd N E (pc + 1) L S st') : hk_V Gd N E pc L (.int x :: .int i :: .ref a :: S) st := by
  obtain ⟨hb, rfl⟩ := hq_i h
  obtain ⟨n, hk, hin, hlt⟩ := hk_ba_of hb
  refine ⟨k.1, k.2.1, fun p l e R s m args below meth c X H locs cells slots ls hl hR hS h1 h2 => ?_⟩
  have kW := fun H' locs' hR' hS' => k.2.2 p l e R s m args below meth c X H' locs' cells slots ls hl hR' hS' h1 h2
  have hat := hk_arrI (ty := 2) (hR.2.2.2 a _ n hk).2.2 (by decide)
  refine W.sast X.1 X.2.1 hat ((X.2.2.2.2.2.2.2.1.1.2 2 _ (hk_tys_at Gd (by decide) rfl)).1 n (fun j => .int (hk_aI st a j))) (fun q => by cases q) (by show ¬ (i < 0 ∨ (arrV _ _ _).slots.size ≤ _); rw [arrV_size]; exact hin) rfl rfl d fun H1 e z oq => ?_
  refine kW H1 _ (hk_R_store (ty := 2) hk_upa_I hR hk ?_ z oq) (hS.put z oq (hR.2.2.2 a _ n hk).1)
  rw [e, vp_cell_i, arrV_store]
  show _ = some (arrV _ _ (fun i => Value.int (hk_aI (hk_saI st a _ _) a i)))
  rw [hk_saI_at]
  rfl
theorem hv_zast {a : Nat} {i x : Int32} {st' : hk_St} (h : hk_tI 3 st a i x = some st') (d : decode N.2.1 pc = .ok (.bastore, 1)) (k : hk_V Gd N E (pc + 1) L S st') : hk_V Gd N E pc L (.int x :: .int i :: .ref a :: S) st := by
  obtain ⟨hb, rfl⟩ := hq_i h
  obtain ⟨n, hk, hin, hlt⟩ := hk_ba_of hb
  refine ⟨k.1, k.2.1, fun p l e R s m args below meth c X H locs cells slots ls hl hR hS h1 h2 => ?_⟩
  have kW := fun H' locs' hR' hS' => k.2.2 p l e R s m args below meth c X H' locs' cells slots ls hl hR' hS' h1 h2
  have hat := hk_arrI (ty := 3) (hR.2.2.2 a _ n hk).2.2 (by decide)
  refine W.zast X.1 X.2.1 hat ((X.2.2.2.2.2.2.2.1.1.2 3 _ (hk_tys_at Gd (by decide) rfl)).1 n (fun j => .int (hk_aI st a j))) (fun q => by cases q) (by show ¬ (i < 0 ∨ (arrV _ _ _).slots.size ≤ _); rw [arrV_size]; exact hin) rfl rfl d fun H1 e z oq => ?_
  refine kW H1 _ (hk_R_store (ty := 3) hk_upa_I hR hk ?_ z oq) (hS.put z oq (hR.2.2.2 a _ n hk).1)
  rw [e, vp_cell_i, arrV_store]
  show _ = some (arrV _ _ (fun i => Value.int (hk_aI (hk_saI st a _ _) a i)))
  rw [hk_saI_at]
  rfl
theorem hv_last {a : Nat} {i : Int32} {x : Int64} {st' : hk_St} (h : hk_tL st a i x = some st') (d : decode N.2.1 pc = .ok (.lastore, 1)) (k : hk_V Gd N E (pc + 1) L S st') : hk_V Gd N E pc L (.long x :: .int i :: .ref a :: S) st := by
  obtain ⟨hb, rfl⟩ := hq_i h
  obtain ⟨n, hk, hin, hlt⟩ := hk_ba_of hb
  refine ⟨k.1, k.2.1, fun p l e R s m args below meth c X H locs cells slots ls hl hR hS h1 h2 => ?_⟩
  have kW := fun H' locs' hR' hS' => k.2.2 p l e R s m args below meth c X H' locs' cells slots ls hl hR' hS' h1 h2
  have hat := hk_arrL (hR.2.2.2 a _ n hk).2.2
  refine W.last X.1 X.2.1 hat ((X.2.2.2.2.2.2.2.1.1.2 4 _ (hk_tys_at Gd (by decide) rfl)).1 n (fun j => .long (hk_aL st a j))) (fun q => by cases q) (by show ¬ (i < 0 ∨ (arrV _ _ _).slots.size ≤ _); rw [arrV_size]; exact hin) rfl rfl d fun H1 e z oq => ?_
  refine kW H1 _ (hk_R_store (ty := 4) hk_upa_L hR hk ?_ z oq) (hS.put z oq (hR.2.2.2 a _ n hk).1)
  rw [e, vp_cell_l, arrV_store]
  show _ = some (arrV _ _ (fun i => Value.long (hk_aL (hk_saL st a _ _) a i)))
  rw [hk_saL_at]
theorem hv_aast {ty : Nat} {cs : List Nat} {C : String} {a : Nat} {i : Int32} {v : Option Nat} {st' : hk_St} (hty : 4 < ty) (h11 : ty < 11) (hC : hk_tyl.getD ty .int = .object C) (hcs : hk_AS C cs) (h : hk_tR ty cs st a i v = some st') (d : decode N.2.1 pc = .ok (.aastore, 1)) (k : hk_V Gd N E (pc + 1) L S st') : hk_V Gd N E pc L (va_rf v :: .int i :: .ref a :: S) st := by
  obtain ⟨hb0, rfl⟩ := hq_i h
  rw [Bool.and_eq_true] at hb0
  obtain ⟨hb, hv⟩ := hb0
  obtain ⟨n, hk, hin, hlt⟩ := hk_ba_of hb
  refine ⟨k.1, k.2.1, fun p l e R s m args below meth c X H locs cells slots ls hl hR hS h1 h2 => ?_⟩
  have kW := fun H' locs' hR' hS' => k.2.2 p l e R s m args below meth c X H' locs' cells slots ls hl hR' hS' h1 h2
  have hat := hk_arrR (hR.2.2.2 a _ n hk).2.2 hty
  have htt := X.2.2.2.2.2.2.2.1.1.2 ty _ (hk_tys_at Gd h11 hC)
  have fin : ∀ H1 : Heap, H1[a]? = some ((vp_cell (Gd.2.1 ty) (n, .inr (.inr (.inr (.inr (hk_aR st a)))))).setSlot i.toNatClampNeg (va_rf v)) → H1.size = H.size → (∀ q, q ≠ a → H1[q]? = H[q]?) → W p l e R s m args below meth c H1 (locs ++ [⟨a, i.toNatClampNeg⟩]) cells slots (E.2.2.2.2 (p, l, e, R, s, m, args, below, meth, c)) (F0 m (pc + 1) ls S) := by
    intro H1 e z oq
    refine kW H1 _ (hk_R_store (ty := ty) hk_upa_R hR hk ?_ z oq) (hS.put z oq (hR.2.2.2 a _ n hk).1)
    have h3 : ¬ ty < 4 := by omega
    have h4 : ¬ ty = 4 := by omega
    have hac : hk_ac (hk_saR st a i.toNatClampNeg v) ty a = .inr (.inr (.inr (.inr (hk_aR (hk_saR st a i.toNatClampNeg v) a)))) := by simp [hk_ac, h3, h4]
    rw [hac, e, vp_cell_q, vp_cell_q, arrV_store, hk_saR_at]
  cases v with
  | none => exact va_WaastN (C := C) X.1 X.2.1 hat (htt.1 n (fun j => va_rf (hk_aR st a j))) (fun h => by cases h) (by show ¬ (i < 0 ∨ (arrV _ _ _).slots.size ≤ _); rw [arrV_size]; exact hin) rfl rfl d fin
  | some b =>
    obtain ⟨t, n', hkb, htc⟩ := hk_bf_of hv
    obtain ⟨t100, r, hcl, hcast⟩ := hcs t htc
    obtain ⟨r', hr', cellV, g1, g2, g3, -⟩ := (hR.2.2.2 b t n' hkb).2.2.1 t100
    cases hcl.symm.trans hr'
    have hcls := (X.2.2.2.2.2.2.2.1.1.1 t r hcl).2
    obtain ⟨kA, comp, k1, k2, k3, -⟩ := htt.2
    obtain ⟨kC, hkC, -⟩ := hcls.2
    obtain ⟨kcomp, hkcomp⟩ := Vm.classAt_of_findClass k3
    have hasg : s.vm.assignable cellV.cls comp = true := by
      rw [g2]
      rcases hcast with rfl | hq
      · have e1 : comp = Gd.1.1 t := Option.some.inj (k3.symm.trans hcls.1)
        rw [e1]
        exact va_assign hcls
      · obtain ⟨c0, t0, f1, f2, f3⟩ := Cond.castable_spec (va_Nw.use (A := args) rfl (X.2.2.2.2.2.2.2.1.2.1 _ hq rfl))
        cases hcls.1.symm.trans f1
        cases k3.symm.trans f2
        exact f3
    exact W.aast X.1 X.2.1 hat (fun q h => by cases h) (fun h => by cases h) k1 k2 rfl hkcomp ⟨fun q => hin (Or.inl q), by show _ < (arrV _ _ _).slots.size; rw [arrV_size]; exact hlt⟩ g1 (fun q h => by rw [g3] at h; cases h) (by rw [g2]; exact hkC) hasg rfl rfl d fin
/-! ===== HK: objects and arrays made ===== -/
theorem hk_R_new {t len sl : Nat} {H H' : Heap} (hR : hk_R Gd st H) (e2 : H'.size = H.size + 1) (e3 : ∀ q, q < H.size → H'[q]? = H[q]?) (hat : hk_at Gd (hk_mk st t len sl) (hk_nx st) t len H') : hk_R Gd (hk_mk st t len sl) H' := by
  obtain ⟨r1, r2, r3, r4⟩ := hR
  refine ⟨by rw [e2, r1]; rfl, Nat.le_trans r2 (Nat.le_succ _), fun q hq => by rw [e3 q (by omega)]; exact r3 q hq, fun b t' n' hb => ?_⟩
  by_cases hbn : b = hk_nx st
  · subst hbn
    have e : hk_k (hk_mk st t len sl) (hk_nx st) = some (t, len) := by simp [hk_k, hk_mk]
    cases e.symm.trans hb
    exact ⟨r2, Nat.lt_succ_self _, hat⟩
  · have hb : hk_k st b = some (t', n') := by
      rw [← hb]
      simp [hk_k, hk_mk, hbn]
    obtain ⟨g1, g2, g3⟩ := r4 b t' n' hb
    have hfv : ∀ j, hk_fv (hk_mk st t len sl) t' b j = hk_fv st t' b j := by
      intro j
      unfold hk_fv hk_fL hk_fR hk_fI hk_mk
      simp only [hbn, if_false]
    have hac : ∀ j, hk_ac (hk_mk st t len sl) j b = hk_ac st j b := by
      intro j
      unfold hk_ac hk_aI hk_aL hk_aR hk_mk
      simp only [hbn, if_false]
    refine ⟨g1, Nat.lt_succ_of_lt g2, fun h => ?_, fun h => ?_⟩
    · obtain ⟨r', hr', hob⟩ := g3.1 h
      exact ⟨r', hr', (hob.kept (e3 b (by omega))).to (fun j _ => (hfv j).symm)⟩
    · obtain ⟨g4, g5⟩ := g3.2 h
      exact ⟨g4, by rw [e3 b (by omega), hac]; exact g5⟩
theorem hk_S_new {s : State} {H H' : Heap} {locs : List Loc} (hS : va_S (hk_A Gd) s.heap H locs) (e2 : H'.size = H.size + 1) (e3 : ∀ q, q < H.size → H'[q]? = H[q]?) : va_S (hk_A Gd) s.heap H' locs :=
  ⟨Nat.le_trans hS.1 (by omega), fun x h1 h2 => (e3 x (Nat.lt_of_lt_of_le h1 hS.1)).trans (hS.2.1 x h1 h2), hS.2.2⟩
/-- an object of the class number ci is made -/
theorem hv_new {ci index : Nat} {r : vw_C} (hc : hk_cl[ci]? = some r) (hok : hk_ok ci r) (h100 : ci < 100) (q1 : Cond.classLink N.2.2.1 index r.1 ∈ lw_all) (q2 : Cond.instantiable r.1 r.2.2 ∈ lw_all) (q3 : Cond.initialized r.1 ∈ lw_all) (d : decode N.2.1 pc = .ok (.new index, 3))
    (k : hk_V Gd N E (pc + 3) L (.ref (hk_nx st) :: S) (hk_mk st ci 0 r.2.2)) : hk_V Gd N E pc L S st := by
  refine ⟨Nat.le_trans (Nat.le_succ _) k.1, Nat.le_trans (Nat.le_add_right _ _) k.2.1, fun p l e R s m args below meth c X H locs cells slots ls hl hR hS h1 h2 => ?_⟩
  have kW := k.2.2 p l e R s m args below meth c X
  have k1 : hk_nc st + 1 ≤ E.2.2.1 := k.1
  have k2 : hk_ns st + r.2.2 ≤ E.2.2.2.1 := k.2.1
  obtain ⟨hx, hbc, hown, hts, -, -, -, hWW, -, -, hN1, hN2, -⟩ := X
  have hKn := hWW.1.1 ci _ hc
  refine W.newcK hx hbc hown (hts _ q1) (hts _ q2) (hts _ q3) rfl d (by omega) (by omega) hKn.2.1 rfl fun H1 kC hkC e1 z1 o1 => ?_
  obtain ⟨tyf, hty, hcode⟩ := hok.2.1
  rw [hR.1] at e1
  have hb := u_born tyf hts hok.1 hKn hkC e1 hty
  have hat : hk_at Gd (hk_mk st ci 0 r.2.2) (hk_nx st) ci 0 H1 := by
    refine ⟨fun _ => ⟨r, hc, hb.to fun j hj => ?_⟩, fun h => by omega⟩
    unfold hk_fv hk_fL hk_fR hk_fI hk_mk
    simp only [if_true]
    rcases hcode j hj with ⟨a1, a2⟩ | ⟨a1, a2⟩ | ⟨a1, a2⟩ | ⟨a1, ⟨C, a2⟩ | ⟨C, a2⟩⟩ <;> rw [a1, a2] <;> rfl
  have := kW H1 locs (cells + 1) (slots + r.2.2) ls hl (hk_R_new hR z1 o1 hat) (hk_S_new hS z1 o1) (by show cells + 1 + E.1 ≤ hk_nc st + 1; omega) (by show slots + r.2.2 + E.2.1 ≤ hk_ns st + r.2.2; omega)
  rw [hR.1]
  exact this
theorem hk_dT {D : va_G} {s : State} {i : Nat} {ty : FieldType} {cA : ClassId} (hWW : hk_WW Gd s) (hi : i < 11) (hty : hk_tyl.getD i .int = ty) (h : s.vm.findClass ("[" ++ ty.toString) = some cA) : cA = Gd.2.1 i := by
  have h2 := (hWW.1.2 i _ (hk_tys_at Gd hi hty)).2
  unfold va_RA at h2
  cases ty with
  | object C =>
    obtain ⟨_, _, -, -, -, h3⟩ := h2
    exact Option.some.inj (h.symm.trans h3)
  | _ => exact Option.some.inj (h.symm.trans h2)
/-- an array of ints, bytes, shorts, booleans or longs is made -/
theorem hv_newa {atype : ArrayType} {ty n' : Nat} {x : Int32} (hty : ty < 5) (hC : hk_tyl.getD ty .int = newarray.typeOf atype) (q : Cond.arrayClass (newarray.typeOf atype) ∈ lw_all) (h0 : ¬ x < 0) (hn : x.toNatClampNeg = n') (hsz : n' ≤ 100000) (d : decode N.2.1 pc = .ok (.newarray atype, 2))
    (k : hk_V Gd N E (pc + 2) L (.ref (hk_nx st) :: S) (hk_mk st (100 + ty) n' n')) : hk_V Gd N E pc L (.int x :: S) st := by
  refine ⟨Nat.le_trans (Nat.le_succ _) k.1, Nat.le_trans (Nat.le_add_right _ _) k.2.1, fun p l e R s m args below meth c X H locs cells slots ls hl hR hS h1 h2 => ?_⟩
  have kW := k.2.2 p l e R s m args below meth c X
  have k1 : hk_nc st + 1 ≤ E.2.2.1 := k.1
  have k2 : hk_ns st + n' ≤ E.2.2.2.1 := k.2.1
  obtain ⟨hx, hbc, hown, hts, -, -, -, hWW, -, -, hN1, hN2, -⟩ := X
  have hby : n' * componentBytes (newarray.typeOf atype) ≤ 536870912 := by
    have : componentBytes (newarray.typeOf atype) ≤ 8 := by cases atype <;> decide
    exact Nat.le_trans (Nat.mul_le_mul hsz this) (by decide)
  refine va_newaK hx hbc (hts _ q) rfl d rfl h0 hn hby (by omega) (by omega) hR.1 fun H1 cA e1 z1 o1 hAr hNm => ?_
  rw [← hR.1] at z1 o1
  have hcA : cA = Gd.2.1 ty := hk_dT (D := Gd.1) hWW (by omega) hC hNm
  have hat : hk_at Gd (hk_mk st (100 + ty) n' n') (hk_nx st) (100 + ty) n' H1 := by
    refine ⟨fun h => by omega, fun _ => ⟨by omega, ?_⟩⟩
    rw [show 100 + ty - 100 = ty by omega, e1, hcA]
    rcases (show ty = 0 ∨ ty = 1 ∨ ty = 2 ∨ ty = 3 ∨ ty = 4 by omega) with rfl | rfl | rfl | rfl | rfl
    all_goals
      rw [← hC]
      simp [hk_ac, hk_aI, hk_aL, hk_mk, vp_cell_i, vp_cell_l, hk_tyl, defaultValue]
  exact kW H1 locs (cells + 1) (slots + n') ls hl (hk_R_new hR z1 o1 hat) (hk_S_new hS z1 o1) (by show cells + 1 + E.1 ≤ hk_nc st + 1; omega) (by show slots + n' + E.2.1 ≤ hk_ns st + n'; omega)
/-- an array of references is made -/
theorem hv_newq {C : String} {index ty n' : Nat} {x : Int32} (hty : 4 < ty) (h11 : ty < 11) (hC : hk_tyl.getD ty .int = .object C) (q1 : Cond.classLink N.2.2.1 index C ∈ lw_all) (q2 : Cond.arrayOver (.object C) ∈ lw_tbl) (h0 : ¬ x < 0) (hn : x.toNatClampNeg = n') (hsz : n' ≤ 100000) (d : decode N.2.1 pc = .ok (.anewarray index, 3))
    (k : hk_V Gd N E (pc + 3) L (.ref (hk_nx st) :: S) (hk_mk st (100 + ty) n' n')) : hk_V Gd N E pc L (.int x :: S) st := by
  refine ⟨Nat.le_trans (Nat.le_succ _) k.1, Nat.le_trans (Nat.le_add_right _ _) k.2.1, fun p l e R s m args below meth c X H locs cells slots ls hl hR hS h1 h2 => ?_⟩
  have kW := k.2.2 p l e R s m args below meth c X
  have k1 : hk_nc st + 1 ≤ E.2.2.1 := k.1
  have k2 : hk_ns st + n' ≤ E.2.2.2.1 := k.2.1
  obtain ⟨hx, hbc, hown, hts, -, -, -, hWW, -, -, hN1, hN2, -⟩ := X
  subst hn
  refine W.anew hx hbc hown (hts _ q1) (va_AO.use (hWW.2.2.1 C q2)) rfl d rfl h0 (by omega) (by omega) (by omega) fun cA kA comp f1 f2 f3 f4 => ?_
  generalize hH1 : H.push ({ cls := cA, slots := Array.replicate x.toNatClampNeg .null, vm := .none } : Cell) = H1
  have z1 : H1.size = H.size + 1 := by rw [← hH1, Array.size_push]
  have e1 : H1[H.size]? = some (arrV cA x.toNatClampNeg (fun _ => .null)) := by rw [← hH1, Array.getElem?_push_size, ← arrV_new]
  have o1 : ∀ q : Nat, q < H.size → H1[q]? = H[q]? := fun q hq => by rw [← hH1, Array.getElem?_push, if_neg (Nat.ne_of_lt hq)]
  have hcA : cA = Gd.2.1 ty := hk_dT (D := Gd.1) hWW h11 hC f1
  have hat : hk_at Gd (hk_mk st (100 + ty) x.toNatClampNeg x.toNatClampNeg) (hk_nx st) (100 + ty) x.toNatClampNeg H1 := by
    refine ⟨fun h => by omega, fun _ => ⟨by omega, ?_⟩⟩
    have h3 : ¬ ty < 4 := by omega
    have h4 : ¬ ty = 4 := by omega
    rw [show 100 + ty - 100 = ty by omega, ← hR.1, e1, hcA, hR.1]
    simp [hk_ac, hk_aR, hk_mk, vp_cell_q, h3, h4, va_rf]
  have := kW H1 locs (cells + 1) (slots + x.toNatClampNeg) ls hl (hk_R_new hR z1 o1 hat) (hk_S_new hS z1 o1) (by show cells + 1 + E.1 ≤ hk_nc st + 1; omega) (by show slots + x.toNatClampNeg + E.2.1 ≤ hk_ns st + x.toNatClampNeg; omega)
  rw [hR.1]
  exact this
/-- Object.<init> -/
theorem hv_objInit {a index : Nat} (q1 : Cond.methodLink N.2.2.1 index Lib.objectInit ∈ lw_all) (q2 : Cond.instanceMethod Lib.objectInit ∈ lw_all) (q3 : Cond.code Lib.objectInit ⟨#[0xb1]⟩ 1 none ∈ lw_all) (d : decode N.2.1 pc = .ok (.invokespecial index, 3)) (hfr : 1 ≤ N.2.2.2.2.2.1) (hlo : (S.map fun v => v.category).sum + 12 ≤ N.2.2.2.2.2.2.1) (k : hk_V Gd N E (pc + 3) L S st) : hk_V Gd N E pc L (.ref a :: S) st :=
  ⟨k.1, k.2.1, fun p l e R s m args below meth c X H locs cells slots ls hl hR hS h1 h2 =>
    W.objInit X.1 X.2.1 X.2.2.1 (X.2.2.2.1 _ q1) (X.2.2.2.1 _ q2) (X.2.2.2.1 _ q3) rfl hl.1 rfl d (by rw [X.2.2.2.2.2.2.2.2.1]; exact hfr) (by rw [X.2.2.2.2.2.2.2.2.2.1]; simpa [JFrame.monitorRoom] using hlo) (k.2.2 p l e R s m args below meth c X H locs cells slots ls hl hR hS h1 h2)⟩
end HKA

/-! ===== HK: calls ===== -/
/-- facts of a call's site: virtual (exact class ci) -/
def hk_CV (own : String) (index ci : Nat) (y : MethodName) (bytes : ByteArray) (maxL : Nat) (ret : Option FieldType) (n : Nat) : Prop :=
  ci < 100 ∧ ∃ r, hk_cl[ci]? = some r ∧ GoodIn lw_all (wsV own index r.1 y (ws_ y bytes maxL ret)) ∧ y.cls = r.1 ∧ y.cls ≠ "java/lang/invoke/MethodHandle" ∧ y.cls ≠ "java/lang/invoke/VarHandle" ∧ (parseMethodDescriptor y.desc).map (fun d => d.parameters.length) = some n
/-- virtual, a nest mate's private method -/
def hk_CVN (own : String) (index ci : Nat) (y : MethodName) (bytes : ByteArray) (maxL : Nat) (ret : Option FieldType) (n : Nat) : Prop :=
  ci < 100 ∧ ∃ r host, hk_cl[ci]? = some r ∧ GoodIn lw_all (ws_ y bytes maxL ret) ∧ Cond.methodLinkNest own index y host ∈ lw_tbl ∧ Cond.initialized y.cls ∈ lw_all ∧ Cond.instanceMethod y ∈ lw_all ∧ Cond.selects r.1 y y ∈ lw_all ∧ y.cls ≠ "java/lang/invoke/MethodHandle" ∧ y.cls ≠ "java/lang/invoke/VarHandle" ∧ (parseMethodDescriptor y.desc).map (fun d => d.parameters.length) = some n
def hk_CS (own : String) (index : Nat) (y : MethodName) (bytes : ByteArray) (maxL : Nat) (ret : Option FieldType) (n : Nat) : Prop :=
  GoodIn lw_all (va_wsS own index y (ws_ y bytes maxL ret)) ∧ y.cls ≠ "java/lang/invoke/MethodHandle" ∧ y.cls ≠ "java/lang/invoke/VarHandle" ∧ (parseMethodDescriptor y.desc).map (fun d => d.parameters.length) = some n
def hk_CSN (own : String) (index : Nat) (y : MethodName) (bytes : ByteArray) (maxL : Nat) (ret : Option FieldType) (n : Nat) : Prop :=
  ∃ host, GoodIn lw_all (ws_ y bytes maxL ret) ∧ Cond.methodLinkNest own index y host ∈ lw_tbl ∧ Cond.initialized y.cls ∈ lw_all ∧ Cond.static y ∈ lw_all ∧ y.cls ≠ "java/lang/invoke/MethodHandle" ∧ y.cls ≠ "java/lang/invoke/VarHandle" ∧ (parseMethodDescriptor y.desc).map (fun d => d.parameters.length) = some n
def hk_CI (own : String) (index : Nat) (y : MethodName) (bytes : ByteArray) (maxL n : Nat) : Prop :=
  GoodIn lw_all (ws_ y bytes maxL none) ∧ Cond.initialized y.cls ∈ lw_all ∧ Cond.methodLink own index y ∈ lw_all ∧ Cond.instanceMethod y ∈ lw_all ∧ y.name = "<init>" ∧ y.cls ≠ "java/lang/invoke/MethodHandle" ∧ y.cls ≠ "java/lang/invoke/VarHandle" ∧ (parseMethodDescriptor y.desc).map (fun d => d.parameters.length) = some n
def hk_CIN (own : String) (index : Nat) (y : MethodName) (bytes : ByteArray) (maxL n : Nat) : Prop :=
  ∃ host, GoodIn lw_all (ws_ y bytes maxL none) ∧ Cond.initialized y.cls ∈ lw_all ∧ Cond.methodLinkNest own index y host ∈ lw_tbl ∧ Cond.instanceMethod y ∈ lw_all ∧ y.name = "<init>" ∧ y.cls ≠ "java/lang/invoke/MethodHandle" ∧ y.cls ≠ "java/lang/invoke/VarHandle" ∧ (parseMethodDescriptor y.desc).map (fun d => d.parameters.length) = some n
def hk_CSU (own : String) (index : Nat) (y : MethodName) (bytes : ByteArray) (maxL : Nat) (ret : Option FieldType) (n : Nat) : Prop :=
  GoodIn lw_all (va_wsSU own index y (ws_ y bytes maxL ret)) ∧ y.name ≠ "<init>" ∧ (parseMethodDescriptor y.desc).map (fun d => d.parameters.length) = some n
/-- virtual: the site names x, the receiver's class ci takes y; owner declares x (y itself, or an abstract or overridden one) -/
def hk_CO (own : String) (index ci : Nat) (x y : MethodName) (bytes : ByteArray) (maxL : Nat) (ret : Option FieldType) (n : Nat) : Prop :=
  ci < 100 ∧ ∃ r owner, hk_cl[ci]? = some r ∧ GoodIn lw_all (va_wsU own index r.1 owner x y (ws_ y bytes maxL ret)) ∧ (y = ⟨owner, x.name, x.desc⟩ ∨ (∃ b0 m0 r0, Cond.code ⟨owner, x.name, x.desc⟩ b0 m0 r0 ∈ lw_all ∧ Cond.instanceMethod ⟨owner, x.name, x.desc⟩ ∈ lw_all) ∨ Cond.declares ⟨owner, x.name, x.desc⟩ ∈ lw_tbl) ∧ owner ≠ "java/lang/invoke/MethodHandle" ∧ owner ≠ "java/lang/invoke/VarHandle" ∧ (parseMethodDescriptor x.desc).map (fun d => d.parameters.length) = some n
def hk_CF (own : String) (index ci : Nat) (x y : MethodName) (bytes : ByteArray) (maxL : Nat) (ret : Option FieldType) (n : Nat) : Prop :=
  ci < 100 ∧ ∃ r, hk_cl[ci]? = some r ∧ GoodIn lw_all (va_wsF own index r.1 x y (ws_ y bytes maxL ret)) ∧ (x.cls ≠ "java/lang/invoke/MethodHandle" ∧ x.cls ≠ "java/lang/invoke/VarHandle" ∧ (parseMethodDescriptor x.desc).map (fun d => d.parameters.length) = some n) ∧
  Cond.declares x ∈ lw_tbl ∧ Cond.interfaceMethod x.cls x.cls x.name x.desc ∈ lw_tbl ∧ Cond.publicMethod y ∈ lw_tbl ∧ Cond.unhidden r.1 x.name x.desc ∈ lw_tbl ∧ Cond.castable r.1 x.cls ∈ lw_tbl
section HKC
variable {Gd : hk_G} {N : hk_N} {E : hk_E} {pc : Nat} {L : List (Nat × Value)} {S : List Value} {st : hk_St}
theorem hk_blind (av : List Value) (st : hk_St) : FrameBlind (va_Pc av (fun U => hk_WW Gd U ∧ hk_R Gd st U.heap)) := by
  intro a U g mk h
  obtain ⟨h1, h2, h3⟩ := h
  exact ⟨h1, hk_WW.same (s := U) (U := U.calling g mk a) rfl h2, h3⟩
theorem hk_given {s : State} {H : Heap} {av : List Value} (hWW : hk_WW Gd s) (hR : hk_R Gd st H) : ∀ U : State, U.heap = H → s.WarmedH U.vm → va_Pc av (fun U => hk_WW Gd U ∧ hk_R Gd st U.heap) av.toArray U :=
  fun U hU hW => ⟨rfl, hWW.moved hW, by rw [hU]; exact hR⟩
theorem hk_recv {s : State} {H : Heap} {b ci : Nat} {r : vw_C} (hWW : hk_WW Gd s) (hR : hk_R Gd st H) (h100 : ci < 100) (hc : hk_cl[ci]? = some r) (hb : hk_bf [ci] st b = true) : ∃ cell : Cell, H[b]? = some cell ∧ cell.vm.isStatics = false ∧ s.vm.findClass r.1 = some cell.cls := by
  obtain ⟨t, n, hk, ht⟩ := hk_bf_of hb
  cases List.mem_singleton.mp ht
  obtain ⟨r', hr', cell, q1, q2, q3, q4⟩ := (hR.2.2.2 b ci n hk).2.2.1 h100
  cases hc.symm.trans hr'
  exact ⟨cell, q1, by rw [q3]; rfl, by rw [q2]; exact (hWW.1.1 ci r hc).2.1⟩
theorem hv_run {p : Program} {l : Launch} {e : Env} {R : Room} {s : State} {m : MethodId} {args : Array Value} {below : List Frame} {meth : Method} {c : Code} {H : Heap} {locs : List Loc} {cells slots mc ms : Nat} {ls : Array Slot} {st0 rest : List Value} {r : Option Value} {st2 : hk_St} {a : Array Value} {Q : State → Prop}
    (hr : va_Run p l e R s m args below meth c H locs cells slots mc ms (F0 m pc ls st0) rest (hk_Q Gd r st2 a) (hk_A Gd)) (hS : va_S (hk_A Gd) s.heap H locs)
    (kk : ∀ (H1 : Heap) (locs1 : List Loc), hk_R Gd st2 H1 → va_S (hk_A Gd) s.heap H1 locs1 → W p l e R s m args below meth c H1 locs1 (cells + mc) (slots + ms) Q (F0 m (pc + 3) ls (r.toList ++ rest))) : W p l e R s m args below meth c H locs cells slots Q (F0 m pc ls st0) := by
  intro T hT X
  obtain ⟨v, st₀, t, T', L, h0, X', hL, e1, e2, ⟨⟨hv, hR2⟩, hz, hk⟩, st⟩ := hr T hT X
  cases hv
  rw [h0] at hz hk
  obtain ⟨t2, a1, b1⟩ := kk T'.heap (locs ++ L) (by rw [e1]; exact hR2)
    ⟨Nat.le_trans hS.1 (by rw [e1]; exact hz), fun q h1 h2 => by rw [e1, hk q (Nat.lt_of_lt_of_le h1 hS.1) h2]; exact hS.2.1 q h1 h2, fun q hq => by
      rcases List.mem_append.mp hq with h | h
      · exact hS.2.2 q h
      · exact hL q h⟩ T' rfl X'
  exact ⟨t2, st t2 a1, b1⟩
theorem hv_run5 {p : Program} {l : Launch} {e : Env} {R : Room} {s : State} {m : MethodId} {args : Array Value} {below : List Frame} {meth : Method} {c : Code} {H : Heap} {locs : List Loc} {cells slots mc ms : Nat} {ls : Array Slot} {st0 rest : List Value} {r : Option Value} {st2 : hk_St} {a : Array Value} {Q : State → Prop}
    (hr : va_Run5 p l e R s m args below meth c H locs cells slots mc ms (F0 m pc ls st0) rest (hk_Q Gd r st2 a) (hk_A Gd)) (hS : va_S (hk_A Gd) s.heap H locs)
    (kk : ∀ (H1 : Heap) (locs1 : List Loc), hk_R Gd st2 H1 → va_S (hk_A Gd) s.heap H1 locs1 → W p l e R s m args below meth c H1 locs1 (cells + mc) (slots + ms) Q (F0 m (pc + 5) ls (r.toList ++ rest))) : W p l e R s m args below meth c H locs cells slots Q (F0 m pc ls st0) := by
  intro T hT X
  obtain ⟨v, st₀, t, T', L, h0, X', hL, e1, e2, ⟨⟨hv, hR2⟩, hz, hk⟩, st⟩ := hr T hT X
  cases hv
  rw [h0] at hz hk
  obtain ⟨t2, a1, b1⟩ := kk T'.heap (locs ++ L) (by rw [e1]; exact hR2)
    ⟨Nat.le_trans hS.1 (by rw [e1]; exact hz), fun q h1 h2 => by rw [e1, hk q (Nat.lt_of_lt_of_le h1 hS.1) h2]; exact hS.2.1 q h1 h2, fun q hq => by
      rcases List.mem_append.mp hq with h | h
      · exact hS.2.2 q h
      · exact hL q h⟩ T' rfl X'
  exact ⟨t2, st t2 a1, b1⟩
theorem hv_callV {y : MethodName} {bytes : ByteArray} {maxL fr' lo' n index : Nat} {r : Option Value} {st2 : hk_St} {ret' : Option FieldType} {b ci : Nat} (As rest S2 : List Value) (hM : hk_Met Gd N.1 y bytes maxL ret' fr' lo' (.ref b :: As) st r st2) (cs : hk_CV N.2.2.1 index ci y bytes maxL ret' n) (hb : hk_bf [ci] st b = true) (hn : As.length = n) (hroom : fr' + 1 ≤ N.2.2.2.2.2.1 ∧ 8 + (maxL + 11) + lo' ≤ N.2.2.2.2.2.2.1) (hst : S = As.reverse ++ .ref b :: rest) (hr : (rest.map fun v => v.category).sum ≤ 8) (hS2 : r.toList ++ rest = S2) (d : decode N.2.1 pc = .ok (.invokevirtual index, 3))
    (k : hk_V Gd N E (pc + 3) L S2 st2) : hk_V Gd N E pc L S st := by
  subst hst
  subst hS2
  refine ⟨Nat.le_trans hM.1 k.1, Nat.le_trans hM.2.1 k.2.1, fun p l e R s m args below meth c X H locs cells slots ls hl hR hS h1 h2 => ?_⟩
  have kW := k.2.2 p l e R s m args below meth c X
  have k1 := k.1
  have k2 := k.2.1
  obtain ⟨hx, hbc, hown, hts, -, -, hml, hWW, hfr, hlo, hN1, hN2, -, hl', -⟩ := X
  subst hl'
  have g1 := hM.1
  have g2 := hM.2.1
  rw [← hfr, ← hlo] at hroom
  obtain ⟨h100, q, hc, hg, hy, hy2⟩ := cs
  have cw := cwV (R := R) (rm := { frames := fr', cells := hk_nc st2 - hk_nc st, slots := hk_ns st2 - hk_ns st, locals := lo' }) n hts hg rfl rfl rfl ⟨hy, hy2⟩ hroom
  refine hv_run (va_runV (As := As) (rest := rest) (⟨hx, hbc, hml, hown, hts⟩) hM.2.2 cw ⟨hk_blind _ _, hk_recv hWW hR h100 hc hb, hk_given hWW hR⟩ rfl hn (hl.1.trans hml) rfl (lv_room hr) d ⟨by omega, by omega⟩) hS (fun H1 locs1 hR1 hS1 => kW H1 locs1 _ _ ls hl hR1 hS1 (by omega) (by omega))
theorem hv_callVN {y : MethodName} {bytes : ByteArray} {maxL fr' lo' n index : Nat} {r : Option Value} {st2 : hk_St} {ret' : Option FieldType} {b ci : Nat} (As rest S2 : List Value) (hM : hk_Met Gd N.1 y bytes maxL ret' fr' lo' (.ref b :: As) st r st2) (cs : hk_CVN N.2.2.1 index ci y bytes maxL ret' n) (hb : hk_bf [ci] st b = true) (hn : As.length = n) (hroom : fr' + 1 ≤ N.2.2.2.2.2.1 ∧ 8 + (maxL + 11) + lo' ≤ N.2.2.2.2.2.2.1) (hst : S = As.reverse ++ .ref b :: rest) (hr : (rest.map fun v => v.category).sum ≤ 8) (hS2 : r.toList ++ rest = S2) (d : decode N.2.1 pc = .ok (.invokevirtual index, 3))
    (k : hk_V Gd N E (pc + 3) L S2 st2) : hk_V Gd N E pc L S st := by
  subst hst
  subst hS2
  refine ⟨Nat.le_trans hM.1 k.1, Nat.le_trans hM.2.1 k.2.1, fun p l e R s m args below meth c X H locs cells slots ls hl hR hS h1 h2 => ?_⟩
  have kW := k.2.2 p l e R s m args below meth c X
  have k1 := k.1
  have k2 := k.2.1
  obtain ⟨hx, hbc, hown, hts, -, -, hml, hWW, hfr, hlo, hN1, hN2, -, hl', -⟩ := X
  subst hl'
  have g1 := hM.1
  have g2 := hM.2.1
  rw [← hfr, ← hlo] at hroom
  obtain ⟨h100, q, host, hc, hg, hli, hini, hins, hsel, hy2⟩ := cs
  have cw := va_cnB (R := R) (own := N.2.2.1) (rm := { frames := fr', cells := hk_nc st2 - hk_nc st, slots := hk_ns st2 - hk_ns st, locals := lo' }) n hts hg rfl rfl rfl (hWW.2.1 _ hli rfl) (hts _ hini) hy2 hroom
  have cw := And.intro cw (And.intro (hts _ hins) (hts _ hsel))
  refine hv_run (va_runVN (As := As) (rest := rest) (⟨hx, hbc, hml, hown, hts⟩) hM.2.2 cw ⟨hk_blind _ _, hk_recv hWW hR h100 hc hb, hk_given hWW hR⟩ rfl hn (hl.1.trans hml) rfl (lv_room hr) d ⟨by omega, by omega⟩) hS (fun H1 locs1 hR1 hS1 => kW H1 locs1 _ _ ls hl hR1 hS1 (by omega) (by omega))
theorem hv_callS {y : MethodName} {bytes : ByteArray} {maxL fr' lo' n index : Nat} {r : Option Value} {st2 : hk_St} {ret' : Option FieldType} (As rest S2 : List Value) (hM : hk_Met Gd N.1 y bytes maxL ret' fr' lo' (As) st r st2) (cs : hk_CS N.2.2.1 index y bytes maxL ret' n) (hn : As.length = n) (hroom : fr' + 1 ≤ N.2.2.2.2.2.1 ∧ 8 + (maxL + 11) + lo' ≤ N.2.2.2.2.2.2.1) (hst : S = As.reverse ++ rest) (hr : (rest.map fun v => v.category).sum ≤ 8) (hS2 : r.toList ++ rest = S2) (d : decode N.2.1 pc = .ok (.invokestatic index, 3))
    (k : hk_V Gd N E (pc + 3) L S2 st2) : hk_V Gd N E pc L S st := by
  subst hst
  subst hS2
  refine ⟨Nat.le_trans hM.1 k.1, Nat.le_trans hM.2.1 k.2.1, fun p l e R s m args below meth c X H locs cells slots ls hl hR hS h1 h2 => ?_⟩
  have kW := k.2.2 p l e R s m args below meth c X
  have k1 := k.1
  have k2 := k.2.1
  obtain ⟨hx, hbc, hown, hts, -, -, hml, hWW, hfr, hlo, hN1, hN2, -, hl', -⟩ := X
  subst hl'
  have g1 := hM.1
  have g2 := hM.2.1
  rw [← hfr, ← hlo] at hroom
  obtain ⟨hg, hy2⟩ := cs
  have cw := va_cwS (R := R) (rm := { frames := fr', cells := hk_nc st2 - hk_nc st, slots := hk_ns st2 - hk_ns st, locals := lo' }) n hts hg rfl rfl rfl hy2 hroom
  refine hv_run (va_runS (As := As) (rest := rest) (⟨hx, hbc, hml, hown, hts⟩) hM.2.2 cw ⟨hk_blind _ _, hk_given hWW hR⟩ rfl hn (hl.1.trans hml) rfl (lv_room hr) d ⟨by omega, by omega⟩) hS (fun H1 locs1 hR1 hS1 => kW H1 locs1 _ _ ls hl hR1 hS1 (by omega) (by omega))
theorem hv_callSN {y : MethodName} {bytes : ByteArray} {maxL fr' lo' n index : Nat} {r : Option Value} {st2 : hk_St} {ret' : Option FieldType} (As rest S2 : List Value) (hM : hk_Met Gd N.1 y bytes maxL ret' fr' lo' (As) st r st2) (cs : hk_CSN N.2.2.1 index y bytes maxL ret' n) (hn : As.length = n) (hroom : fr' + 1 ≤ N.2.2.2.2.2.1 ∧ 8 + (maxL + 11) + lo' ≤ N.2.2.2.2.2.2.1) (hst : S = As.reverse ++ rest) (hr : (rest.map fun v => v.category).sum ≤ 8) (hS2 : r.toList ++ rest = S2) (d : decode N.2.1 pc = .ok (.invokestatic index, 3))
    (k : hk_V Gd N E (pc + 3) L S2 st2) : hk_V Gd N E pc L S st := by
  subst hst
  subst hS2
  refine ⟨Nat.le_trans hM.1 k.1, Nat.le_trans hM.2.1 k.2.1, fun p l e R s m args below meth c X H locs cells slots ls hl hR hS h1 h2 => ?_⟩
  have kW := k.2.2 p l e R s m args below meth c X
  have k1 := k.1
  have k2 := k.2.1
  obtain ⟨hx, hbc, hown, hts, -, -, hml, hWW, hfr, hlo, hN1, hN2, -, hl', -⟩ := X
  subst hl'
  have g1 := hM.1
  have g2 := hM.2.1
  rw [← hfr, ← hlo] at hroom
  obtain ⟨host, hg, hli, hini, hsta, hy2⟩ := cs
  have cw := va_cnB (R := R) (own := N.2.2.1) (rm := { frames := fr', cells := hk_nc st2 - hk_nc st, slots := hk_ns st2 - hk_ns st, locals := lo' }) n hts hg rfl rfl rfl (hWW.2.1 _ hli rfl) (hts _ hini) hy2 hroom
  have cw := And.intro cw (And.intro (hts _ hsta) trivial)
  refine hv_run (va_runSN (As := As) (rest := rest) (⟨hx, hbc, hml, hown, hts⟩) hM.2.2 cw ⟨hk_blind _ _, hk_given hWW hR⟩ rfl hn (hl.1.trans hml) rfl (lv_room hr) d ⟨by omega, by omega⟩) hS (fun H1 locs1 hR1 hS1 => kW H1 locs1 _ _ ls hl hR1 hS1 (by omega) (by omega))
theorem hv_callI {y : MethodName} {bytes : ByteArray} {maxL fr' lo' n index : Nat} {r : Option Value} {st2 : hk_St} {b : Nat} (As rest S2 : List Value) (hM : hk_Met Gd N.1 y bytes maxL none fr' lo' (.ref b :: As) st r st2) (cs : hk_CI N.2.2.1 index y bytes maxL n) (hn : As.length = n) (hroom : fr' + 1 ≤ N.2.2.2.2.2.1 ∧ 8 + (maxL + 11) + lo' ≤ N.2.2.2.2.2.2.1) (hst : S = As.reverse ++ .ref b :: rest) (hr : (rest.map fun v => v.category).sum ≤ 8) (hS2 : r.toList ++ rest = S2) (d : decode N.2.1 pc = .ok (.invokespecial index, 3))
    (k : hk_V Gd N E (pc + 3) L S2 st2) : hk_V Gd N E pc L S st := by
  subst hst
  subst hS2
  refine ⟨Nat.le_trans hM.1 k.1, Nat.le_trans hM.2.1 k.2.1, fun p l e R s m args below meth c X H locs cells slots ls hl hR hS h1 h2 => ?_⟩
  have kW := k.2.2 p l e R s m args below meth c X
  have k1 := k.1
  have k2 := k.2.1
  obtain ⟨hx, hbc, hown, hts, -, -, hml, hWW, hfr, hlo, hN1, hN2, -, hl', -⟩ := X
  subst hl'
  have g1 := hM.1
  have g2 := hM.2.1
  rw [← hfr, ← hlo] at hroom
  obtain ⟨hg, hini, hli, hins, hy1, hy2⟩ := cs
  have cw := cwI (R := R) (own := N.2.2.1) (rm := { frames := fr', cells := hk_nc st2 - hk_nc st, slots := hk_ns st2 - hk_ns st, locals := lo' }) n hts hg rfl rfl rfl (hts _ hini) (hts _ hli) (hts _ hins) hy1 hy2 hroom
  refine hv_run (va_runI (As := As) (rest := rest) (⟨hx, hbc, hml, hown, hts⟩) hM.2.2 cw ⟨hk_blind _ _, hk_given hWW hR⟩ rfl hn (hl.1.trans hml) rfl (lv_room hr) d ⟨by omega, by omega⟩) hS (fun H1 locs1 hR1 hS1 => kW H1 locs1 _ _ ls hl hR1 hS1 (by omega) (by omega))
theorem hv_callIN {y : MethodName} {bytes : ByteArray} {maxL fr' lo' n index : Nat} {r : Option Value} {st2 : hk_St} {b : Nat} (As rest S2 : List Value) (hM : hk_Met Gd N.1 y bytes maxL none fr' lo' (.ref b :: As) st r st2) (cs : hk_CIN N.2.2.1 index y bytes maxL n) (hn : As.length = n) (hroom : fr' + 1 ≤ N.2.2.2.2.2.1 ∧ 8 + (maxL + 11) + lo' ≤ N.2.2.2.2.2.2.1) (hst : S = As.reverse ++ .ref b :: rest) (hr : (rest.map fun v => v.category).sum ≤ 8) (hS2 : r.toList ++ rest = S2) (d : decode N.2.1 pc = .ok (.invokespecial index, 3))
    (k : hk_V Gd N E (pc + 3) L S2 st2) : hk_V Gd N E pc L S st := by
  subst hst
  subst hS2
  refine ⟨Nat.le_trans hM.1 k.1, Nat.le_trans hM.2.1 k.2.1, fun p l e R s m args below meth c X H locs cells slots ls hl hR hS h1 h2 => ?_⟩
  have kW := k.2.2 p l e R s m args below meth c X
  have k1 := k.1
  have k2 := k.2.1
  obtain ⟨hx, hbc, hown, hts, -, -, hml, hWW, hfr, hlo, hN1, hN2, -, hl', -⟩ := X
  subst hl'
  have g1 := hM.1
  have g2 := hM.2.1
  rw [← hfr, ← hlo] at hroom
  obtain ⟨host, hg, hini, hli, hins, hy1, hy2⟩ := cs
  have cw := va_cnB (R := R) (own := N.2.2.1) (rm := { frames := fr', cells := hk_nc st2 - hk_nc st, slots := hk_ns st2 - hk_ns st, locals := lo' }) n hts hg rfl rfl rfl (hWW.2.1 _ hli rfl) (hts _ hini) hy2 hroom
  have cw := And.intro cw (And.intro hy1 (hts _ hins))
  refine hv_run (va_runIN (As := As) (rest := rest) (⟨hx, hbc, hml, hown, hts⟩) hM.2.2 cw ⟨hk_blind _ _, hk_given hWW hR⟩ rfl hn (hl.1.trans hml) rfl (lv_room hr) d ⟨by omega, by omega⟩) hS (fun H1 locs1 hR1 hS1 => kW H1 locs1 _ _ ls hl hR1 hS1 (by omega) (by omega))
theorem hv_callO {y : MethodName} {bytes : ByteArray} {maxL fr' lo' n index : Nat} {r : Option Value} {st2 : hk_St} {ret' : Option FieldType} {b ci : Nat} {x : MethodName} (As rest S2 : List Value) (hM : hk_Met Gd N.1 y bytes maxL ret' fr' lo' (.ref b :: As) st r st2) (cs : hk_CO N.2.2.1 index ci x y bytes maxL ret' n) (hb : hk_bf [ci] st b = true) (hn : As.length = n) (hroom : fr' + 1 ≤ N.2.2.2.2.2.1 ∧ 8 + (maxL + 11) + lo' ≤ N.2.2.2.2.2.2.1) (hst : S = As.reverse ++ .ref b :: rest) (hr : (rest.map fun v => v.category).sum ≤ 8) (hS2 : r.toList ++ rest = S2) (d : decode N.2.1 pc = .ok (.invokevirtual index, 3))
    (k : hk_V Gd N E (pc + 3) L S2 st2) : hk_V Gd N E pc L S st := by
  subst hst
  subst hS2
  refine ⟨Nat.le_trans hM.1 k.1, Nat.le_trans hM.2.1 k.2.1, fun p l e R s m args below meth c X H locs cells slots ls hl hR hS h1 h2 => ?_⟩
  have kW := k.2.2 p l e R s m args below meth c X
  have k1 := k.1
  have k2 := k.2.1
  obtain ⟨hx, hbc, hown, hts, -, -, hml, hWW, hfr, hlo, hN1, hN2, -, hl', -⟩ := X
  subst hl'
  have g1 := hM.1
  have g2 := hM.2.1
  rw [← hfr, ← hlo] at hroom
  obtain ⟨h100, q, owner, hc, hg, hyx, hy2⟩ := cs
  have ok : ∀ w ∈ va_wsU N.2.2.1 index q.1 owner x y (ws_ y bytes maxL ret'), w.before args s = true := fun w h => hts w (hg w h).1
  have hG : GoodIn lw_all (ws_ y bytes maxL ret') := fun w h => hg w (by unfold va_wsU; exact List.mem_append_right _ h)
  have hcw : Cond.code y bytes maxL ret' ∈ ws_ y bytes maxL ret' := List.mem_cons_self
  have hdecl : va_Decl s ⟨owner, x.name, x.desc⟩ := by
    rcases hyx with rfl | ⟨b0, m0, r0, z1, z2⟩ | z
    · exact va_Decl.of (ok _ (by simp [va_wsU])) (hts _ (hG _ hcw).1)
    · exact va_Decl.of (hts _ z2) (hts _ z1)
    · exact va_Decl.abs (hWW.2.1 _ z rfl)
  have cw : va_CU R s args N.2.2.1 q.1 owner index x y bytes maxL ret' (ws_ y bytes maxL ret') { frames := fr', cells := hk_nc st2 - hk_nc st, slots := hk_ns st2 - hk_ns st, locals := lo' } (hk_nc st2 - hk_nc st) (hk_ns st2 - hk_ns st) n :=
    ⟨⟨rfl, rfl, hroom.1, hroom.2, pay_in hts hG, hcw⟩, hts _ (hG _ hcw).1, ok _ (by simp [va_wsU]), ⟨hy2.1, hy2.2.1⟩, fun sig h => by have h2 := hy2.2.2; rw [h] at h2; exact (Option.some.inj h2).symm, ok _ (by simp [va_wsU]), ok _ (by simp [va_wsU]), hdecl, ok _ (by simp [va_wsU]), ok _ (by simp [va_wsU])⟩
  refine hv_run (va_runU (As := As) (rest := rest) (⟨hx, hbc, hml, hown, hts⟩) hM.2.2 cw ⟨hk_blind _ _, hk_recv hWW hR h100 hc hb, hk_given hWW hR⟩ rfl hn (hl.1.trans hml) rfl (lv_room hr) d ⟨by omega, by omega⟩) hS (fun H1 locs1 hR1 hS1 => kW H1 locs1 _ _ ls hl hR1 hS1 (by omega) (by omega))
theorem hv_callSU {y : MethodName} {bytes : ByteArray} {maxL fr' lo' n index : Nat} {r : Option Value} {st2 : hk_St} {ret' : Option FieldType} {b : Nat} (As rest S2 : List Value) (hM : hk_Met Gd N.1 y bytes maxL ret' fr' lo' (.ref b :: As) st r st2) (cs : hk_CSU N.2.2.1 index y bytes maxL ret' n) (cl : List Nat) (h100 : ∀ ci ∈ cl, ci < 100) (hb : hk_bf cl st b = true) (hn : As.length = n) (hroom : fr' + 1 ≤ N.2.2.2.2.2.1 ∧ 8 + (maxL + 11) + lo' ≤ N.2.2.2.2.2.2.1) (hst : S = As.reverse ++ .ref b :: rest) (hr : (rest.map fun v => v.category).sum ≤ 8) (hS2 : r.toList ++ rest = S2) (d : decode N.2.1 pc = .ok (.invokespecial index, 3))
    (k : hk_V Gd N E (pc + 3) L S2 st2) : hk_V Gd N E pc L S st := by
  subst hst
  subst hS2
  refine ⟨Nat.le_trans hM.1 k.1, Nat.le_trans hM.2.1 k.2.1, fun p l e R s m args below meth c X H locs cells slots ls hl hR hS h1 h2 => ?_⟩
  have kW := k.2.2 p l e R s m args below meth c X
  have k1 := k.1
  have k2 := k.2.1
  obtain ⟨hx, hbc, hown, hts, -, -, hml, hWW, hfr, hlo, hN1, hN2, -, hl', -⟩ := X
  subst hl'
  have g1 := hM.1
  have g2 := hM.2.1
  rw [← hfr, ← hlo] at hroom
  obtain ⟨hg, hy2⟩ := cs
  have cw := va_cwSU (R := R) (rm := { frames := fr', cells := hk_nc st2 - hk_nc st, slots := hk_ns st2 - hk_ns st, locals := lo' }) n hts hg rfl rfl rfl hy2 hroom
  obtain ⟨ci, n', hk, ht⟩ := hk_bf_of hb
  obtain ⟨q, hc, -⟩ := (hR.2.2.2 b ci n' hk).2.2.1 (h100 ci ht)
  have hb : hk_bf [ci] st b = true := by simp [hk_bf, hk]
  have h100 := h100 ci ht
  refine hv_run (va_runSU (C := q.1) (As := As) (rest := rest) (hWW.1.1 ci q hc).2 ⟨hx, hbc, hml, hown, hts⟩ hM.2.2 cw ⟨hk_blind _ _, hk_recv hWW hR h100 hc hb, hk_given hWW hR⟩ rfl hn (hl.1.trans hml) rfl (lv_room hr) d ⟨by omega, by omega⟩) hS (fun H1 locs1 hR1 hS1 => kW H1 locs1 _ _ ls hl hR1 hS1 (by omega) (by omega))
theorem hv_callF {y x : MethodName} {bytes : ByteArray} {maxL fr' lo' n index count : Nat} {r : Option Value} {st2 : hk_St} {ret' : Option FieldType} {b ci : Nat} (As rest S2 : List Value) (hM : hk_Met Gd N.1 y bytes maxL ret' fr' lo' (.ref b :: As) st r st2) (cs : hk_CF N.2.2.1 index ci x y bytes maxL ret' n) (hb : hk_bf [ci] st b = true) (hn : As.length = n) (hroom : fr' + 1 ≤ N.2.2.2.2.2.1 ∧ 8 + (maxL + 11) + lo' ≤ N.2.2.2.2.2.2.1) (hst : S = As.reverse ++ .ref b :: rest) (hr : (rest.map fun v => v.category).sum ≤ 8) (hS2 : r.toList ++ rest = S2) (d : decode N.2.1 pc = .ok (.invokeinterface index count, 5))
    (k : hk_V Gd N E (pc + 5) L S2 st2) : hk_V Gd N E pc L S st := by
  subst hst
  subst hS2
  refine ⟨Nat.le_trans hM.1 k.1, Nat.le_trans hM.2.1 k.2.1, fun p l e R s m args below meth c X H locs cells slots ls hl hR hS h1 h2 => ?_⟩
  have kW := k.2.2 p l e R s m args below meth c X
  have k1 := k.1
  have k2 := k.2.1
  obtain ⟨hx, hbc, hown, hts, -, -, hml, hWW, hfr, hlo, hN1, hN2, -, hl', -⟩ := X
  subst hl'
  have g1 := hM.1
  have g2 := hM.2.1
  rw [← hfr, ← hlo] at hroom
  obtain ⟨h100, q, hc, hg, hy2, z1, z2, z3, z4, z5⟩ := cs
  have cw := va_cwF (R := R) (rm := { frames := fr', cells := hk_nc st2 - hk_nc st, slots := hk_ns st2 - hk_ns st, locals := lo' }) n hts hg rfl rfl rfl (hWW.2.2.2.1 q.1 x y ⟨hy2.1, hy2.2.1⟩ z1 z2 z3 z4 z5) hy2 hroom
  refine hv_run5 (va_runF (C := q.1) (As := As) (rest := rest) (hWW.1.1 ci q hc).2 ⟨hx, hbc, hml, hown, hts⟩ hM.2.2 cw ⟨hk_blind _ _, hk_recv hWW hR h100 hc hb, hk_given hWW hR⟩ rfl hn (hl.1.trans hml) rfl (lv_room hr) d ⟨by omega, by omega⟩) hS (fun H1 locs1 hR1 hS1 => kW H1 locs1 _ _ ls hl hR1 hS1 (by omega) (by omega))
/-- a virtual call's answer: one of the classes' own methods (class, name, code, locals) has run -/
def hk_Dm (impl : List (Nat × MethodName × ByteArray × Nat)) (ret' : Option FieldType) (Gd : hk_G) (l : Launch) (FR LO : Nat) (b : Nat) (As : List Value) (st : hk_St) (r : Option Value) (st2 : hk_St) : Prop :=
  ∃ q ∈ impl, hk_bf [q.1] st b = true ∧ ∃ fr' lo' : Nat, hk_Met Gd l q.2.1 q.2.2.1 q.2.2.2 ret' fr' lo' (.ref b :: As) st r st2 ∧ fr' ≤ FR ∧ q.2.2.2 + lo' ≤ LO
theorem hv_callD {impl : List (Nat × MethodName × ByteArray × Nat)} {ret' : Option FieldType} {FR LO n index b : Nat} {x : MethodName} {r : Option Value} {st2 : hk_St} (As rest S2 : List Value) (D : hk_Dm impl ret' Gd N.1 FR LO b As st r st2) (cs : ∀ q ∈ impl, hk_CO N.2.2.1 index q.1 x q.2.1 q.2.2.1 q.2.2.2 ret' n) (hn : As.length = n) (hroom : FR + 1 ≤ N.2.2.2.2.2.1 ∧ 19 + LO ≤ N.2.2.2.2.2.2.1) (hst : S = As.reverse ++ .ref b :: rest) (hr : (rest.map fun v => v.category).sum ≤ 8) (hS2 : r.toList ++ rest = S2) (d : decode N.2.1 pc = .ok (.invokevirtual index, 3))
    (k : hk_V Gd N E (pc + 3) L S2 st2) : hk_V Gd N E pc L S st := by
  obtain ⟨q, hq, hb, fr', lo', hM, h1, h2⟩ := D
  exact hv_callO As rest S2 hM (cs q hq) hb hn ⟨by omega, by omega⟩ hst hr hS2 d k
theorem hv_callDF {impl : List (Nat × MethodName × ByteArray × Nat)} {ret' : Option FieldType} {FR LO n index count b : Nat} {x : MethodName} {r : Option Value} {st2 : hk_St} (As rest S2 : List Value) (D : hk_Dm impl ret' Gd N.1 FR LO b As st r st2) (cs : ∀ q ∈ impl, hk_CF N.2.2.1 index q.1 x q.2.1 q.2.2.1 q.2.2.2 ret' n) (hn : As.length = n) (hroom : FR + 1 ≤ N.2.2.2.2.2.1 ∧ 19 + LO ≤ N.2.2.2.2.2.2.1) (hst : S = As.reverse ++ .ref b :: rest) (hr : (rest.map fun v => v.category).sum ≤ 8) (hS2 : r.toList ++ rest = S2) (d : decode N.2.1 pc = .ok (.invokeinterface index count, 5))
    (k : hk_V Gd N E (pc + 5) L S2 st2) : hk_V Gd N E pc L S st := by
  obtain ⟨q, hq, hb, fr', lo', hM, h1, h2⟩ := D
  exact hv_callF As rest S2 hM (cs q hq) hb hn ⟨by omega, by omega⟩ hst hr hS2 d k
end HKC

/-! ===== HK: the Reader's String constants ===== -/
section HKSTR
variable {Gd : hk_G} {N : hk_N} {E : hk_E} {pc : Nat} {L : List (Nat × Value)} {S : List Value} {st : hk_St}
theorem hk_SS.at {s : State} (h : hk_SS Gd s) (hq : ∀ q : Nat, q < Gd.2.2.1 → s.heap[q]? = Gd.2.2.2.1[q]?) : vk_S 4 hk_sl hk_sb (hk_aK Gd) (hk_aV Gd) (hk_A Gd) s s.heap ∧ va_Z "java/lang/String" "COMPACT_STRINGS" "Z" (.int 1) (hk_A Gd) s s.heap :=
  ⟨h.2.1.kept (fun a h1 _ => hq a (by rw [← h.1]; exact h1)), h.2.2.1.kept (fun a h1 _ => hq a (by rw [← h.1]; exact h1))⟩
theorem hs_ldc {i index : Nat} {tx : String} (hi : i < 4) (hx : hk_sx.getD i (0, "") = (index, tx)) (ho : N.2.2.1 = "HeadReckons$Reader") (d : decode N.2.1 pc = .ok (.ldc index, 2)) (k : hk_V Gd N E (pc + 2) L (.ref (hk_aK Gd i) :: S) st) : hk_V Gd N E pc L S st :=
  ⟨k.1, k.2.1, fun p l e R s m args below meth c X H locs cells slots ls hl hR hS h1 h2 => by
    have hZ := X.2.2.2.2.2.2.2.1.2.2.2.2.2.2.2 i hi
    rw [hx] at hZ
    exact va_ldcS X.1 X.2.1 (by rw [← ho]; exact X.2.2.1) hZ d (k.2.2 p l e R s m args below meth c X H locs cells slots ls hl hR hS h1 h2)⟩
theorem hs_value {i index : Nat} (hi : i < 4) (q : Cond.fieldLink N.2.2.1 index "java/lang/String" "value" "[B" ∈ lw_all) (d : decode N.2.1 pc = .ok (.getfield index, 3)) (k : hk_V Gd N E (pc + 3) L (.ref (hk_aV Gd i) :: S) st) : hk_V Gd N E pc L (.ref (hk_aK Gd i) :: S) st :=
  ⟨k.1, k.2.1, fun p l e R s m args below meth c X H locs cells slots ls hl hR hS h1 h2 => by
    have hZ := ((X.2.2.2.2.2.2.2.1.2.2.2.2.at X.2.2.2.2.2.2.2.2.2.2.2.2.2.2.2).1.1 i hi).2.2.1
    exact vk_getf X.1 X.2.1 hZ hS X.2.2.1 (X.2.2.2.1 _ q) (fun x h => h) d (k.2.2 p l e R s m args below meth c X H locs cells slots ls hl hR hS h1 h2)⟩
theorem hs_coder {i index : Nat} (hi : i < 4) (q : Cond.fieldLink N.2.2.1 index "java/lang/String" "coder" "B" ∈ lw_all) (d : decode N.2.1 pc = .ok (.getfield index, 3)) (k : hk_V Gd N E (pc + 3) L (.int 0 :: S) st) : hk_V Gd N E pc L (.ref (hk_aK Gd i) :: S) st :=
  ⟨k.1, k.2.1, fun p l e R s m args below meth c X H locs cells slots ls hl hR hS h1 h2 => by
    have hZ := ((X.2.2.2.2.2.2.2.1.2.2.2.2.at X.2.2.2.2.2.2.2.2.2.2.2.2.2.2.2).1.1 i hi).2.1
    exact vk_getf X.1 X.2.1 hZ hS X.2.2.1 (X.2.2.2.1 _ q) (fun x h => h) d (k.2.2 p l e R s m args below meth c X H locs cells slots ls hl hR hS h1 h2)⟩
theorem hs_compact {index : Nat} (q : Cond.fieldLink N.2.2.1 index "java/lang/String" "COMPACT_STRINGS" "Z" ∈ lw_all) (d : decode N.2.1 pc = .ok (.getstatic index, 3)) (k : hk_V Gd N E (pc + 3) L (.int 1 :: S) st) : hk_V Gd N E pc L S st :=
  ⟨k.1, k.2.1, fun p l e R s m args below meth c X H locs cells slots ls hl hR hS h1 h2 => by
    have hZ := (X.2.2.2.2.2.2.2.1.2.2.2.2.at X.2.2.2.2.2.2.2.2.2.2.2.2.2.2.2).2
    exact va_gets X.1 X.2.1 hZ hS X.2.2.1 (X.2.2.2.1 _ q) (fun x h => h) d (k.2.2 p l e R s m args below meth c X H locs cells slots ls hl hR hS h1 h2)⟩
def hs_len (i : Nat) : Int32 := Int32.ofNat (hk_sl.getD i 0)
def hs_byt (i j : Nat) : Int32 := (hk_sb.getD i []).getD j 0
theorem hs_alen {i : Nat} (hi : i < 4) (d : decode N.2.1 pc = .ok (.arraylength, 1)) (k : hk_V Gd N E (pc + 1) L (.int (hs_len i) :: S) st) : hk_V Gd N E pc L (.ref (hk_aV Gd i) :: S) st :=
  ⟨k.1, k.2.1, fun p l e R s m args below meth c X H locs cells slots ls hl hR hS h1 h2 => by
    have hZ := ((X.2.2.2.2.2.2.2.1.2.2.2.2.at X.2.2.2.2.2.2.2.2.2.2.2.2.2.2.2).1.1 i hi).2.2.2
    exact va_tlen X.1 X.2.1 hZ hS rfl d (k.2.2 p l e R s m args below meth c X H locs cells slots ls hl hR hS h1 h2)⟩
theorem hs_bald {i : Nat} {j : Int32} (hi : i < 4) (hj : hk_in j (hk_sl.getD i 0) = true) (d : decode N.2.1 pc = .ok (.baload, 1)) (k : hk_V Gd N E (pc + 1) L (.int (hs_byt i j.toNatClampNeg) :: S) st) : hk_V Gd N E pc L (.int j :: .ref (hk_aV Gd i) :: S) st :=
  ⟨k.1, k.2.1, fun p l e R s m args below meth c X H locs cells slots ls hl hR hS h1 h2 => by
    have hZ := ((X.2.2.2.2.2.2.2.1.2.2.2.2.at X.2.2.2.2.2.2.2.2.2.2.2.2.2.2.2).1.1 i hi).2.2.2
    exact va_tb X.1 X.2.1 hZ hS (hk_in_vp hj) rfl d (k.2.2 p l e R s m args below meth c X H locs cells slots ls hl hR hS h1 h2)⟩
/-- a method of String, called on a constant -/
def hk_CVS (own : String) (index : Nat) (y : MethodName) (bytes : ByteArray) (maxL : Nat) (ret : Option FieldType) (n : Nat) : Prop :=
  GoodIn lw_all (wsV own index "java/lang/String" y (ws_ y bytes maxL ret)) ∧ y.cls = "java/lang/String" ∧ y.cls ≠ "java/lang/invoke/MethodHandle" ∧ y.cls ≠ "java/lang/invoke/VarHandle" ∧ (parseMethodDescriptor y.desc).map (fun d => d.parameters.length) = some n
theorem hv_callVS {y : MethodName} {bytes : ByteArray} {maxL fr' lo' n index : Nat} {r : Option Value} {st2 : hk_St} {ret' : Option FieldType} {i : Nat} (As rest S2 : List Value) (hM : hk_Met Gd N.1 y bytes maxL ret' fr' lo' (.ref (hk_aK Gd i) :: As) st r st2) (cs : hk_CVS N.2.2.1 index y bytes maxL ret' n) (hi : i < 4) (hn : As.length = n) (hroom : fr' + 1 ≤ N.2.2.2.2.2.1 ∧ 8 + (maxL + 11) + lo' ≤ N.2.2.2.2.2.2.1) (hst : S = As.reverse ++ .ref (hk_aK Gd i) :: rest) (hr : (rest.map fun v => v.category).sum ≤ 8) (hS2 : r.toList ++ rest = S2) (d : decode N.2.1 pc = .ok (.invokevirtual index, 3))
    (k : hk_V Gd N E (pc + 3) L S2 st2) : hk_V Gd N E pc L S st := by
  subst hst
  subst hS2
  refine ⟨Nat.le_trans hM.1 k.1, Nat.le_trans hM.2.1 k.2.1, fun p l e R s m args below meth c X H locs cells slots ls hl hR hS h1 h2 => ?_⟩
  have kW := k.2.2 p l e R s m args below meth c X
  have k1 := k.1
  have k2 := k.2.1
  obtain ⟨hx, hbc, hown, hts, -, -, hml, hWW, hfr, hlo, hN1, hN2, -, hl', -, hz⟩ := X
  subst hl'
  have g1 := hM.1
  have g2 := hM.2.1
  rw [← hfr, ← hlo] at hroom
  obtain ⟨hg, hy, hy2⟩ := cs
  have cw := cwV (R := R) (rm := { frames := fr', cells := hk_nc st2 - hk_nc st, slots := hk_ns st2 - hk_ns st, locals := lo' }) n hts hg rfl rfl rfl ⟨hy, hy2⟩ hroom
  refine hv_run (va_runV (As := As) (rest := rest) (⟨hx, hbc, hml, hown, hts⟩) hM.2.2 cw ⟨hk_blind _ _, vk_recv (hWW.2.2.2.2.at hz).1 hi hS, hk_given hWW hR⟩ rfl hn (hl.1.trans hml) rfl (lv_room hr) d ⟨by omega, by omega⟩) hS (fun H1 locs1 hR1 hS1 => kW H1 locs1 _ _ ls hl hR1 hS1 (by omega) (by omega))
end HKSTR

/-! ===== HK: the reference's own state: int fields, int arrays, the long field, long arrays ===== -/
abbrev hk_Ms : Type := (Nat → Int32) × (Nat → Nat → Int32) × (Nat → Int64) × (Nat → Nat → Int64)
def hm_I (s : hk_Ms) (f : Nat) : Int32 := s.1 f
def hm_A (s : hk_Ms) (j i : Nat) : Int32 := s.2.1 j i
def hm_L (s : hk_Ms) (f : Nat) : Int64 := s.2.2.1 f
def hm_B (s : hk_Ms) (j i : Nat) : Int64 := s.2.2.2 j i
def hm_sI (s : hk_Ms) (f : Nat) (v : Int32) : hk_Ms := (fun g => if g = f then v else s.1 g, s.2)
def hm_sA (s : hk_Ms) (j i : Nat) (v : Int32) : hk_Ms := (s.1, hk_u2 s.2.1 j i v, s.2.2)
def hm_sL (s : hk_Ms) (f : Nat) (v : Int64) : hk_Ms := (s.1, s.2.1, fun g => if g = f then v else s.2.2.1 g, s.2.2.2)
def hm_sB (s : hk_Ms) (j i : Nat) (v : Int64) : hk_Ms := (s.1, s.2.1, s.2.2.1, hk_u2 s.2.2.2 j i v)
def hm_lI (s : hk_Ms) (j n : Nat) (i : Int32) : Option Int32 := if hk_in i n = true then some (hm_A s j i.toNatClampNeg) else none
def hm_lL (s : hk_Ms) (j n : Nat) (i : Int32) : Option Int64 := if hk_in i n = true then some (hm_B s j i.toNatClampNeg) else none
def hm_tI (s : hk_Ms) (j n : Nat) (i : Int32) (v : Int32) : Option hk_Ms := if hk_in i n = true then some (hm_sA s j i.toNatClampNeg v) else none
def hm_tL (s : hk_Ms) (j n : Nat) (i : Int32) (v : Int64) : Option hk_Ms := if hk_in i n = true then some (hm_sB s j i.toNatClampNeg v) else none
/-- the arrays: their fields, their lengths, in the order in which the constructor makes them -/
def hk_mar : List (Nat × Nat) := [(0, 30), (1, 40), (2, 40), (3, 40), (6, 120), (8, 120), (15, 8), (17, 5), (18, 6), (19, 360), (20, 360), (22, 200), (23, 200), (24, 200), (25, 200), (26, 200), (27, 200), (32, 4), (34, 40), (35, 40), (36, 40), (38, 8), (39, 60), (41, 5), (46, 50), (47, 24), (51, 6), (52, 6), (53, 360), (54, 60)]
def hk_mf (j : Nat) : Nat := (hk_mar.getD j (0, 0)).1
def hk_ml (j : Nat) : Nat := (hk_mar.getD j (0, 0)).2
/-- the reference's state s, put into the idealised state st at the object m0 and the arrays m0 + 1 .. m0 + 30 -/
def hk_mU (m0 : Nat) (st : hk_St) (s : hk_Ms) : hk_St :=
  (st.1, fun f a => if a = m0 ∧ 400 ≤ f then s.1 (f - 400) else st.2.1 f a, fun f a => if a = m0 ∧ 400 ≤ f then s.2.2.1 (f - 400) else st.2.2.1 f a, st.2.2.2.1,
   fun a i => if m0 < a ∧ a ≤ m0 + 30 then s.2.1 (a - (m0 + 1)) i else st.2.2.2.2.1 a i, fun a i => if m0 < a ∧ a ≤ m0 + 30 then s.2.2.2 (a - (m0 + 1)) i else st.2.2.2.2.2.1 a i, st.2.2.2.2.2.2)
def hk_KM (m0 : Nat) (st : hk_St) : Prop := hk_k st m0 = some (4, 0) ∧ ∀ j, j < 30 → hk_k st (m0 + (j + 1)) = some (if j < 28 then 100 else 104, hk_ml j) ∧ hk_fR st (400 + hk_mf j) m0 = some (m0 + (j + 1))
section HKM
variable {Gd : hk_G} {N : hk_N} {E : hk_E} {pc : Nat} {L : List (Nat × Value)} {S : List Value} {st : hk_St} {m0 : Nat} {s s' : hk_Ms}
theorem hk_KM.recv (K : hk_KM m0 st) : hk_bf [4] (hk_mU m0 st s) m0 = true := by
  have : hk_k (hk_mU m0 st s) m0 = some (4, 0) := K.1
  simp [hk_bf, this]
theorem hm_getI {f index : Nat} (K : hk_KM m0 st) (fl : hk_FL N.2.2.1 index (400 + f) 0 [4]) (d : decode N.2.1 pc = .ok (.getfield index, 3)) (k : hk_V Gd N E (pc + 3) L (.int (hm_I s f) :: S) (hk_mU m0 st s)) : hk_V Gd N E pc L (.ref m0 :: S) (hk_mU m0 st s) := by
  refine hv_getI fl ?_ d k
  have : hk_fI (hk_mU m0 st s) (400 + f) m0 = hm_I s f := by simp [hk_fI, hk_mU, hm_I]
  rw [hk_gI, if_pos K.recv, this]
theorem hm_getL {f index : Nat} (K : hk_KM m0 st) (fl : hk_FL N.2.2.1 index (400 + f) 1 [4]) (d : decode N.2.1 pc = .ok (.getfield index, 3)) (k : hk_V Gd N E (pc + 3) L (.long (hm_L s f) :: S) (hk_mU m0 st s)) : hk_V Gd N E pc L (.ref m0 :: S) (hk_mU m0 st s) := by
  refine hv_getL fl ?_ d k
  have : hk_fL (hk_mU m0 st s) (400 + f) m0 = hm_L s f := by simp [hk_fL, hk_mU, hm_L]
  rw [hk_gL, if_pos K.recv, this]
theorem hm_getA {f index : Nat} (j : Nat) (K : hk_KM m0 st) (fl : hk_FL N.2.2.1 index f 2 [4]) (hf : f = 400 + hk_mf j) (hj : j < 30) (d : decode N.2.1 pc = .ok (.getfield index, 3)) (k : hk_V Gd N E (pc + 3) L (.ref (m0 + (j + 1)) :: S) (hk_mU m0 st s)) : hk_V Gd N E pc L (.ref m0 :: S) (hk_mU m0 st s) := by
  subst hf
  refine hv_getR (x := some (m0 + (j + 1))) fl ?_ d k
  have : hk_fR (hk_mU m0 st s) (400 + hk_mf j) m0 = some (m0 + (j + 1)) := (K.2 j hj).2
  rw [hk_gR, if_pos K.recv, this]
theorem hk_mU_sI {f : Nat} {v : Int32} : hk_sfI (hk_mU m0 st s) (400 + f) m0 v = hk_mU m0 st (hm_sI s f v) := by
  unfold hk_sfI hk_mU hm_sI hk_u2
  simp only [Prod.mk.injEq, true_and, and_true]
  funext g a
  by_cases h1 : a = m0
  · by_cases h2 : 400 ≤ g
    · by_cases h3 : g = 400 + f
      · subst h3; simp [h1]
      · have : ¬ g - 400 = f := by omega
        simp [h1, h2, h3, this]
    · have : ¬ g = 400 + f := by omega
      simp [h2, this]
  · simp [h1]
theorem hk_mU_sL {f : Nat} {v : Int64} : hk_sfL (hk_mU m0 st s) (400 + f) m0 v = hk_mU m0 st (hm_sL s f v) := by
  unfold hk_sfL hk_mU hm_sL hk_u2
  simp only [Prod.mk.injEq, true_and, and_true]
  funext g a
  by_cases h1 : a = m0
  · by_cases h2 : 400 ≤ g
    · by_cases h3 : g = 400 + f
      · subst h3; simp [h1]
      · have : ¬ g - 400 = f := by omega
        simp [h1, h2, h3, this]
    · have : ¬ g = 400 + f := by omega
      simp [h2, this]
  · simp [h1]
theorem hk_mU_sA {j i : Nat} (hj : j < 30) {v : Int32} : hk_saI (hk_mU m0 st s) (m0 + (j + 1)) i v = hk_mU m0 st (hm_sA s j i v) := by
  unfold hk_saI hk_mU hm_sA hk_u2
  simp only [Prod.mk.injEq, true_and, and_true]
  funext a q
  by_cases h1 : m0 < a ∧ a ≤ m0 + 30
  · by_cases h2 : a = m0 + (j + 1)
    · subst h2
      have : m0 + (j + 1) - (m0 + 1) = j := by omega
      simp [h1, this]
    · have : ¬ a - (m0 + 1) = j := by omega
      simp [h1, h2, this]
  · have : ¬ a = m0 + (j + 1) := by omega
    simp [h1, this]
theorem hk_mU_sB {j i : Nat} (hj : j < 30) {v : Int64} : hk_saL (hk_mU m0 st s) (m0 + (j + 1)) i v = hk_mU m0 st (hm_sB s j i v) := by
  unfold hk_saL hk_mU hm_sB hk_u2
  simp only [Prod.mk.injEq, true_and, and_true]
  funext a q
  by_cases h1 : m0 < a ∧ a ≤ m0 + 30
  · by_cases h2 : a = m0 + (j + 1)
    · subst h2
      have : m0 + (j + 1) - (m0 + 1) = j := by omega
      simp [h1, this]
    · have : ¬ a - (m0 + 1) = j := by omega
      simp [h1, h2, this]
  · have : ¬ a = m0 + (j + 1) := by omega
    simp [h1, this]
theorem hm_putI {f index : Nat} {v : Int32} (K : hk_KM m0 st) (fl : hk_FP N.2.2.1 index (400 + f) 0 [4] false) (e : s' = hm_sI s f v) (d : decode N.2.1 pc = .ok (.putfield index, 3)) (k : hk_V Gd N E (pc + 3) L S (hk_mU m0 st s')) : hk_V Gd N E pc L (.int v :: .ref m0 :: S) (hk_mU m0 st s) := by
  subst e
  refine hv_putI fl ?_ (fun h => by cases h) d k
  rw [hk_pI, if_pos K.recv, hk_mU_sI]
theorem hm_putL {f index : Nat} {v : Int64} (K : hk_KM m0 st) (fl : hk_FP N.2.2.1 index (400 + f) 1 [4] false) (e : s' = hm_sL s f v) (d : decode N.2.1 pc = .ok (.putfield index, 3)) (k : hk_V Gd N E (pc + 3) L S (hk_mU m0 st s')) : hk_V Gd N E pc L (.long v :: .ref m0 :: S) (hk_mU m0 st s) := by
  subst e
  refine hv_putL fl ?_ (fun h => by cases h) d k
  rw [hk_pL, if_pos K.recv, hk_mU_sL]
theorem hk_mU_ba {j n : Nat} {i : Int32} {ty : Nat} (K : hk_KM m0 st) (hj : j < 30) (hn : hk_ml j = n) (ht : (if j < 28 then 100 else 104) = 100 + ty) (h : hk_in i n = true) : hk_ba ty (hk_mU m0 st s) (m0 + (j + 1)) i = true := by
  have e : hk_k (hk_mU m0 st s) (m0 + (j + 1)) = some (100 + ty, n) := by
    rw [← ht, ← hn]; exact (K.2 j hj).1
  simp [hk_ba, e, h]
theorem hm_iaload {j n : Nat} {i x : Int32} (K : hk_KM m0 st) (h : hm_lI s j n i = some x) (hj : j < 28) (hn : hk_ml j = n) (d : decode N.2.1 pc = .ok (.iaload, 1)) (k : hk_V Gd N E (pc + 1) L (.int x :: S) (hk_mU m0 st s)) : hk_V Gd N E pc L (.int i :: .ref (m0 + (j + 1)) :: S) (hk_mU m0 st s) := by
  obtain ⟨hb, rfl⟩ := hq_i h
  refine hv_iald ?_ d k
  rw [hk_lI, if_pos (hk_mU_ba K (by omega) hn (by simp [hj]) hb)]
  have h1 : m0 < m0 + (j + 1) ∧ m0 + (j + 1) ≤ m0 + 30 := by omega
  have h2 : m0 + (j + 1) - (m0 + 1) = j := by omega
  simp [hk_aI, hk_mU, hm_A, h1, h2]
theorem hm_laload {j n : Nat} {i : Int32} {x : Int64} (K : hk_KM m0 st) (h : hm_lL s j n i = some x) (hj : 28 ≤ j ∧ j < 30) (hn : hk_ml j = n) (d : decode N.2.1 pc = .ok (.laload, 1)) (k : hk_V Gd N E (pc + 1) L (.long x :: S) (hk_mU m0 st s)) : hk_V Gd N E pc L (.int i :: .ref (m0 + (j + 1)) :: S) (hk_mU m0 st s) := by
  obtain ⟨hb, rfl⟩ := hq_i h
  refine hv_lald ?_ d k
  have h0 : ¬ j < 28 := by omega
  rw [hk_lL, if_pos (hk_mU_ba K (by omega) hn (by simp [h0]) hb)]
  have h1 : m0 < m0 + (j + 1) ∧ m0 + (j + 1) ≤ m0 + 30 := by omega
  have h2 : m0 + (j + 1) - (m0 + 1) = j := by omega
  simp [hk_aL, hk_mU, hm_B, h1, h2]
theorem hm_iastore {j n : Nat} {i x : Int32} (K : hk_KM m0 st) (h : hm_tI s j n i x = some s') (hj : j < 28) (hn : hk_ml j = n) (d : decode N.2.1 pc = .ok (.iastore, 1)) (k : hk_V Gd N E (pc + 1) L S (hk_mU m0 st s')) : hk_V Gd N E pc L (.int x :: .int i :: .ref (m0 + (j + 1)) :: S) (hk_mU m0 st s) := by
  obtain ⟨hb, rfl⟩ := hq_i h
  refine hv_iast ?_ d k
  rw [hk_tI, if_pos (hk_mU_ba K (by omega) hn (by simp [hj]) hb), ← hk_mU_sA (by omega)]
  rfl
theorem hm_lastore {j n : Nat} {i : Int32} {x : Int64} (K : hk_KM m0 st) (h : hm_tL s j n i x = some s') (hj : 28 ≤ j ∧ j < 30) (hn : hk_ml j = n) (d : decode N.2.1 pc = .ok (.lastore, 1)) (k : hk_V Gd N E (pc + 1) L S (hk_mU m0 st s')) : hk_V Gd N E pc L (.long x :: .int i :: .ref (m0 + (j + 1)) :: S) (hk_mU m0 st s) := by
  obtain ⟨hb, rfl⟩ := hq_i h
  refine hv_last ?_ d k
  have h0 : ¬ j < 28 := by omega
  rw [hk_tL, if_pos (hk_mU_ba K (by omega) hn (by simp [h0]) hb), ← hk_mU_sB (by omega)]
theorem hk_nz {x : Int32} (h : x &&& 1 = x) : narrow .boolean (.int x) = .int x := by
  show Value.int (x &&& 1) = _
  rw [h]
end HKM

theorem hk_ok0 : hk_ok 0 (RX0, TX0, 23) := by
  refine ⟨in_X0, ⟨tyX0, tyX0_ok, ?_⟩, ?_, ?_⟩
  · exact fun k hk => match k, hk with
    | 0, _ => Or.inr (Or.inr (Or.inr ⟨rfl, Or.inr ⟨_, rfl⟩⟩))
    | 1, _ => Or.inl ⟨rfl, rfl⟩
    | 2, _ => Or.inr (Or.inr (Or.inr ⟨rfl, Or.inr ⟨_, rfl⟩⟩))
    | 3, _ => Or.inl ⟨rfl, rfl⟩
    | 4, _ => Or.inr (Or.inr (Or.inr ⟨rfl, Or.inr ⟨_, rfl⟩⟩))
    | 5, _ => Or.inl ⟨rfl, rfl⟩
    | 6, _ => Or.inl ⟨rfl, rfl⟩
    | 7, _ => Or.inr (Or.inr (Or.inr ⟨rfl, Or.inl ⟨_, rfl⟩⟩))
    | 8, _ => Or.inr (Or.inr (Or.inr ⟨rfl, Or.inl ⟨_, rfl⟩⟩))
    | 9, _ => Or.inr (Or.inr (Or.inr ⟨rfl, Or.inl ⟨_, rfl⟩⟩))
    | 10, _ => Or.inr (Or.inr (Or.inr ⟨rfl, Or.inr ⟨_, rfl⟩⟩))
    | 11, _ => Or.inl ⟨rfl, rfl⟩
    | 12, _ => Or.inr (Or.inr (Or.inr ⟨rfl, Or.inr ⟨_, rfl⟩⟩))
    | 13, _ => Or.inl ⟨rfl, rfl⟩
    | 14, _ => Or.inr (Or.inr (Or.inr ⟨rfl, Or.inl ⟨_, rfl⟩⟩))
    | 15, _ => Or.inl ⟨rfl, rfl⟩
    | 16, _ => Or.inl ⟨rfl, rfl⟩
    | 17, _ => Or.inr (Or.inl ⟨rfl, rfl⟩)
    | 18, _ => Or.inl ⟨rfl, rfl⟩
    | 19, _ => Or.inr (Or.inr (Or.inr ⟨rfl, Or.inr ⟨_, rfl⟩⟩))
    | 20, _ => Or.inr (Or.inr (Or.inr ⟨rfl, Or.inr ⟨_, rfl⟩⟩))
    | 21, _ => Or.inl ⟨rfl, rfl⟩
    | 22, _ => Or.inr (Or.inr (Or.inr ⟨rfl, Or.inr ⟨_, rfl⟩⟩))
    | k + 23, hk => absurd hk (by simp)
  · decide +kernel
  · decide +kernel
theorem hk_ok1 : hk_ok 1 (RX1, TX1, 1) := by
  refine ⟨in_X1, ⟨tyX1, tyX1_ok, ?_⟩, ?_, ?_⟩
  · exact fun k hk => match k, hk with
    | 0, _ => Or.inr (Or.inr (Or.inr ⟨rfl, Or.inr ⟨_, rfl⟩⟩))
    | k + 1, hk => absurd hk (by simp)
  · decide +kernel
  · decide +kernel
theorem hk_ok2 : hk_ok 2 (RX2, TX2, 16) := by
  refine ⟨in_X2, ⟨tyX2, tyX2_ok, ?_⟩, ?_, ?_⟩
  · exact fun k hk => match k, hk with
    | 0, _ => Or.inr (Or.inr (Or.inr ⟨rfl, Or.inr ⟨_, rfl⟩⟩))
    | 1, _ => Or.inr (Or.inr (Or.inr ⟨rfl, Or.inr ⟨_, rfl⟩⟩))
    | 2, _ => Or.inr (Or.inr (Or.inr ⟨rfl, Or.inr ⟨_, rfl⟩⟩))
    | 3, _ => Or.inr (Or.inr (Or.inr ⟨rfl, Or.inr ⟨_, rfl⟩⟩))
    | 4, _ => Or.inr (Or.inr (Or.inr ⟨rfl, Or.inr ⟨_, rfl⟩⟩))
    | 5, _ => Or.inr (Or.inr (Or.inr ⟨rfl, Or.inr ⟨_, rfl⟩⟩))
    | 6, _ => Or.inl ⟨rfl, rfl⟩
    | 7, _ => Or.inl ⟨rfl, rfl⟩
    | 8, _ => Or.inl ⟨rfl, rfl⟩
    | 9, _ => Or.inl ⟨rfl, rfl⟩
    | 10, _ => Or.inr (Or.inl ⟨rfl, rfl⟩)
    | 11, _ => Or.inr (Or.inl ⟨rfl, rfl⟩)
    | 12, _ => Or.inr (Or.inr (Or.inl ⟨rfl, rfl⟩))
    | 13, _ => Or.inr (Or.inr (Or.inr ⟨rfl, Or.inl ⟨_, rfl⟩⟩))
    | 14, _ => Or.inr (Or.inr (Or.inr ⟨rfl, Or.inr ⟨_, rfl⟩⟩))
    | 15, _ => Or.inr (Or.inr (Or.inr ⟨rfl, Or.inl ⟨_, rfl⟩⟩))
    | k + 16, hk => absurd hk (by simp)
  · decide +kernel
  · decide +kernel
theorem hk_ok3 : hk_ok 3 (RX3, TX3, 3) := by
  refine ⟨in_X3, ⟨tyX3, tyX3_ok, ?_⟩, ?_, ?_⟩
  · exact fun k hk => match k, hk with
    | 0, _ => Or.inr (Or.inr (Or.inr ⟨rfl, Or.inr ⟨_, rfl⟩⟩))
    | 1, _ => Or.inr (Or.inr (Or.inr ⟨rfl, Or.inr ⟨_, rfl⟩⟩))
    | 2, _ => Or.inl ⟨rfl, rfl⟩
    | k + 3, hk => absurd hk (by simp)
  · decide +kernel
  · decide +kernel
theorem hk_ok4 : hk_ok 4 (RX4, TX4, 55) := by
  refine ⟨in_X4, ⟨tyX4, tyX4_ok, ?_⟩, ?_, ?_⟩
  · exact fun k hk => match k, hk with
    | 0, _ => Or.inr (Or.inr (Or.inr ⟨rfl, Or.inr ⟨_, rfl⟩⟩))
    | 1, _ => Or.inr (Or.inr (Or.inr ⟨rfl, Or.inr ⟨_, rfl⟩⟩))
    | 2, _ => Or.inr (Or.inr (Or.inr ⟨rfl, Or.inr ⟨_, rfl⟩⟩))
    | 3, _ => Or.inr (Or.inr (Or.inr ⟨rfl, Or.inr ⟨_, rfl⟩⟩))
    | 4, _ => Or.inl ⟨rfl, rfl⟩
    | 5, _ => Or.inl ⟨rfl, rfl⟩
    | 6, _ => Or.inr (Or.inr (Or.inr ⟨rfl, Or.inr ⟨_, rfl⟩⟩))
    | 7, _ => Or.inl ⟨rfl, rfl⟩
    | 8, _ => Or.inr (Or.inr (Or.inr ⟨rfl, Or.inr ⟨_, rfl⟩⟩))
    | 9, _ => Or.inl ⟨rfl, rfl⟩
    | 10, _ => Or.inl ⟨rfl, rfl⟩
    | 11, _ => Or.inl ⟨rfl, rfl⟩
    | 12, _ => Or.inl ⟨rfl, rfl⟩
    | 13, _ => Or.inl ⟨rfl, rfl⟩
    | 14, _ => Or.inl ⟨rfl, rfl⟩
    | 15, _ => Or.inr (Or.inr (Or.inr ⟨rfl, Or.inr ⟨_, rfl⟩⟩))
    | 16, _ => Or.inl ⟨rfl, rfl⟩
    | 17, _ => Or.inr (Or.inr (Or.inr ⟨rfl, Or.inr ⟨_, rfl⟩⟩))
    | 18, _ => Or.inr (Or.inr (Or.inr ⟨rfl, Or.inr ⟨_, rfl⟩⟩))
    | 19, _ => Or.inr (Or.inr (Or.inr ⟨rfl, Or.inr ⟨_, rfl⟩⟩))
    | 20, _ => Or.inr (Or.inr (Or.inr ⟨rfl, Or.inr ⟨_, rfl⟩⟩))
    | 21, _ => Or.inl ⟨rfl, rfl⟩
    | 22, _ => Or.inr (Or.inr (Or.inr ⟨rfl, Or.inr ⟨_, rfl⟩⟩))
    | 23, _ => Or.inr (Or.inr (Or.inr ⟨rfl, Or.inr ⟨_, rfl⟩⟩))
    | 24, _ => Or.inr (Or.inr (Or.inr ⟨rfl, Or.inr ⟨_, rfl⟩⟩))
    | 25, _ => Or.inr (Or.inr (Or.inr ⟨rfl, Or.inr ⟨_, rfl⟩⟩))
    | 26, _ => Or.inr (Or.inr (Or.inr ⟨rfl, Or.inr ⟨_, rfl⟩⟩))
    | 27, _ => Or.inr (Or.inr (Or.inr ⟨rfl, Or.inr ⟨_, rfl⟩⟩))
    | 28, _ => Or.inl ⟨rfl, rfl⟩
    | 29, _ => Or.inl ⟨rfl, rfl⟩
    | 30, _ => Or.inl ⟨rfl, rfl⟩
    | 31, _ => Or.inl ⟨rfl, rfl⟩
    | 32, _ => Or.inr (Or.inr (Or.inr ⟨rfl, Or.inr ⟨_, rfl⟩⟩))
    | 33, _ => Or.inl ⟨rfl, rfl⟩
    | 34, _ => Or.inr (Or.inr (Or.inr ⟨rfl, Or.inr ⟨_, rfl⟩⟩))
    | 35, _ => Or.inr (Or.inr (Or.inr ⟨rfl, Or.inr ⟨_, rfl⟩⟩))
    | 36, _ => Or.inr (Or.inr (Or.inr ⟨rfl, Or.inr ⟨_, rfl⟩⟩))
    | 37, _ => Or.inl ⟨rfl, rfl⟩
    | 38, _ => Or.inr (Or.inr (Or.inr ⟨rfl, Or.inr ⟨_, rfl⟩⟩))
    | 39, _ => Or.inr (Or.inr (Or.inr ⟨rfl, Or.inr ⟨_, rfl⟩⟩))
    | 40, _ => Or.inl ⟨rfl, rfl⟩
    | 41, _ => Or.inr (Or.inr (Or.inr ⟨rfl, Or.inr ⟨_, rfl⟩⟩))
    | 42, _ => Or.inl ⟨rfl, rfl⟩
    | 43, _ => Or.inl ⟨rfl, rfl⟩
    | 44, _ => Or.inr (Or.inl ⟨rfl, rfl⟩)
    | 45, _ => Or.inl ⟨rfl, rfl⟩
    | 46, _ => Or.inr (Or.inr (Or.inr ⟨rfl, Or.inr ⟨_, rfl⟩⟩))
    | 47, _ => Or.inr (Or.inr (Or.inr ⟨rfl, Or.inr ⟨_, rfl⟩⟩))
    | 48, _ => Or.inl ⟨rfl, rfl⟩
    | 49, _ => Or.inl ⟨rfl, rfl⟩
    | 50, _ => Or.inl ⟨rfl, rfl⟩
    | 51, _ => Or.inr (Or.inr (Or.inr ⟨rfl, Or.inr ⟨_, rfl⟩⟩))
    | 52, _ => Or.inr (Or.inr (Or.inr ⟨rfl, Or.inr ⟨_, rfl⟩⟩))
    | 53, _ => Or.inr (Or.inr (Or.inr ⟨rfl, Or.inr ⟨_, rfl⟩⟩))
    | 54, _ => Or.inr (Or.inr (Or.inr ⟨rfl, Or.inr ⟨_, rfl⟩⟩))
    | k + 55, hk => absurd hk (by simp)
  · decide +kernel
  · decide +kernel
theorem hk_ok5 : hk_ok 5 (RX5, TX5, 4) := by
  refine ⟨in_X5, ⟨tyX5, tyX5_ok, ?_⟩, ?_, ?_⟩
  · exact fun k hk => match k, hk with
    | 0, _ => Or.inr (Or.inr (Or.inr ⟨rfl, Or.inl ⟨_, rfl⟩⟩))
    | 1, _ => Or.inl ⟨rfl, rfl⟩
    | 2, _ => Or.inl ⟨rfl, rfl⟩
    | 3, _ => Or.inl ⟨rfl, rfl⟩
    | k + 4, hk => absurd hk (by simp)
  · decide +kernel
  · decide +kernel
theorem hk_ok6 : hk_ok 6 (RX6, TX6, 4) := by
  refine ⟨in_X6, ⟨tyX6, tyX6_ok, ?_⟩, ?_, ?_⟩
  · exact fun k hk => match k, hk with
    | 0, _ => Or.inl ⟨rfl, rfl⟩
    | 1, _ => Or.inl ⟨rfl, rfl⟩
    | 2, _ => Or.inl ⟨rfl, rfl⟩
    | 3, _ => Or.inr (Or.inr (Or.inr ⟨rfl, Or.inl ⟨_, rfl⟩⟩))
    | k + 4, hk => absurd hk (by simp)
  · decide +kernel
  · decide +kernel
theorem hk_ok7 : hk_ok 7 (RX7, TX7, 3) := by
  refine ⟨in_X7, ⟨tyX7, tyX7_ok, ?_⟩, ?_, ?_⟩
  · exact fun k hk => match k, hk with
    | 0, _ => Or.inr (Or.inr (Or.inr ⟨rfl, Or.inl ⟨_, rfl⟩⟩))
    | 1, _ => Or.inr (Or.inr (Or.inr ⟨rfl, Or.inl ⟨_, rfl⟩⟩))
    | 2, _ => Or.inr (Or.inr (Or.inr ⟨rfl, Or.inl ⟨_, rfl⟩⟩))
    | k + 3, hk => absurd hk (by simp)
  · decide +kernel
  · decide +kernel
theorem hk_ok8 : hk_ok 8 (RX9, TX9, 1) := by
  refine ⟨in_X9, ⟨tyX9, tyX9_ok, ?_⟩, ?_, ?_⟩
  · exact fun k hk => match k, hk with
    | 0, _ => Or.inl ⟨rfl, rfl⟩
    | k + 1, hk => absurd hk (by simp)
  · decide +kernel
  · decide +kernel
theorem hk_ok9 : hk_ok 9 (RX10, TX10, 1) := by
  refine ⟨in_X10, ⟨tyX10, tyX10_ok, ?_⟩, ?_, ?_⟩
  · exact fun k hk => match k, hk with
    | 0, _ => Or.inr (Or.inr (Or.inr ⟨rfl, Or.inl ⟨_, rfl⟩⟩))
    | k + 1, hk => absurd hk (by simp)
  · decide +kernel
  · decide +kernel
theorem hk_ok10 : hk_ok 10 (RX11, TX11, 1) := by
  refine ⟨in_X11, ⟨tyX11, tyX11_ok, ?_⟩, ?_, ?_⟩
  · exact fun k hk => match k, hk with
    | 0, _ => Or.inr (Or.inr (Or.inr ⟨rfl, Or.inl ⟨_, rfl⟩⟩))
    | k + 1, hk => absurd hk (by simp)
  · decide +kernel
  · decide +kernel
theorem hk_ok11 : hk_ok 11 (RX12, TX12, 1) := by
  refine ⟨in_X12, ⟨tyX12, tyX12_ok, ?_⟩, ?_, ?_⟩
  · exact fun k hk => match k, hk with
    | 0, _ => Or.inl ⟨rfl, rfl⟩
    | k + 1, hk => absurd hk (by simp)
  · decide +kernel
  · decide +kernel
theorem hk_ok12 : hk_ok 12 (RX13, TX13, 3) := by
  refine ⟨in_X13, ⟨tyX13, tyX13_ok, ?_⟩, ?_, ?_⟩
  · exact fun k hk => match k, hk with
    | 0, _ => Or.inl ⟨rfl, rfl⟩
    | 1, _ => Or.inr (Or.inr (Or.inr ⟨rfl, Or.inl ⟨_, rfl⟩⟩))
    | 2, _ => Or.inr (Or.inr (Or.inr ⟨rfl, Or.inl ⟨_, rfl⟩⟩))
    | k + 3, hk => absurd hk (by simp)
  · decide +kernel
  · decide +kernel
theorem hk_ok13 : hk_ok 13 (RX14, TX14, 4) := by
  refine ⟨in_X14, ⟨tyX14, tyX14_ok, ?_⟩, ?_, ?_⟩
  · exact fun k hk => match k, hk with
    | 0, _ => Or.inl ⟨rfl, rfl⟩
    | 1, _ => Or.inl ⟨rfl, rfl⟩
    | 2, _ => Or.inl ⟨rfl, rfl⟩
    | 3, _ => Or.inl ⟨rfl, rfl⟩
    | k + 4, hk => absurd hk (by simp)
  · decide +kernel
  · decide +kernel
theorem hk_ok14 : hk_ok 14 (RX15, TX15, 3) := by
  refine ⟨in_X15, ⟨tyX15, tyX15_ok, ?_⟩, ?_, ?_⟩
  · exact fun k hk => match k, hk with
    | 0, _ => Or.inl ⟨rfl, rfl⟩
    | 1, _ => Or.inl ⟨rfl, rfl⟩
    | 2, _ => Or.inl ⟨rfl, rfl⟩
    | k + 3, hk => absurd hk (by simp)
  · decide +kernel
  · decide +kernel
theorem hk_ok15 : hk_ok 15 (RX17, TX17, 2) := by
  refine ⟨in_X17, ⟨tyX17, tyX17_ok, ?_⟩, ?_, ?_⟩
  · exact fun k hk => match k, hk with
    | 0, _ => Or.inl ⟨rfl, rfl⟩
    | 1, _ => Or.inr (Or.inr (Or.inr ⟨rfl, Or.inl ⟨_, rfl⟩⟩))
    | k + 2, hk => absurd hk (by simp)
  · decide +kernel
  · decide +kernel
theorem hk_ok16 : hk_ok 16 (RX18, TX18, 3) := by
  refine ⟨in_X18, ⟨tyX18, tyX18_ok, ?_⟩, ?_, ?_⟩
  · exact fun k hk => match k, hk with
    | 0, _ => Or.inl ⟨rfl, rfl⟩
    | 1, _ => Or.inr (Or.inr (Or.inr ⟨rfl, Or.inl ⟨_, rfl⟩⟩))
    | 2, _ => Or.inr (Or.inr (Or.inr ⟨rfl, Or.inl ⟨_, rfl⟩⟩))
    | k + 3, hk => absurd hk (by simp)
  · decide +kernel
  · decide +kernel
theorem hk_ok17 : hk_ok 17 (RX19, TX19, 3) := by
  refine ⟨in_X19, ⟨tyX19, tyX19_ok, ?_⟩, ?_, ?_⟩
  · exact fun k hk => match k, hk with
    | 0, _ => Or.inl ⟨rfl, rfl⟩
    | 1, _ => Or.inr (Or.inr (Or.inr ⟨rfl, Or.inl ⟨_, rfl⟩⟩))
    | 2, _ => Or.inr (Or.inr (Or.inr ⟨rfl, Or.inl ⟨_, rfl⟩⟩))
    | k + 3, hk => absurd hk (by simp)
  · decide +kernel
  · decide +kernel
theorem hk_ok18 : hk_ok 18 (RX20, TX20, 4) := by
  refine ⟨in_X20, ⟨tyX20, tyX20_ok, ?_⟩, ?_, ?_⟩
  · exact fun k hk => match k, hk with
    | 0, _ => Or.inl ⟨rfl, rfl⟩
    | 1, _ => Or.inr (Or.inr (Or.inr ⟨rfl, Or.inl ⟨_, rfl⟩⟩))
    | 2, _ => Or.inr (Or.inr (Or.inr ⟨rfl, Or.inl ⟨_, rfl⟩⟩))
    | 3, _ => Or.inr (Or.inr (Or.inr ⟨rfl, Or.inl ⟨_, rfl⟩⟩))
    | k + 4, hk => absurd hk (by simp)
  · decide +kernel
  · decide +kernel
theorem hk_ok19 : hk_ok 19 (RX21, TX21, 3) := by
  refine ⟨in_X21, ⟨tyX21, tyX21_ok, ?_⟩, ?_, ?_⟩
  · exact fun k hk => match k, hk with
    | 0, _ => Or.inl ⟨rfl, rfl⟩
    | 1, _ => Or.inr (Or.inr (Or.inr ⟨rfl, Or.inl ⟨_, rfl⟩⟩))
    | 2, _ => Or.inr (Or.inr (Or.inr ⟨rfl, Or.inl ⟨_, rfl⟩⟩))
    | k + 3, hk => absurd hk (by simp)
  · decide +kernel
  · decide +kernel
theorem hk_ok20 : hk_ok 20 (RX22, TX22, 4) := by
  refine ⟨in_X22, ⟨tyX22, tyX22_ok, ?_⟩, ?_, ?_⟩
  · exact fun k hk => match k, hk with
    | 0, _ => Or.inl ⟨rfl, rfl⟩
    | 1, _ => Or.inr (Or.inr (Or.inr ⟨rfl, Or.inl ⟨_, rfl⟩⟩))
    | 2, _ => Or.inr (Or.inr (Or.inr ⟨rfl, Or.inl ⟨_, rfl⟩⟩))
    | 3, _ => Or.inr (Or.inr (Or.inr ⟨rfl, Or.inl ⟨_, rfl⟩⟩))
    | k + 4, hk => absurd hk (by simp)
  · decide +kernel
  · decide +kernel
theorem hk_ok21 : hk_ok 21 (RX23, TX23, 3) := by
  refine ⟨in_X23, ⟨tyX23, tyX23_ok, ?_⟩, ?_, ?_⟩
  · exact fun k hk => match k, hk with
    | 0, _ => Or.inl ⟨rfl, rfl⟩
    | 1, _ => Or.inr (Or.inr (Or.inr ⟨rfl, Or.inl ⟨_, rfl⟩⟩))
    | 2, _ => Or.inr (Or.inr (Or.inr ⟨rfl, Or.inl ⟨_, rfl⟩⟩))
    | k + 3, hk => absurd hk (by simp)
  · decide +kernel
  · decide +kernel
theorem hk_ok22 : hk_ok 22 (RX24, TX24, 4) := by
  refine ⟨in_X24, ⟨tyX24, tyX24_ok, ?_⟩, ?_, ?_⟩
  · exact fun k hk => match k, hk with
    | 0, _ => Or.inl ⟨rfl, rfl⟩
    | 1, _ => Or.inr (Or.inr (Or.inr ⟨rfl, Or.inl ⟨_, rfl⟩⟩))
    | 2, _ => Or.inr (Or.inr (Or.inr ⟨rfl, Or.inl ⟨_, rfl⟩⟩))
    | 3, _ => Or.inr (Or.inr (Or.inr ⟨rfl, Or.inl ⟨_, rfl⟩⟩))
    | k + 4, hk => absurd hk (by simp)
  · decide +kernel
  · decide +kernel
theorem hk_ok23 : hk_ok 23 (RX26, TX26, 1) := by
  refine ⟨in_X26, ⟨tyX26, tyX26_ok, ?_⟩, ?_, ?_⟩
  · exact fun k hk => match k, hk with
    | 0, _ => Or.inr (Or.inr (Or.inr ⟨rfl, Or.inr ⟨_, rfl⟩⟩))
    | k + 1, hk => absurd hk (by simp)
  · decide +kernel
  · decide +kernel
theorem hk_ok24 : hk_ok 24 (RX27, TX27, 1) := by
  refine ⟨in_X27, ⟨tyX27, tyX27_ok, ?_⟩, ?_, ?_⟩
  · exact fun k hk => match k, hk with
    | 0, _ => Or.inr (Or.inr (Or.inr ⟨rfl, Or.inr ⟨_, rfl⟩⟩))
    | k + 1, hk => absurd hk (by simp)
  · decide +kernel
  · decide +kernel
theorem hk_ok25 : hk_ok 25 (RX28, TX28, 1) := by
  refine ⟨in_X28, ⟨tyX28, tyX28_ok, ?_⟩, ?_, ?_⟩
  · exact fun k hk => match k, hk with
    | 0, _ => Or.inr (Or.inr (Or.inr ⟨rfl, Or.inr ⟨_, rfl⟩⟩))
    | k + 1, hk => absurd hk (by simp)
  · decide +kernel
  · decide +kernel
theorem hk_ok26 : hk_ok 26 (RX29, TX29, 1) := by
  refine ⟨in_X29, ⟨tyX29, tyX29_ok, ?_⟩, ?_, ?_⟩
  · exact fun k hk => match k, hk with
    | 0, _ => Or.inr (Or.inr (Or.inr ⟨rfl, Or.inr ⟨_, rfl⟩⟩))
    | k + 1, hk => absurd hk (by simp)
  · decide +kernel
  · decide +kernel
theorem hk_ok27 : hk_ok 27 (RX30, TX30, 1) := by
  refine ⟨in_X30, ⟨tyX30, tyX30_ok, ?_⟩, ?_, ?_⟩
  · exact fun k hk => match k, hk with
    | 0, _ => Or.inr (Or.inr (Or.inr ⟨rfl, Or.inr ⟨_, rfl⟩⟩))
    | k + 1, hk => absurd hk (by simp)
  · decide +kernel
  · decide +kernel
