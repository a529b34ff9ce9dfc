set_option maxRecDepth 100000
/-! ===== STAGE 1, methods that throw: arrays copied ===== -/
def hk_cpI (st : hk_St) (a b sp dp n : Nat) : hk_St := (st.1, st.2.1, st.2.2.1, st.2.2.2.1, fun c => if c = b then va_cpy (st.2.2.2.2.1 a) (st.2.2.2.2.1 b) sp dp n else st.2.2.2.2.1 c, st.2.2.2.2.2)
def hk_cpL (st : hk_St) (a b sp dp n : Nat) : hk_St := (st.1, st.2.1, st.2.2.1, st.2.2.2.1, st.2.2.2.2.1, fun c => if c = b then va_cpy (st.2.2.2.2.2.1 a) (st.2.2.2.2.2.1 b) sp dp n else st.2.2.2.2.2.1 c, st.2.2.2.2.2.2)
theorem hx_nn {z : Int32} (hz : ¬ z < 0) : z.toInt = (z.toNatClampNeg : Int) := by
  have hz0 : (0 : Int) ≤ z.toInt := by
    have := Int32.not_lt.mp hz
    simpa using Int32.le_iff_toInt_le.mp this
  show z.toInt = ((z.toInt.toNat : Nat) : Int)
  omega
section HX5
variable {Gd : hk_G} {N : hk_N} {E : hk_E} {pc : Nat} {L : List (Nat × Value)} {S : List Value} {st : hk_St} {F : hk_K → Prop}
theorem hk_upa_cI {a b sp dp n : Nat} : hk_upa st (hk_cpI st a b sp dp n) b := by
  refine ⟨rfl, rfl, rfl, rfl, fun _ _ _ => rfl, fun t c h => ?_⟩
  have : hk_aI (hk_cpI st a b sp dp n) c = hk_aI st c := by
    show (if c = b then _ else st.2.2.2.2.1 c) = st.2.2.2.2.1 c
    rw [if_neg h]
  unfold hk_ac
  rw [this]
  rfl
theorem hk_upa_cL {a b sp dp n : Nat} : hk_upa st (hk_cpL st a b sp dp n) b := by
  refine ⟨rfl, rfl, rfl, rfl, fun _ _ _ => rfl, fun t c h => ?_⟩
  have : hk_aL (hk_cpL st a b sp dp n) c = hk_aL st c := by
    show (if c = b then _ else st.2.2.2.2.2.1 c) = st.2.2.2.2.2.1 c
    rw [if_neg h]
  unfold hk_ac
  rw [this]
  rfl
/-- a stretch of ints is copied -/
theorem hv_cpI {ty a b n1 n2 index : Nat} {i j n : Int32} {t : FieldType} (rest : List Value) (hty : ty < 4) (ht : hk_tyl.getD ty .int = t) (hka : hk_k st a = some (100 + ty, n1)) (hkb : hk_k st b = some (100 + ty, n2)) (h1 : ¬ i < 0) (h2 : ¬ j < 0) (h3 : ¬ n < 0)
    (h4 : i.toNatClampNeg + n.toNatClampNeg ≤ n1) (h5 : j.toNatClampNeg + n.toNatClampNeg ≤ n2) (hfit : ∀ k, k < n.toNatClampNeg → fits t (.int (hk_aI st a (i.toNatClampNeg + k))) = true) (hprim : refKind t = false)
    (q1 : Cond.methodLink N.2.2.1 index arraycopyName ∈ lw_all) (q2 : Cond.native arraycopyName ∈ lw_all) (q3 : Cond.static arraycopyName ∈ lw_all) (q4 : Cond.initialized "java/lang/System" ∈ lw_all) (hfr : 8 < N.2.2.2.2.2.1) (hlo : 10300 ≤ N.2.2.2.2.2.2.1) (hr : (rest.map fun v => v.category).sum ≤ 50)
    (hst : S = .int n :: .int j :: .ref b :: .int i :: .ref a :: rest) (d : decode N.2.1 pc = .ok (.invokestatic index, 3)) (k : hk_V Gd N E (pc + 3) L rest (hk_cpI st a b i.toNatClampNeg j.toNatClampNeg n.toNatClampNeg)) : hk_V Gd N E pc L S st := by
  subst hst
  refine ⟨k.1, k.2.1, fun p l e R s m args below meth c X H locs cells slots ls hl hR hS g1 g2 => ?_⟩
  have kW := fun H' locs' hR' hS' => k.2.2 p l e R s m args below meth c X H' locs' cells slots ls hl hR' hS' g1 g2
  have hts := X.2.2.2.1
  have hfr' := X.2.2.2.2.2.2.2.2.1
  have hlo' := X.2.2.2.2.2.2.2.2.2.1
  have hc0 := hk_arrI (hR.2.2.2 a _ n1 hka).2.2 hty
  have hc1 := hk_arrI (hR.2.2.2 b _ n2 hkb).2.2 hty
  have htt := X.2.2.2.2.2.2.2.1.1.2 ty _ (hk_tys_at Gd (by omega) ht)
  obtain ⟨-, k0, hk0, cm0, hkk0⟩ := htt.1 n1 (fun j => .int (hk_aI st a j))
  obtain ⟨-, k1, hk1, cm1, hkk1⟩ := htt.1 n2 (fun j => .int (hk_aI st b j))
  intro T hT X9
  have hn7 : nativeFrameWords "java/lang/System" "arraycopy" 5 = 7 := by decide +kernel
  obtain ⟨vm', X', step⟩ := X9.arraycopy X.1 X.2.2.1 (hts _ q1) (hts _ q2) (hts _ q3) (hts _ q4) (src := a) (dst := b) (cs := vp_cell (Gd.2.1 ty) (n1, .inl (hk_aI st a))) (cd := vp_cell (Gd.2.1 ty) (n2, .inl (hk_aI st b))) (srcPos := i) (destPos := j) (n := n) (by rw [hT]; exact hc0) (by rw [hT]; exact hc1)
    (fun _ h => by cases h) (fun _ h => by cases h) (fun h => by cases h) (fun h => by cases h) hk0 hk1 hkk0 hkk1 (by simp [hprim]) h1 h2 h3
    (by rw [hx_nn h1, hx_nn h3]; show ¬ _ > ((arrV (Gd.2.1 ty) n1 (fun j => .int (hk_aI st a j))).slots.size : Int); rw [arrV_size]; omega)
    (by rw [hx_nn h2, hx_nn h3]; show ¬ _ > ((arrV (Gd.2.1 ty) n2 (fun j => .int (hk_aI st b j))).slots.size : Int); rw [arrV_size]; omega)
    (fun vm₁ _ z hz => by
      have e : (vp_cell (Gd.2.1 ty) (n1, .inl (hk_aI st a))).slots.getD (i.toNatClampNeg + z) .null = .int (hk_aI st a (i.toNatClampNeg + z)) := by
        show (arrV (Gd.2.1 ty) n1 (fun j => .int (hk_aI st a j))).slots.getD _ _ = _
        rw [Array.getD_eq_getD_getElem?, arrV_read _ _ (by omega)]
        rfl
      refine ⟨?_, ?_⟩
      · rw [e]
        exact hfit z hz
      · rw [e]
        exact trivial)
    (g := F0 m pc ls (.int n :: .int j :: .ref b :: .int i :: .ref a :: rest)) rfl hl.1 (rest := rest) rfl (by rw [X.2.1]; exact d) (by omega) (by show 2 * 0 + _ + _ ≤ _; rw [hn7]; omega)
  have e1 : copied (vp_cell (Gd.2.1 ty) (n1, .inl (hk_aI st a))) (vp_cell (Gd.2.1 ty) (n2, .inl (hk_aI st b))) i j n = vp_cell (Gd.2.1 ty) (n2, .inl (va_cpy (hk_aI st a) (hk_aI st b) i.toNatClampNeg j.toNatClampNeg n.toNatClampNeg)) := va_copied (fun z => .int z) _ _ _ _ h4
  rw [e1] at X' step
  have hlt : b < H.size := (Array.getElem?_eq_some_iff.mp hc1).1
  have hheap : ((T.setVm vm').setCell b (vp_cell (Gd.2.1 ty) (n2, .inl (va_cpy (hk_aI st a) (hk_aI st b) i.toNatClampNeg j.toNatClampNeg n.toNatClampNeg)))).heap = H.setIfInBounds b (vp_cell (Gd.2.1 ty) (n2, .inl (va_cpy (hk_aI st a) (hk_aI st b) i.toNatClampNeg j.toNatClampNeg n.toNatClampNeg))) := by rw [← hT]; rfl
  have oq : ∀ q : Nat, q ≠ b → (H.setIfInBounds b (vp_cell (Gd.2.1 ty) (n2, .inl (va_cpy (hk_aI st a) (hk_aI st b) i.toNatClampNeg j.toNatClampNeg n.toNatClampNeg))))[q]? = H[q]? := fun q hq => by simp [Array.getElem?_setIfInBounds, Ne.symm hq]
  have hac : hk_ac (hk_cpI st a b i.toNatClampNeg j.toNatClampNeg n.toNatClampNeg) ty b = .inl (va_cpy (hk_aI st a) (hk_aI st b) i.toNatClampNeg j.toNatClampNeg n.toNatClampNeg) := by
    unfold hk_ac
    rw [if_pos hty]
    congr 1
    show (if b = b then _ else _) = _
    rw [if_pos rfl]
    rfl
  obtain ⟨t9, a9, b9⟩ := kW _ (locs ++ ((vp_cell (Gd.2.1 ty) (n1, .inl (hk_aI st a))).stretch i.toNatClampNeg n.toNatClampNeg).zipIdx.map fun q => ⟨b, j.toNatClampNeg + q.2⟩) (hk_R_store (ty := ty) (H' := H.setIfInBounds b (vp_cell (Gd.2.1 ty) (n2, .inl (va_cpy (hk_aI st a) (hk_aI st b) i.toNatClampNeg j.toNatClampNeg n.toNatClampNeg)))) hk_upa_cI hR hkb (by rw [hac]; simp [Array.getElem?_setIfInBounds, hlt]) (by simp) oq)
    ⟨by simp; exact hS.1, fun q z1 z2 => by
      rw [oq q (fun e => z2 (by rw [e]; exact (hR.2.2.2 b _ n2 hkb).1))]
      exact hS.2.1 q z1 z2, fun q hq => by
      rcases List.mem_append.mp hq with h | h
      · exact hS.2.2 q h
      · obtain ⟨z, -, hz⟩ := List.mem_map.mp h
        rw [← hz]
        exact (hR.2.2.2 b _ n2 hkb).1⟩ _ hheap X'
  exact ⟨t9, step t9 a9, b9⟩
/-- a stretch of longs is copied -/
theorem hv_cpL {a b n1 n2 index : Nat} {i j n : Int32} (rest : List Value) (hka : hk_k st a = some (104, n1)) (hkb : hk_k st b = some (104, n2)) (h1 : ¬ i < 0) (h2 : ¬ j < 0) (h3 : ¬ n < 0)
    (h4 : i.toNatClampNeg + n.toNatClampNeg ≤ n1) (h5 : j.toNatClampNeg + n.toNatClampNeg ≤ n2)
    (q1 : Cond.methodLink N.2.2.1 index arraycopyName ∈ lw_all) (q2 : Cond.native arraycopyName ∈ lw_all) (q3 : Cond.static arraycopyName ∈ lw_all) (q4 : Cond.initialized "java/lang/System" ∈ lw_all) (hfr : 8 < N.2.2.2.2.2.1) (hlo : 10300 ≤ N.2.2.2.2.2.2.1) (hr : (rest.map fun v => v.category).sum ≤ 50)
    (hst : S = .int n :: .int j :: .ref b :: .int i :: .ref a :: rest) (d : decode N.2.1 pc = .ok (.invokestatic index, 3)) (k : hk_V Gd N E (pc + 3) L rest (hk_cpL st a b i.toNatClampNeg j.toNatClampNeg n.toNatClampNeg)) : hk_V Gd N E pc L S st := by
  subst hst
  refine ⟨k.1, k.2.1, fun p l e R s m args below meth c X H locs cells slots ls hl hR hS g1 g2 => ?_⟩
  have kW := fun H' locs' hR' hS' => k.2.2 p l e R s m args below meth c X H' locs' cells slots ls hl hR' hS' g1 g2
  have hts := X.2.2.2.1
  have hfr' := X.2.2.2.2.2.2.2.2.1
  have hlo' := X.2.2.2.2.2.2.2.2.2.1
  have hc0 := hk_arrL (hR.2.2.2 a _ n1 hka).2.2
  have hc1 := hk_arrL (hR.2.2.2 b _ n2 hkb).2.2
  have htt := X.2.2.2.2.2.2.2.1.1.2 4 _ (hk_tys_at Gd (by decide) rfl)
  obtain ⟨-, k0, hk0, cm0, hkk0⟩ := htt.1 n1 (fun j => .long (hk_aL st a j))
  obtain ⟨-, k1, hk1, cm1, hkk1⟩ := htt.1 n2 (fun j => .long (hk_aL st b j))
  intro T hT X9
  have hn7 : nativeFrameWords "java/lang/System" "arraycopy" 5 = 7 := by decide +kernel
  obtain ⟨vm', X', step⟩ := X9.arraycopy X.1 X.2.2.1 (hts _ q1) (hts _ q2) (hts _ q3) (hts _ q4) (src := a) (dst := b) (cs := vp_cell (Gd.2.1 4) (n1, .inr (.inl (hk_aL st a)))) (cd := vp_cell (Gd.2.1 4) (n2, .inr (.inl (hk_aL st b)))) (srcPos := i) (destPos := j) (n := n) (by rw [hT]; exact hc0) (by rw [hT]; exact hc1)
    (fun _ h => by cases h) (fun _ h => by cases h) (fun h => by cases h) (fun h => by cases h) hk0 hk1 hkk0 hkk1 (by rfl) h1 h2 h3
    (by rw [hx_nn h1, hx_nn h3]; show ¬ _ > ((arrV (Gd.2.1 4) n1 (fun j => .long (hk_aL st a j))).slots.size : Int); rw [arrV_size]; omega)
    (by rw [hx_nn h2, hx_nn h3]; show ¬ _ > ((arrV (Gd.2.1 4) n2 (fun j => .long (hk_aL st b j))).slots.size : Int); rw [arrV_size]; omega)
    (fun vm₁ _ z hz => by
      have e : (vp_cell (Gd.2.1 4) (n1, .inr (.inl (hk_aL st a)))).slots.getD (i.toNatClampNeg + z) .null = .long (hk_aL st a (i.toNatClampNeg + z)) := by
        show (arrV (Gd.2.1 4) n1 (fun j => .long (hk_aL st a j))).slots.getD _ _ = _
        rw [Array.getD_eq_getD_getElem?, arrV_read _ _ (by omega)]
        rfl
      refine ⟨?_, ?_⟩
      · rw [e]
        rfl
      · rw [e]
        exact trivial)
    (g := F0 m pc ls (.int n :: .int j :: .ref b :: .int i :: .ref a :: rest)) rfl hl.1 (rest := rest) rfl (by rw [X.2.1]; exact d) (by omega) (by show 2 * 0 + _ + _ ≤ _; rw [hn7]; omega)
  have e1 : copied (vp_cell (Gd.2.1 4) (n1, .inr (.inl (hk_aL st a)))) (vp_cell (Gd.2.1 4) (n2, .inr (.inl (hk_aL st b)))) i j n = vp_cell (Gd.2.1 4) (n2, .inr (.inl (va_cpy (hk_aL st a) (hk_aL st b) i.toNatClampNeg j.toNatClampNeg n.toNatClampNeg))) := va_copied (fun z => .long z) _ _ _ _ h4
  rw [e1] at X' step
  have hlt : b < H.size := (Array.getElem?_eq_some_iff.mp hc1).1
  have hheap : ((T.setVm vm').setCell b (vp_cell (Gd.2.1 4) (n2, .inr (.inl (va_cpy (hk_aL st a) (hk_aL st b) i.toNatClampNeg j.toNatClampNeg n.toNatClampNeg))))).heap = H.setIfInBounds b (vp_cell (Gd.2.1 4) (n2, .inr (.inl (va_cpy (hk_aL st a) (hk_aL st b) i.toNatClampNeg j.toNatClampNeg n.toNatClampNeg)))) := by rw [← hT]; rfl
  have oq : ∀ q : Nat, q ≠ b → (H.setIfInBounds b (vp_cell (Gd.2.1 4) (n2, .inr (.inl (va_cpy (hk_aL st a) (hk_aL st b) i.toNatClampNeg j.toNatClampNeg n.toNatClampNeg)))))[q]? = H[q]? := fun q hq => by simp [Array.getElem?_setIfInBounds, Ne.symm hq]
  have hac : hk_ac (hk_cpL st a b i.toNatClampNeg j.toNatClampNeg n.toNatClampNeg) 4 b = .inr (.inl (va_cpy (hk_aL st a) (hk_aL st b) i.toNatClampNeg j.toNatClampNeg n.toNatClampNeg)) := by
    unfold hk_ac
    rw [if_neg (by decide), if_pos rfl]
    congr 2
    show (if b = b then _ else _) = _
    rw [if_pos rfl]
    rfl
  obtain ⟨t9, a9, b9⟩ := kW _ (locs ++ ((vp_cell (Gd.2.1 4) (n1, .inr (.inl (hk_aL st a)))).stretch i.toNatClampNeg n.toNatClampNeg).zipIdx.map fun q => ⟨b, j.toNatClampNeg + q.2⟩) (hk_R_store (ty := 4) (H' := H.setIfInBounds b (vp_cell (Gd.2.1 4) (n2, .inr (.inl (va_cpy (hk_aL st a) (hk_aL st b) i.toNatClampNeg j.toNatClampNeg n.toNatClampNeg))))) hk_upa_cL hR hkb (by rw [hac]; simp [Array.getElem?_setIfInBounds, hlt]) (by simp) oq)
    ⟨by simp; exact hS.1, fun q z1 z2 => by
      rw [oq q (fun e => z2 (by rw [e]; exact (hR.2.2.2 b _ n2 hkb).1))]
      exact hS.2.1 q z1 z2, fun q hq => by
      rcases List.mem_append.mp hq with h | h
      · exact hS.2.2 q h
      · obtain ⟨z, -, hz⟩ := List.mem_map.mp h
        rw [← hz]
        exact (hR.2.2.2 b _ n2 hkb).1⟩ _ hheap X'
  exact ⟨t9, step t9 a9, b9⟩
/-- a copy that doesn't fit -/
theorem hx_copyZ {hh : List (Nat × Nat × Nat × Nat)} {ty a b n1 n2 index : Nat} {i j n : Int32} {t : FieldType} (rest : List Value) (hE : hk_EF E (hx_F Gd hh)) (hty : ty < 5) (ht : hk_tyl.getD ty .int = t) (hprim : refKind t = false) (hka : hk_k st a = some (100 + ty, n1)) (hkb : hk_k st b = some (100 + ty, n2)) (b1 : n1 < 2 ^ 31) (b2 : n2 < 2 ^ 31)
    (hout : ¬ (¬ i < 0 ∧ ¬ j < 0 ∧ ¬ n < 0 ∧ ¬ i.toInt + n.toInt > n1 ∧ ¬ j.toInt + n.toInt > n2))
    (q1 : Cond.methodLink N.2.2.1 index arraycopyName ∈ lw_all) (q2 : Cond.native arraycopyName ∈ lw_all) (q3 : Cond.static arraycopyName ∈ lw_all) (q4 : Cond.initialized "java/lang/System" ∈ lw_all) (hfr : 8 < N.2.2.2.2.2.1) (hlo : 10300 ≤ N.2.2.2.2.2.2.1) (hr : (rest.map fun v => v.category).sum ≤ 50)
    (hst : S = .int n :: .int j :: .ref b :: .int i :: .ref a :: rest) (d : decode N.2.1 pc = .ok (.invokestatic index, 3)) (k : hk_VT Gd N E (hx_F Gd hh) pc L (hk_cs st 3 510) "java/lang/ArrayIndexOutOfBoundsException") : hk_V Gd N E pc L S st := by
  subst hst
  refine ⟨Nat.le_trans (Nat.le_add_right _ 3) k.1, Nat.le_trans (Nat.le_add_right _ 510) k.2.1, fun p l e R s m args below meth c X H locs cells slots ls hl hR hS g1 g2 => hx_by hE fun hF => ?_⟩
  have hX := X
  obtain ⟨hx, hbc, hown, hts, hlk, -, hml, hWW, hfr', hlo', hN1, hN2, hz, -, -, hbase⟩ := X
  have k1 : hk_nc st + 3 ≤ E.2.2.1 := k.1
  have k2 : hk_ns st + 510 ≤ E.2.2.2.1 := k.2.1
  obtain ⟨what, hw⟩ : ∃ what, copyFault t t n1 n2 i j n = some what := by
    unfold copyFault
    by_cases c1 : i < 0
    · rw [if_pos c1]; exact ⟨_, rfl⟩
    · rw [if_neg c1]
      by_cases c2 : j < 0
      · rw [if_pos c2]; exact ⟨_, rfl⟩
      · rw [if_neg c2]
        by_cases c3 : n < 0
        · rw [if_pos c3]; exact ⟨_, rfl⟩
        · rw [if_neg c3]
          by_cases c4 : i.toInt + n.toInt > n1
          · rw [if_pos c4]; exact ⟨_, rfl⟩
          · rw [if_neg c4]
            by_cases c5 : j.toInt + n.toInt > n2
            · rw [if_pos c5]; exact ⟨_, rfl⟩
            · exact absurd ⟨c1, c2, c3, c4, c5⟩ hout
  have htx := hx_ftext (hx_fault b1 b2 hw)
  have htt := hWW.1.2 ty _ (hk_tys_at Gd (by omega) ht)
  have cellOf : ∀ z nz, hk_k st z = some (100 + ty, nz) → ∃ cz kz cm, H[z]? = some cz ∧ (∀ y, cz.vm ≠ .statics y) ∧ cz.slots.size = nz ∧ s.vm.classes[cz.cls]? = some kz ∧ kz.kind = .array cm t := fun z nz hz => by
    by_cases h4 : ty < 4
    · have hc := hk_arrI (hR.2.2.2 z _ nz hz).2.2 h4
      obtain ⟨-, k0, hk0, cm0, hkk0⟩ := htt.1 nz (fun j => .int (hk_aI st z j))
      exact ⟨_, k0, cm0, hc, fun _ h => (by cases h), (by show (arrV _ _ _).slots.size = _; rw [arrV_size]), hk0, hkk0⟩
    · have e4 : ty = 4 := by omega
      subst e4
      have hc := hk_arrL (hR.2.2.2 z _ nz hz).2.2
      obtain ⟨-, k0, hk0, cm0, hkk0⟩ := htt.1 nz (fun j => .long (hk_aL st z j))
      exact ⟨_, k0, cm0, hc, fun _ h => (by cases h), (by show (arrV _ _ _).slots.size = _; rw [arrV_size]), hk0, hkk0⟩
  obtain ⟨ca, ka, ma, u1, u2, u3, u4, u5⟩ := cellOf a n1 hka
  obtain ⟨cb, kb, mb, v1, v2, v3, v4, v5⟩ := cellOf b n2 hkb
  intro T hT X9
  have htr : e.platform.stackTraces = false := (show e.platform.stackTraces = l.stackTraces by rw [X9.admits.platform]).trans hF.1
  have Y := vx_rebase X9 (R' := { frames := R.frames, locals := R.locals, cells := 3, slots := 510 }) (Nat.le_refl _) (Nat.le_refl _) (by show cells + 3 ≤ R.cells; omega) (by show slots + 510 ≤ R.slots; omega)
  have hhp : ((T.setVm s.vm).setFrames (.invoking m args :: below)).heap = H := hT
  have hW0 : s.WarmedH ((T.setVm s.vm).setFrames (.invoking m args :: below)).vm := State.WarmedH.refl s
  have hat' : ∀ w ∈ vx_atM "java/lang/ArrayIndexOutOfBoundsException" ["java/lang/IndexOutOfBoundsException", "java/lang/RuntimeException", "java/lang/Exception"], w.before args ((T.setVm s.vm).setFrames (.invoking m args :: below)) = true := fun w hw => vx_ot_at hW0 rfl (hx_wAI.2 w hw) (hx_hat hx_wAI hts hWW w hw)
  have hU0 := hF.2.1.1
  have hN0 := hF.2.1.2.1
  have hU' : vx_Zq Bundle.tN "UNASSIGNED_STACK" Bundle.steD (hk_A Gd) ((T.setVm s.vm).setFrames (.invoking m args :: below)) ((T.setVm s.vm).setFrames (.invoking m args :: below)).heap := by
    rw [hhp]
    exact vx_Zq.moved hW0.alike ((hU0.kept (fun a _ ha => hbase a (Nat.not_le.mp ha))).kept hS.2.1)
  have hN' : vx_Zq Bundle.tN "SUPPRESSED_SENTINEL" Bundle.listD (hk_A Gd) ((T.setVm s.vm).setFrames (.invoking m args :: below)) ((T.setVm s.vm).setFrames (.invoking m args :: below)).heap := by
    rw [hhp]
    exact vx_Zq.moved hW0.alike ((hN0.kept (fun a _ ha => hbase a (Nat.not_le.mp ha))).kept hS.2.1)
  have wd : ∀ w, vx_ot w = true → w ∈ lw_all → w.before args ((T.setVm s.vm).setFrames (.invoking m args :: below)) = true := fun w h1 h2 => vx_ot_at hW0 rfl h1 (hts w h2)
  obtain ⟨S', q, ce, XS, hce, hcl, hv, z1, z2, st9⟩ := hx_copyOut Y hx htr (own := N.2.2.1) (index := index) hown (wd _ (by rfl) q1) (wd _ (by rfl) q2) (wd _ (by rfl) q3) (wd _ (by rfl) q4) (vx_own hat' (vx_isRefq hU'.1) (vx_isRefq hN'.1) hU'.2.word hN'.2.word) (fun x hx => nomatch hx)
    (src := a) (dst := b) (srcPos := i) (destPos := j) (n := n) (cs := ca) (cd := cb) (ks := ka) (kd := kb) (sComp := ma) (dComp := mb) (sType := t) (dType := t) (what := what) (by rw [hT]; exact u1) (by rw [hT]; exact v1) u2 v2 u4 v4 u5 v5 (by simp [hprim]) (by rw [u3, v3]; exact hw) htx.1 htx.2
    (g := F0 m pc ls (.int n :: .int j :: .ref b :: .int i :: .ref a :: rest)) rfl hl.1 (rest := rest) rfl (by rw [hbc]; exact d) (by show 8 < R.frames; omega) (by show 2 * 0 + _ + _ ≤ R.locals; omega) (by show 0 + 3 ≤ 3; omega) (by show 0 + 510 ≤ 510; omega)
  rw [hT] at z1 z2
  have X5 := vx_back9 X9 Y XS
  obtain ⟨f1, f2⟩ := hx_keep (s := s) (locs := locs) hR z1 z2
  have e3 : cells + (0 + 3) = cells + 3 := by omega
  have e5 : slots + (0 + 510) = slots + 510 := by omega
  rw [e3, e5] at X5
  obtain ⟨t1, a1, w1⟩ := k.2.2 p l e R s m args below meth c hX hF S'.heap locs (cells + 3) (slots + 510) ls rest q ce _ hl f1 f2 ⟨Nat.le_trans hS.1 z1, fun q h1 h2 => (z2 q (Nat.lt_of_lt_of_le h1 hS.1)).trans (hS.2.1 q h1 h2), hS.2.2⟩ (by show cells + 3 + E.1 ≤ hk_nc st + 3; omega) (by show slots + 510 + E.2.1 ≤ hk_ns st + 510; omega) hce hv hcl S' rfl X5
  exact ⟨t1, st9 t1 a1, w1⟩
end HX5
