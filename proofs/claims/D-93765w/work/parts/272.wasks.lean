set_option maxRecDepth 100000
/-! ===== STAGE 1, methods that throw: asks ===== -/
section HX8
variable {Gd : hk_G} {N : hk_N} {E : hk_E} {pc : Nat} {L : List (Nat × Value)} {S : List Value} {st : hk_St} {hh : List (Nat × Nat × Nat × Nat)}
theorem hx_callV {y : MethodName} {bytes : ByteArray} {maxL fr' lo' n index : Nat} {st1 : hk_St} {EC : String} {ret' : Option FieldType} {b ci : Nat} (As rest : List Value) (hE : hk_EF E (hx_F Gd hh)) (hM : hx_MT Gd N.1 y bytes maxL ret' fr' lo' (.ref b :: As) st st1 EC) (cs : hk_CV N.2.2.1 index ci y bytes maxL ret' n) (hb : hk_bf [ci] st b = true) (hn : As.length = n) (hroom : fr' + 1 ≤ N.2.2.2.2.2.1 ∧ 8 + (maxL + 11) + lo' ≤ N.2.2.2.2.2.2.1) (hst : S = As.reverse ++ .ref b :: rest) (hr : (rest.map fun v => v.category).sum ≤ 8) (d : decode N.2.1 pc = .ok (.invokevirtual index, 3))
    (k : hk_VT Gd N E (hx_F Gd hh) pc L st1 EC) : hk_V Gd N E pc L S st := by
  subst hst
  refine ⟨Nat.le_trans hM.1 k.1, Nat.le_trans hM.2.1 k.2.1, fun p l e R s m args below meth c X H locs cells slots ls hl hR hS h1 h2 => hx_by hE fun hF => ?_⟩
  have kW := k.2.2 p l e R s m args below meth c X hF
  have k1 := k.1
  have k2 := k.2.1
  obtain ⟨hx, hbc, hown, hts, -, -, hml, hWW, hfr, hlo, hN1, hN2, -, hl', -⟩ := X
  subst hl'
  have g1 := hM.1
  have g2 := hM.2.1
  rw [← hfr, ← hlo] at hroom
  obtain ⟨h100, q, hc, hg, hy, hy2⟩ := cs
  have cw := cwV (R := R) (rm := { frames := fr', cells := hk_nc st1 - hk_nc st, slots := hk_ns st1 - hk_ns st, locals := lo' }) n hts hg rfl rfl rfl ⟨hy, hy2⟩ hroom
  refine hx_runT (vx_runV (As := As) (rest := rest) (⟨hx, hbc, hml, hown, hts⟩) hM.2.2 cw ⟨hx_blind _ _, hk_recv hWW hR h100 hc hb, hx_given hWW hF.2.1 hR⟩ rfl hn (hl.1.trans hml) rfl (lv_room hr) d ⟨by omega, by omega⟩) hS (fun H1 locs1 q ce z hz hR1 hS1 h3 h4 h5 => kW H1 locs1 _ _ ls rest q ce z hl hz hR1 hS1 (by omega) (by omega) h3 h4 h5)
theorem hx_nin {i : Int32} {n : Nat} (h : ¬ hk_in i n = true) : ¬ vp_in i n := by
  intro q
  apply h
  simp only [hk_in, Bool.and_eq_true, decide_eq_true_eq]
  by_cases h1 : i < 0
  · exact absurd (Or.inl h1) q
  · refine ⟨h1, ?_⟩
    by_cases h2 : i.toNatClampNeg < n
    · exact h2
    · exact absurd (Or.inr (Nat.not_lt.mp h2)) q
end HX8
def x_asks_G (b a k : Nat) (s : hk_St) : Bool := decide (hk_k s b = some (25, 0)) && decide (hk_fR s 2500 b = some a) && decide (hk_k s a = some (100, k))
def x_asks_L (th b a k : Nat) (p2 p3 : Int32) : Nat → Int32 → Int32 → hk_St → Option (Int32 × hk_St)
  | 0, _, _, _ => none
  | n + 1, v, t, s =>
    if p3 ≤ t then some (v, s) else
    hk_gd (x_asks_G b a k s) <|
    hk_nm (p2 + 4 * t) fun q =>
    if hk_in q k = true ∧ hk_in (q + 1) k = true ∧ hk_in (q + 2) k = true ∧ hk_in (q + 3) k = true then
      hk_nm (hk_aI s a q.toNatClampNeg) fun z0 =>
      hk_nm (hk_aI s a (q + 1).toNatClampNeg) fun z1 =>
      hk_nm (hk_aI s a (q + 2).toNatClampNeg) fun z2 =>
      hk_nm (hk_aI s a (q + 3).toNatClampNeg) fun z3 =>
      if x_in z0 1 9999 = 0 then some (v, s) else
      if x_in z1 1 9999 = 0 then some (v, s) else
      hk_gd (hk_bf [0] s th) <|
      (x_see th (10000 * z0 + z1) z2 z3 s).bind fun e =>
      if 0 ≤ e.1 then x_asks_L th b a k p2 p3 n (v + 1) (t + 1) e.2 else some (v, e.2)
    else some (v, hk_cs s 3 222)
set_option maxHeartbeats 4000000 in
theorem wl_asks {l : Launch} {Gd : hk_G} {th b a k : Nat} {p p2 p3 r : Int32} {s00 fin : hk_St} (htr : l.stackTraces = false) (hk : k < 2 ^ 31) : ∀ (n : Nat) (v t : Int32) (s : hk_St), x_asks_L th b a k p2 p3 n v t s = some (r, fin) → hk_V Gd (l, cX0_asks, "HeadReckons", 12, (some .int), 12, 10400, false) (hx_endG Gd hx_t_asks s00 (some (.int r)) fin) 36 [(0, .ref th), (1, .int p), (2, .int p2), (3, .int p3), (4, .int v), (5, .ref b), (6, .int t)] [] s := by
  intro n
  induction n with
  | zero => intro v t s h; cases h
  | succ n ih =>
    intro v t s h
    rw [x_asks_L] at h
    refine hv_iload 6 dX0_asks_36 rfl ?_
    refine hv_iload_n 3 dX0_asks_38 rfl rfl ?_
    refine hv_icmp_ge (tgt := 152) dX0_asks_39 (by decide) (fun c => ?_) (fun c => ?_)
    · rw [if_pos c] at h
      obtain ⟨h1, h2⟩ := hq_ret h
      subst h1
      subst h2
      refine hv_goto (tgt := 170) dX0_asks_152 (by decide) ?_
      refine hv_iload 4 dX0_asks_170 rfl ?_
      exact hx_iret0 rfl dX0_asks_172
    · rw [if_neg c] at h
      obtain ⟨g, h⟩ := hq_gd h
      simp only [x_asks_G, Bool.and_eq_true, decide_eq_true_eq] at g
      obtain ⟨⟨g1, g2⟩, g3⟩ := g
      obtain ⟨q, eq, h⟩ := hq_nm h
      have inn : ∀ i, hk_in i k = true → xIntRow_at b i s = some (hk_aI s a i.toNatClampNeg).toInt64 := by
        intro i hi
        rw [xIntRow_at, gR_b (bf_k g1), g2, hz_ob, hz_nn, hk_lI, if_pos (by simp [hk_ba, g3, hi]), hz_ob]
      refine hv_iload_n 2 dX0_asks_42 rfl rfl ?_
      refine hv_iconst (v := 4) dX0_asks_43 (by decide) ?_
      refine hv_iload 6 dX0_asks_44 rfl ?_
      refine hv_imul dX0_asks_46 ?_
      refine hv_iadd dX0_asks_47 ?_
      rw [← eq]
      refine hv_istore (L' := [(7, .int q), (0, .ref th), (1, .int p), (2, .int p2), (3, .int p3), (4, .int v), (5, .ref b), (6, .int t)]) dX0_asks_48 (Nat.le_of_ble_eq_true rfl) rfl ?_
      refine hv_aload 6 dX0_asks_50 rfl ?_
      refine hv_iload 0 dX0_asks_52 rfl ?_
      by_cases c0 : hk_in q k = true
      · refine hv_callV [.int q] [] [.long (hk_aI s a q.toNatClampNeg).toInt64] (wk_xIntRow_at (inn _ c0)) cs_X0_242 (bf_k g1) rfl ⟨Nat.le_of_ble_eq_true rfl, Nat.le_of_ble_eq_true rfl⟩ rfl (Nat.le_of_ble_eq_true rfl) rfl dX0_asks_54 ?_
        refine hv_l2i dX0_asks_57 ?_
        rw [Int32.toInt32_toInt64]
        refine hv_istore (L' := [(8, .int (hk_aI s a q.toNatClampNeg)), (7, .int q), (0, .ref th), (1, .int p), (2, .int p2), (3, .int p3), (4, .int v), (5, .ref b), (6, .int t)]) dX0_asks_58 (Nat.le_of_ble_eq_true rfl) rfl ?_
        refine hv_aload 7 dX0_asks_60 rfl ?_
        refine hv_iload 1 dX0_asks_62 rfl ?_
        refine hv_iconst (v := 1) dX0_asks_64 (by decide) ?_
        refine hv_iadd dX0_asks_65 ?_
        by_cases c1 : hk_in (q + 1) k = true
        · refine hv_callV [.int (q + 1)] [] [.long (hk_aI s a (q + 1).toNatClampNeg).toInt64] (wk_xIntRow_at (inn _ c1)) cs_X0_242 (bf_k g1) rfl ⟨Nat.le_of_ble_eq_true rfl, Nat.le_of_ble_eq_true rfl⟩ rfl (Nat.le_of_ble_eq_true rfl) rfl dX0_asks_66 ?_
          refine hv_l2i dX0_asks_69 ?_
          rw [Int32.toInt32_toInt64]
          refine hv_istore (L' := [(9, .int (hk_aI s a (q + 1).toNatClampNeg)), (8, .int (hk_aI s a q.toNatClampNeg)), (7, .int q), (0, .ref th), (1, .int p), (2, .int p2), (3, .int p3), (4, .int v), (5, .ref b), (6, .int t)]) dX0_asks_70 (Nat.le_of_ble_eq_true rfl) rfl ?_
          refine hv_aload 8 dX0_asks_72 rfl ?_
          refine hv_iload 2 dX0_asks_74 rfl ?_
          refine hv_iconst (v := 2) dX0_asks_76 (by decide) ?_
          refine hv_iadd dX0_asks_77 ?_
          by_cases c2 : hk_in (q + 2) k = true
          · refine hv_callV [.int (q + 2)] [] [.long (hk_aI s a (q + 2).toNatClampNeg).toInt64] (wk_xIntRow_at (inn _ c2)) cs_X0_242 (bf_k g1) rfl ⟨Nat.le_of_ble_eq_true rfl, Nat.le_of_ble_eq_true rfl⟩ rfl (Nat.le_of_ble_eq_true rfl) rfl dX0_asks_78 ?_
            refine hv_l2i dX0_asks_81 ?_
            rw [Int32.toInt32_toInt64]
            refine hv_istore (L' := [(10, .int (hk_aI s a (q + 2).toNatClampNeg)), (9, .int (hk_aI s a (q + 1).toNatClampNeg)), (8, .int (hk_aI s a q.toNatClampNeg)), (7, .int q), (0, .ref th), (1, .int p), (2, .int p2), (3, .int p3), (4, .int v), (5, .ref b), (6, .int t)]) dX0_asks_82 (Nat.le_of_ble_eq_true rfl) rfl ?_
            refine hv_aload 9 dX0_asks_84 rfl ?_
            refine hv_iload 3 dX0_asks_86 rfl ?_
            refine hv_iconst (v := 3) dX0_asks_88 (by decide) ?_
            refine hv_iadd dX0_asks_89 ?_
            by_cases c3 : hk_in (q + 3) k = true
            · refine hv_callV [.int (q + 3)] [] [.long (hk_aI s a (q + 3).toNatClampNeg).toInt64] (wk_xIntRow_at (inn _ c3)) cs_X0_242 (bf_k g1) rfl ⟨Nat.le_of_ble_eq_true rfl, Nat.le_of_ble_eq_true rfl⟩ rfl (Nat.le_of_ble_eq_true rfl) rfl dX0_asks_90 ?_
              refine hv_l2i dX0_asks_93 ?_
              rw [Int32.toInt32_toInt64]
              refine hv_istore (L' := [(11, .int (hk_aI s a (q + 3).toNatClampNeg)), (10, .int (hk_aI s a (q + 2).toNatClampNeg)), (9, .int (hk_aI s a (q + 1).toNatClampNeg)), (8, .int (hk_aI s a q.toNatClampNeg)), (7, .int q), (0, .ref th), (1, .int p), (2, .int p2), (3, .int p3), (4, .int v), (5, .ref b), (6, .int t)]) dX0_asks_94 (Nat.le_of_ble_eq_true rfl) rfl ?_
              rw [if_pos ⟨c0, c1, c2, c3⟩] at h
              obtain ⟨z0, ez0, h⟩ := hq_nm h
              obtain ⟨z1, ez1, h⟩ := hq_nm h
              obtain ⟨z2, ez2, h⟩ := hq_nm h
              obtain ⟨z3, ez3, h⟩ := hq_nm h
              rw [← ez0, ← ez1, ← ez2, ← ez3]
              refine hv_iload 3 dX0_asks_96 rfl ?_
              refine hv_iconst (v := 1) dX0_asks_98 (by decide) ?_
              refine hv_sipush (v := 9999) dX0_asks_99 (by decide) ?_
              refine hv_callS [.int z0, .int (1 : Int32), .int (9999 : Int32)] [] [.int (x_in z0 (1 : Int32) (9999 : Int32))] (wk_x_in rfl) cs_X0_73 rfl ⟨Nat.le_of_ble_eq_true rfl, Nat.le_of_ble_eq_true rfl⟩ rfl (Nat.le_of_ble_eq_true rfl) rfl dX0_asks_102 ?_
              refine hv_if_eq (tgt := 140) dX0_asks_105 (by decide) (fun d0 => ?_) (fun d0 => ?_)
              · rw [if_pos d0] at h
                obtain ⟨h1, h2⟩ := hq_ret h
                subst h1
                subst h2
                refine hv_iload 9 dX0_asks_140 rfl ?_
                exact hx_iret0 rfl dX0_asks_142
              · rw [if_neg d0] at h
                refine hv_iload 2 dX0_asks_108 rfl ?_
                refine hv_iconst (v := 1) dX0_asks_110 (by decide) ?_
                refine hv_sipush (v := 9999) dX0_asks_111 (by decide) ?_
                refine hv_callS [.int z1, .int (1 : Int32), .int (9999 : Int32)] [] [.int (x_in z1 (1 : Int32) (9999 : Int32))] (wk_x_in rfl) cs_X0_73 rfl ⟨Nat.le_of_ble_eq_true rfl, Nat.le_of_ble_eq_true rfl⟩ rfl (Nat.le_of_ble_eq_true rfl) rfl dX0_asks_114 ?_
                refine hv_if_eq (tgt := 140) dX0_asks_117 (by decide) (fun d1 => ?_) (fun d1 => ?_)
                · rw [if_pos d1] at h
                  obtain ⟨h1, h2⟩ := hq_ret h
                  subst h1
                  subst h2
                  refine hv_iload 9 dX0_asks_140 rfl ?_
                  exact hx_iret0 rfl dX0_asks_142
                · rw [if_neg d1] at h
                  obtain ⟨gb, h⟩ := hq_gd h
                  obtain ⟨e, ee, h⟩ := hq_ob h
                  refine hv_aload_n 5 dX0_asks_120 rfl rfl ?_
                  refine hv_sipush (v := 10000) dX0_asks_121 (by decide) ?_
                  refine hv_iload 3 dX0_asks_124 rfl ?_
                  refine hv_imul dX0_asks_126 ?_
                  refine hv_iload 2 dX0_asks_127 rfl ?_
                  refine hv_iadd dX0_asks_129 ?_
                  refine hv_iload 1 dX0_asks_130 rfl ?_
                  refine hv_iload 0 dX0_asks_132 rfl ?_
                  refine hv_callV [.int (10000 * z0 + z1), .int z2, .int z3] [] [.int e.1] (wk_x_see (r := e.1) (fin := e.2) ee) cs_X0_246 gb rfl ⟨Nat.le_of_ble_eq_true rfl, Nat.le_of_ble_eq_true rfl⟩ rfl (Nat.le_of_ble_eq_true rfl) rfl dX0_asks_134 ?_
                  refine hv_if_ge (tgt := 143) dX0_asks_137 (by decide) (fun d2 => ?_) (fun d2 => ?_)
                  · rw [if_pos d2] at h
                    refine hv_iinc (v := v + 1) (L' := [(4, .int (v + 1)), (11, .int z3), (10, .int z2), (9, .int z1), (8, .int z0), (7, .int q), (0, .ref th), (1, .int p), (2, .int p2), (3, .int p3), (5, .ref b), (6, .int t)]) 9 dX0_asks_143 rfl rfl (Nat.le_of_ble_eq_true rfl) rfl ?_
                    refine hv_iinc (v := t + 1) (L' := [(6, .int (t + 1)), (4, .int (v + 1)), (11, .int z3), (10, .int z2), (9, .int z1), (8, .int z0), (7, .int q), (0, .ref th), (1, .int p), (2, .int p2), (3, .int p3), (5, .ref b)]) 11 dX0_asks_146 rfl rfl (Nat.le_of_ble_eq_true rfl) rfl ?_
                    refine hv_goto (tgt := 36) dX0_asks_149 (by decide) ?_
                    refine hv_sub (L' := [(0, .ref th), (1, .int p), (2, .int p2), (3, .int p3), (4, .int (v + 1)), (5, .ref b), (6, .int (t + 1))]) [7, 8, 9, 10, 1, 11, 0] rfl ?_
                    exact ih _ _ _ h
                  · rw [if_neg d2] at h
                    obtain ⟨h1, h2⟩ := hq_ret h
                    subst h1
                    subst h2
                    refine hv_iload 9 dX0_asks_140 rfl ?_
                    exact hx_iret0 rfl dX0_asks_142
            · rw [if_neg (fun z => c3 z.2.2.2)] at h
              obtain ⟨h1, h2⟩ := hq_ret h
              subst h1
              subst h2
              refine hx_callV [.int (q + 3)] [] hx_efG (wt_IntRow_at htr g1 g2 g3 hk (hx_nin c3)) cs_X0_242 (bf_k g1) rfl ⟨Nat.le_of_ble_eq_true rfl, Nat.le_of_ble_eq_true rfl⟩ rfl (Nat.le_of_ble_eq_true rfl) dX0_asks_90 ?_
              refine hx_catch (pc := 90) (A := [(22, 142, 155, 250), (143, 152, 155, 250), (22, 142, 160, 252), (143, 152, 160, 252)]) (b := (22, 142, 165, 254)) (B := [(143, 152, 165, 254)]) ⟨by decide, by decide⟩ (by decide) q933 q2228 (List.forall_mem_cons.mpr ⟨Or.inr ⟨by decide, _, q824, by decide +kernel⟩, (List.forall_mem_cons.mpr ⟨Or.inl (by decide), (List.forall_mem_cons.mpr ⟨Or.inr ⟨by decide, _, q908, by decide +kernel⟩, (List.forall_mem_cons.mpr ⟨Or.inl (by decide), (fun _ h => absurd h List.not_mem_nil)⟩)⟩)⟩)⟩) (fun qx z hz => ?_)
              refine hv_astore (L' := [(5, .ref qx), (10, .int (hk_aI s a (q + 2).toNatClampNeg)), (9, .int (hk_aI s a (q + 1).toNatClampNeg)), (8, .int (hk_aI s a q.toNatClampNeg)), (7, .int q), (0, .ref th), (1, .int p), (2, .int p2), (3, .int p3), (4, .int v), (6, .int t)]) dX0_asks_165 (Nat.le_of_ble_eq_true rfl) rfl ?_
              refine hv_iload 9 dX0_asks_167 rfl ?_
              exact hx_iret (fin := hk_cs s 3 222) hz rfl dX0_asks_169
          · rw [if_neg (fun z => c2 z.2.2.1)] at h
            obtain ⟨h1, h2⟩ := hq_ret h
            subst h1
            subst h2
            refine hx_callV [.int (q + 2)] [] hx_efG (wt_IntRow_at htr g1 g2 g3 hk (hx_nin c2)) cs_X0_242 (bf_k g1) rfl ⟨Nat.le_of_ble_eq_true rfl, Nat.le_of_ble_eq_true rfl⟩ rfl (Nat.le_of_ble_eq_true rfl) dX0_asks_78 ?_
            refine hx_catch (pc := 78) (A := [(22, 142, 155, 250), (143, 152, 155, 250), (22, 142, 160, 252), (143, 152, 160, 252)]) (b := (22, 142, 165, 254)) (B := [(143, 152, 165, 254)]) ⟨by decide, by decide⟩ (by decide) q933 q2228 (List.forall_mem_cons.mpr ⟨Or.inr ⟨by decide, _, q824, by decide +kernel⟩, (List.forall_mem_cons.mpr ⟨Or.inl (by decide), (List.forall_mem_cons.mpr ⟨Or.inr ⟨by decide, _, q908, by decide +kernel⟩, (List.forall_mem_cons.mpr ⟨Or.inl (by decide), (fun _ h => absurd h List.not_mem_nil)⟩)⟩)⟩)⟩) (fun qx z hz => ?_)
            refine hv_astore (L' := [(5, .ref qx), (9, .int (hk_aI s a (q + 1).toNatClampNeg)), (8, .int (hk_aI s a q.toNatClampNeg)), (7, .int q), (0, .ref th), (1, .int p), (2, .int p2), (3, .int p3), (4, .int v), (6, .int t)]) dX0_asks_165 (Nat.le_of_ble_eq_true rfl) rfl ?_
            refine hv_iload 8 dX0_asks_167 rfl ?_
            exact hx_iret (fin := hk_cs s 3 222) hz rfl dX0_asks_169
        · rw [if_neg (fun z => c1 z.2.1)] at h
          obtain ⟨h1, h2⟩ := hq_ret h
          subst h1
          subst h2
          refine hx_callV [.int (q + 1)] [] hx_efG (wt_IntRow_at htr g1 g2 g3 hk (hx_nin c1)) cs_X0_242 (bf_k g1) rfl ⟨Nat.le_of_ble_eq_true rfl, Nat.le_of_ble_eq_true rfl⟩ rfl (Nat.le_of_ble_eq_true rfl) dX0_asks_66 ?_
          refine hx_catch (pc := 66) (A := [(22, 142, 155, 250), (143, 152, 155, 250), (22, 142, 160, 252), (143, 152, 160, 252)]) (b := (22, 142, 165, 254)) (B := [(143, 152, 165, 254)]) ⟨by decide, by decide⟩ (by decide) q933 q2228 (List.forall_mem_cons.mpr ⟨Or.inr ⟨by decide, _, q824, by decide +kernel⟩, (List.forall_mem_cons.mpr ⟨Or.inl (by decide), (List.forall_mem_cons.mpr ⟨Or.inr ⟨by decide, _, q908, by decide +kernel⟩, (List.forall_mem_cons.mpr ⟨Or.inl (by decide), (fun _ h => absurd h List.not_mem_nil)⟩)⟩)⟩)⟩) (fun qx z hz => ?_)
          refine hv_astore (L' := [(5, .ref qx), (8, .int (hk_aI s a q.toNatClampNeg)), (7, .int q), (0, .ref th), (1, .int p), (2, .int p2), (3, .int p3), (4, .int v), (6, .int t)]) dX0_asks_165 (Nat.le_of_ble_eq_true rfl) rfl ?_
          refine hv_iload 7 dX0_asks_167 rfl ?_
          exact hx_iret (fin := hk_cs s 3 222) hz rfl dX0_asks_169
      · rw [if_neg (fun z => c0 z.1)] at h
        obtain ⟨h1, h2⟩ := hq_ret h
        subst h1
        subst h2
        refine hx_callV [.int q] [] hx_efG (wt_IntRow_at htr g1 g2 g3 hk (hx_nin c0)) cs_X0_242 (bf_k g1) rfl ⟨Nat.le_of_ble_eq_true rfl, Nat.le_of_ble_eq_true rfl⟩ rfl (Nat.le_of_ble_eq_true rfl) dX0_asks_54 ?_
        refine hx_catch (pc := 54) (A := [(22, 142, 155, 250), (143, 152, 155, 250), (22, 142, 160, 252), (143, 152, 160, 252)]) (b := (22, 142, 165, 254)) (B := [(143, 152, 165, 254)]) ⟨by decide, by decide⟩ (by decide) q933 q2228 (List.forall_mem_cons.mpr ⟨Or.inr ⟨by decide, _, q824, by decide +kernel⟩, (List.forall_mem_cons.mpr ⟨Or.inl (by decide), (List.forall_mem_cons.mpr ⟨Or.inr ⟨by decide, _, q908, by decide +kernel⟩, (List.forall_mem_cons.mpr ⟨Or.inl (by decide), (fun _ h => absurd h List.not_mem_nil)⟩)⟩)⟩)⟩) (fun qx z hz => ?_)
        refine hv_astore (L' := [(5, .ref qx), (7, .int q), (0, .ref th), (1, .int p), (2, .int p2), (3, .int p3), (4, .int v), (6, .int t)]) dX0_asks_165 (Nat.le_of_ble_eq_true rfl) rfl ?_
        refine hv_iload 6 dX0_asks_167 rfl ?_
        exact hx_iret (fin := hk_cs s 3 222) hz rfl dX0_asks_169
set_option maxHeartbeats 4000000 in
theorem w0_asks {l : Launch} {Gd : hk_G} {th : Nat} {p p2 p3 : Int32} {s0 : hk_St} (htr : l.stackTraces = false) (hs : x_isShelf p = 0) : hx_MG Gd l yX0_asks (wsW_ yX0_asks cX0_asks 12 (some .int) hx_t_asks) 12 10400 [.ref th, .int p, .int p2, .int p3] s0 (some (.int (-1 : Int32))) s0 := by
  refine hx_startG htr "HeadReckons" (by decide +kernel) rfl (Nat.le_of_ble_eq_true rfl) ?_
  show hk_V Gd (l, cX0_asks, "HeadReckons", 12, (some .int), 12, 10400, false) (hx_endG Gd hx_t_asks s0 (some (.int (-1 : Int32))) s0) 0 [(0, .ref th), (1, .int p), (2, .int p2), (3, .int p3)] [] s0
  refine hv_iload_n 1 dX0_asks_0 rfl rfl ?_
  refine hv_callS [.int p] [] [.int (x_isShelf p)] (wk_x_isShelf rfl) cs_X0_237 rfl ⟨Nat.le_of_ble_eq_true rfl, Nat.le_of_ble_eq_true rfl⟩ rfl (Nat.le_of_ble_eq_true rfl) rfl dX0_asks_1 ?_
  refine hv_if_eq (tgt := 17) dX0_asks_4 (by decide) (fun _ => ?_) (fun c => absurd hs c)
  refine hv_iconst (v := -1) dX0_asks_17 (by decide) ?_
  exact hx_iret0 rfl dX0_asks_18
set_option maxHeartbeats 4000000 in
theorem w1_asks {l : Launch} {Gd : hk_G} {th : Nat} {p p2 p3 : Int32} {s0 : hk_St} (htr : l.stackTraces = false) (hs : ¬ x_isShelf p = 0) (hs2 : x_in p3 (1 : Int32) (15 : Int32) = 0) : hx_MG Gd l yX0_asks (wsW_ yX0_asks cX0_asks 12 (some .int) hx_t_asks) 12 10400 [.ref th, .int p, .int p2, .int p3] s0 (some (.int (-1 : Int32))) s0 := by
  refine hx_startG htr "HeadReckons" (by decide +kernel) rfl (Nat.le_of_ble_eq_true rfl) ?_
  show hk_V Gd (l, cX0_asks, "HeadReckons", 12, (some .int), 12, 10400, false) (hx_endG Gd hx_t_asks s0 (some (.int (-1 : Int32))) s0) 0 [(0, .ref th), (1, .int p), (2, .int p2), (3, .int p3)] [] s0
  refine hv_iload_n 1 dX0_asks_0 rfl rfl ?_
  refine hv_callS [.int p] [] [.int (x_isShelf p)] (wk_x_isShelf rfl) cs_X0_237 rfl ⟨Nat.le_of_ble_eq_true rfl, Nat.le_of_ble_eq_true rfl⟩ rfl (Nat.le_of_ble_eq_true rfl) rfl dX0_asks_1 ?_
  refine hv_if_eq (tgt := 17) dX0_asks_4 (by decide) (fun c => absurd c hs) (fun _ => ?_)
  refine hv_iload_n 3 dX0_asks_7 rfl rfl ?_
  refine hv_iconst (v := 1) dX0_asks_8 (by decide) ?_
  refine hv_bipush (v := 15) dX0_asks_9 (by decide) ?_
  refine hv_callS [.int p3, .int (1 : Int32), .int (15 : Int32)] [] [.int (x_in p3 (1 : Int32) (15 : Int32))] (wk_x_in rfl) cs_X0_73 rfl ⟨Nat.le_of_ble_eq_true rfl, Nat.le_of_ble_eq_true rfl⟩ rfl (Nat.le_of_ble_eq_true rfl) rfl dX0_asks_11 ?_
  refine hv_if_ne (tgt := 19) dX0_asks_14 (by decide) (fun c => absurd hs2 c) (fun _ => ?_)
  refine hv_iconst (v := -1) dX0_asks_17 (by decide) ?_
  exact hx_iret0 rfl dX0_asks_18
set_option maxHeartbeats 4000000 in
theorem w2_asks {l : Launch} {Gd : hk_G} {th sh : Nat} {p p2 p3 : Int32} {s0 : hk_St} (htr : l.stackTraces = false) (hs : ¬ x_isShelf p = 0) (hs2 : ¬ x_in p3 (1 : Int32) (15 : Int32) = 0) (e1 : hk_gR [0] 22 s0 th = some (some sh)) (e2 : hk_lR 10 s0 sh p = some none) (h3 : ¬ p3 ≤ (0 : Int32)) : hx_MG Gd l yX0_asks (wsW_ yX0_asks cX0_asks 12 (some .int) hx_t_asks) 12 10400 [.ref th, .int p, .int p2, .int p3] s0 (some (.int (0 : Int32))) (hk_cs s0 1 8) := by
  refine hx_startG htr "HeadReckons" (by decide +kernel) rfl (Nat.le_of_ble_eq_true rfl) ?_
  show hk_V Gd (l, cX0_asks, "HeadReckons", 12, (some .int), 12, 10400, false) (hx_endG Gd hx_t_asks s0 (some (.int (0 : Int32))) (hk_cs s0 1 8)) 0 [(0, .ref th), (1, .int p), (2, .int p2), (3, .int p3)] [] s0
  refine hv_iload_n 1 dX0_asks_0 rfl rfl ?_
  refine hv_callS [.int p] [] [.int (x_isShelf p)] (wk_x_isShelf rfl) cs_X0_237 rfl ⟨Nat.le_of_ble_eq_true rfl, Nat.le_of_ble_eq_true rfl⟩ rfl (Nat.le_of_ble_eq_true rfl) rfl dX0_asks_1 ?_
  refine hv_if_eq (tgt := 17) dX0_asks_4 (by decide) (fun c => absurd c hs) (fun _ => ?_)
  refine hv_iload_n 3 dX0_asks_7 rfl rfl ?_
  refine hv_iconst (v := 1) dX0_asks_8 (by decide) ?_
  refine hv_bipush (v := 15) dX0_asks_9 (by decide) ?_
  refine hv_callS [.int p3, .int (1 : Int32), .int (15 : Int32)] [] [.int (x_in p3 (1 : Int32) (15 : Int32))] (wk_x_in rfl) cs_X0_73 rfl ⟨Nat.le_of_ble_eq_true rfl, Nat.le_of_ble_eq_true rfl⟩ rfl (Nat.le_of_ble_eq_true rfl) rfl dX0_asks_11 ?_
  refine hv_if_ne (tgt := 19) dX0_asks_14 (by decide) (fun _ => ?_) (fun c => absurd c hs2)
  refine hv_iconst (v := 0) dX0_asks_19 (by decide) ?_
  refine hv_istore (L' := [(4, .int (0 : Int32)), (0, .ref th), (1, .int p), (2, .int p2), (3, .int p3)]) dX0_asks_20 (Nat.le_of_ble_eq_true rfl) rfl ?_
  refine hv_aload_n 1 dX0_asks_22 rfl rfl ?_
  refine hv_getR fl_X0_67 e1 dX0_asks_23 ?_
  refine hv_iload_n 2 dX0_asks_26 rfl rfl ?_
  refine hv_aald (by decide) (by decide) rfl e2 dX0_asks_27 ?_
  refine hv_castN dX0_asks_28 ?_
  refine hv_astoreq (L' := [(5, va_rf none), (4, .int (0 : Int32)), (0, .ref th), (1, .int p), (2, .int p2), (3, .int p3)]) dX0_asks_31 (Nat.le_of_ble_eq_true rfl) rfl ?_
  refine hv_iconst (v := 0) dX0_asks_33 (by decide) ?_
  refine hv_istore (L' := [(6, .int (0 : Int32)), (5, va_rf none), (4, .int (0 : Int32)), (0, .ref th), (1, .int p), (2, .int p2), (3, .int p3)]) dX0_asks_34 (Nat.le_of_ble_eq_true rfl) rfl ?_
  refine hv_iload 0 dX0_asks_36 rfl ?_
  refine hv_iload_n 6 dX0_asks_38 rfl rfl ?_
  refine hv_icmp_ge (tgt := 152) dX0_asks_39 (by decide) (fun c => absurd c h3) (fun _ => ?_)
  refine hv_iload_n 5 dX0_asks_42 rfl rfl ?_
  refine hv_iconst (v := 4) dX0_asks_43 (by decide) ?_
  refine hv_iload 0 dX0_asks_44 rfl ?_
  refine hv_imul dX0_asks_46 ?_
  refine hv_iadd dX0_asks_47 ?_
  refine hv_istore (L' := [(7, .int (p2 + ((4 : Int32) * (0 : Int32)))), (6, .int (0 : Int32)), (5, va_rf none), (4, .int (0 : Int32)), (0, .ref th), (1, .int p), (2, .int p2), (3, .int p3)]) dX0_asks_48 (Nat.le_of_ble_eq_true rfl) rfl ?_
  refine hv_aloadq 2 dX0_asks_50 rfl ?_
  refine hv_iload 0 dX0_asks_52 rfl ?_
  refine hx_invN (C := "HeadReckons$IntRow") [.int (p2 + ((4 : Int32) * (0 : Int32)))] [] hx_efG q956 q957 q959 q958 ⟨by decide, by decide⟩ (show (parseMethodDescriptor "(I)J").map (fun d => d.parameters.length) = some 1 from by decide +kernel) rfl (Nat.le_of_ble_eq_true rfl) (Nat.le_of_ble_eq_true rfl) (Nat.le_of_ble_eq_true rfl) dX0_asks_54 ?_
  refine hx_catch (pc := 54) (A := [(22, 142, 155, 250), (143, 152, 155, 250)]) (b := (22, 142, 160, 252)) (B := [(143, 152, 160, 252), (22, 142, 165, 254), (143, 152, 165, 254)]) ⟨by decide, by decide⟩ (by decide) q908 q930 (List.forall_mem_cons.mpr ⟨Or.inr ⟨by decide, _, q824, by decide +kernel⟩, (List.forall_mem_cons.mpr ⟨Or.inl (by decide), (fun _ h => absurd h List.not_mem_nil)⟩)⟩) (fun qx z hz => ?_)
  refine hv_astore (L' := [(5, .ref qx), (7, .int (p2 + ((4 : Int32) * (0 : Int32)))), (6, .int (0 : Int32)), (4, .int (0 : Int32)), (0, .ref th), (1, .int p), (2, .int p2), (3, .int p3)]) dX0_asks_160 (Nat.le_of_ble_eq_true rfl) rfl ?_
  refine hv_iload 3 dX0_asks_162 rfl ?_
  exact hx_iret (fin := hk_cs s0 1 8) hz rfl dX0_asks_164
set_option maxHeartbeats 4000000 in
theorem w3_asks {l : Launch} {Gd : hk_G} {th sh w ci : Nat} {r : vw_C} {p p2 p3 : Int32} {s0 : hk_St} (htr : l.stackTraces = false) (hs : ¬ x_isShelf p = 0) (hs2 : ¬ x_in p3 (1 : Int32) (15 : Int32) = 0) (e1 : hk_gR [0] 22 s0 th = some (some sh)) (e2 : hk_lR 10 s0 sh p = some (some w)) (hw : hk_k s0 w = some (ci, 0)) (hno : hx_No ci r "HeadReckons$IntRow") : hx_MG Gd l yX0_asks (wsW_ yX0_asks cX0_asks 12 (some .int) hx_t_asks) 12 10400 [.ref th, .int p, .int p2, .int p3] s0 (some (.int (-12 : Int32))) (hk_cs s0 3 1010) := by
  refine hx_startG htr "HeadReckons" (by decide +kernel) rfl (Nat.le_of_ble_eq_true rfl) ?_
  show hk_V Gd (l, cX0_asks, "HeadReckons", 12, (some .int), 12, 10400, false) (hx_endG Gd hx_t_asks s0 (some (.int (-12 : Int32))) (hk_cs s0 3 1010)) 0 [(0, .ref th), (1, .int p), (2, .int p2), (3, .int p3)] [] s0
  refine hv_iload_n 1 dX0_asks_0 rfl rfl ?_
  refine hv_callS [.int p] [] [.int (x_isShelf p)] (wk_x_isShelf rfl) cs_X0_237 rfl ⟨Nat.le_of_ble_eq_true rfl, Nat.le_of_ble_eq_true rfl⟩ rfl (Nat.le_of_ble_eq_true rfl) rfl dX0_asks_1 ?_
  refine hv_if_eq (tgt := 17) dX0_asks_4 (by decide) (fun c => absurd c hs) (fun _ => ?_)
  refine hv_iload_n 3 dX0_asks_7 rfl rfl ?_
  refine hv_iconst (v := 1) dX0_asks_8 (by decide) ?_
  refine hv_bipush (v := 15) dX0_asks_9 (by decide) ?_
  refine hv_callS [.int p3, .int (1 : Int32), .int (15 : Int32)] [] [.int (x_in p3 (1 : Int32) (15 : Int32))] (wk_x_in rfl) cs_X0_73 rfl ⟨Nat.le_of_ble_eq_true rfl, Nat.le_of_ble_eq_true rfl⟩ rfl (Nat.le_of_ble_eq_true rfl) rfl dX0_asks_11 ?_
  refine hv_if_ne (tgt := 19) dX0_asks_14 (by decide) (fun _ => ?_) (fun c => absurd c hs2)
  refine hv_iconst (v := 0) dX0_asks_19 (by decide) ?_
  refine hv_istore (L' := [(4, .int (0 : Int32)), (0, .ref th), (1, .int p), (2, .int p2), (3, .int p3)]) dX0_asks_20 (Nat.le_of_ble_eq_true rfl) rfl ?_
  refine hv_aload_n 1 dX0_asks_22 rfl rfl ?_
  refine hv_getR fl_X0_67 e1 dX0_asks_23 ?_
  refine hv_iload_n 2 dX0_asks_26 rfl rfl ?_
  refine hv_aald (by decide) (by decide) rfl e2 dX0_asks_27 ?_
  refine hx_cast hx_efG hw hno.1 hno.2.1 q955 hno.2.2.1 ⟨hno.2.2.2.1, by decide +kernel⟩ ⟨hno.2.2.2.2, by decide⟩ (Nat.le_of_ble_eq_true rfl) (Nat.le_of_ble_eq_true rfl) (Nat.le_of_ble_eq_true rfl) dX0_asks_28 ?_
  refine hx_catch (pc := 28) (A := []) (b := (22, 142, 155, 250)) (B := [(143, 152, 155, 250), (22, 142, 160, 252), (143, 152, 160, 252), (22, 142, 165, 254), (143, 152, 165, 254)]) ⟨by decide, by decide⟩ (by decide) q824 q886 (fun _ h => absurd h List.not_mem_nil) (fun qx z hz => ?_)
  refine hv_astore (L' := [(5, .ref qx), (4, .int (0 : Int32)), (0, .ref th), (1, .int p), (2, .int p2), (3, .int p3)]) dX0_asks_155 (Nat.le_of_ble_eq_true rfl) rfl ?_
  refine hv_bipush (v := -12) dX0_asks_157 (by decide) ?_
  exact hx_iret (fin := hk_cs s0 3 1010) hz rfl dX0_asks_159
set_option maxHeartbeats 4000000 in
theorem w4_asks {l : Launch} {Gd : hk_G} {th sh w a k n : Nat} {p p2 p3 : Int32} {s0 : hk_St} {r : Int32} {fin : hk_St} (htr : l.stackTraces = false) (hs : ¬ x_isShelf p = 0) (hs2 : ¬ x_in p3 (1 : Int32) (15 : Int32) = 0) (e1 : hk_gR [0] 22 s0 th = some (some sh)) (e2 : hk_lR 10 s0 sh p = some (some w)) (hw : hk_k s0 w = some (25, 0)) (hk : k < 2 ^ 31) (h : x_asks_L th w a k p2 p3 n 0 0 s0 = some (r, fin)) : hx_MG Gd l yX0_asks (wsW_ yX0_asks cX0_asks 12 (some .int) hx_t_asks) 12 10400 [.ref th, .int p, .int p2, .int p3] s0 (some (.int r)) fin := by
  refine hx_startG htr "HeadReckons" (by decide +kernel) rfl (Nat.le_of_ble_eq_true rfl) ?_
  show hk_V Gd (l, cX0_asks, "HeadReckons", 12, (some .int), 12, 10400, false) (hx_endG Gd hx_t_asks s0 (some (.int r)) fin) 0 [(0, .ref th), (1, .int p), (2, .int p2), (3, .int p3)] [] s0
  refine hv_iload_n 1 dX0_asks_0 rfl rfl ?_
  refine hv_callS [.int p] [] [.int (x_isShelf p)] (wk_x_isShelf rfl) cs_X0_237 rfl ⟨Nat.le_of_ble_eq_true rfl, Nat.le_of_ble_eq_true rfl⟩ rfl (Nat.le_of_ble_eq_true rfl) rfl dX0_asks_1 ?_
  refine hv_if_eq (tgt := 17) dX0_asks_4 (by decide) (fun c => absurd c hs) (fun _ => ?_)
  refine hv_iload_n 3 dX0_asks_7 rfl rfl ?_
  refine hv_iconst (v := 1) dX0_asks_8 (by decide) ?_
  refine hv_bipush (v := 15) dX0_asks_9 (by decide) ?_
  refine hv_callS [.int p3, .int (1 : Int32), .int (15 : Int32)] [] [.int (x_in p3 (1 : Int32) (15 : Int32))] (wk_x_in rfl) cs_X0_73 rfl ⟨Nat.le_of_ble_eq_true rfl, Nat.le_of_ble_eq_true rfl⟩ rfl (Nat.le_of_ble_eq_true rfl) rfl dX0_asks_11 ?_
  refine hv_if_ne (tgt := 19) dX0_asks_14 (by decide) (fun _ => ?_) (fun c => absurd c hs2)
  refine hv_iconst (v := 0) dX0_asks_19 (by decide) ?_
  refine hv_istore (L' := [(4, .int (0 : Int32)), (0, .ref th), (1, .int p), (2, .int p2), (3, .int p3)]) dX0_asks_20 (Nat.le_of_ble_eq_true rfl) rfl ?_
  refine hv_aload_n 1 dX0_asks_22 rfl rfl ?_
  refine hv_getR fl_X0_67 e1 dX0_asks_23 ?_
  refine hv_iload_n 2 dX0_asks_26 rfl rfl ?_
  refine hv_aald (by decide) (by decide) rfl e2 dX0_asks_27 ?_
  refine hv_cast (r := (RX28, TX28, 1)) (bf_k hw) (by decide) rfl q955 (Or.inl rfl) dX0_asks_28 ?_
  refine hv_astore (L' := [(5, .ref w), (4, .int (0 : Int32)), (0, .ref th), (1, .int p), (2, .int p2), (3, .int p3)]) dX0_asks_31 (Nat.le_of_ble_eq_true rfl) rfl ?_
  refine hv_iconst (v := 0) dX0_asks_33 (by decide) ?_
  refine hv_istore (L' := [(6, .int (0 : Int32)), (5, .ref w), (4, .int (0 : Int32)), (0, .ref th), (1, .int p), (2, .int p2), (3, .int p3)]) dX0_asks_34 (Nat.le_of_ble_eq_true rfl) rfl ?_
  refine hv_sub (L' := [(0, .ref th), (1, .int p), (2, .int p2), (3, .int p3), (4, .int 0), (5, .ref w), (6, .int 0)]) [3, 4, 5, 6, 2, 1, 0] rfl ?_
  exact wl_asks htr hk _ _ _ _ h