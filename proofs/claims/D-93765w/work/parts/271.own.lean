set_option maxRecDepth 100000
/-! ===== STAGE 1, methods that throw: row, put, element, shift, taken ===== -/
def hx_No (ci : Nat) (r : vw_C) (nm : String) : Prop := ci < 100 ∧ hk_cl[ci]? = some r ∧ (r.1, nm) ∈ hx_ncs ∧ packageOf r.1 = "" ∧ r.1.toList.length ≤ 24
def hx_Ye (ci : Nat) (r : vw_C) (nm : String) : Prop := ci < 100 ∧ hk_cl[ci]? = some r ∧ (r.1 = nm ∨ Cond.castable r.1 nm ∈ lw_tbl)
def hx_t_row : List (Nat × Nat × Nat × Nat) := [(24, 35, 38, 431)]
def hx_t_put : List (Nat × Nat × Nat × Nat) := [(9, 31, 32, 252), (9, 31, 37, 250), (9, 31, 42, 254)]
def hx_t_element : List (Nat × Nat × Nat × Nat) := [(11, 24, 25, 252), (11, 24, 30, 250), (11, 24, 35, 254)]
def hx_t_shift : List (Nat × Nat × Nat × Nat) := [(37, 63, 66, 250), (37, 63, 71, 254)]
def hx_t_taken : List (Nat × Nat × Nat × Nat) := [(19, 46, 47, 252), (19, 46, 51, 250)]
def hx_t_asks : List (Nat × Nat × Nat × Nat) := [(22, 142, 155, 250), (143, 152, 155, 250), (22, 142, 160, 252), (143, 152, 160, 252), (22, 142, 165, 254), (143, 152, 165, 254)]
theorem csr_at_23 : hk_CO "HeadReckons" 442 23 ⟨"HeadReckons$Row", "at", "(I)J"⟩ yX26_at cX26_at 2 (some .long) 1 := ⟨by decide, (RX26, TX26, 1), "HeadReckons$Row", rfl, lw_app (fun w h => by simp only [List.mem_cons, List.not_mem_nil, or_false] at h; rcases h with rfl | rfl | rfl | rfl | rfl; exact q1491; exact q1493; exact q1497; exact q1498; exact q132) (lw_meth q1499), Or.inr (Or.inr q1492), by decide, by decide, by decide +kernel⟩
theorem csr_at_24 : hk_CO "HeadReckons" 442 24 ⟨"HeadReckons$Row", "at", "(I)J"⟩ yX27_at cX27_at 2 (some .long) 1 := ⟨by decide, (RX27, TX27, 1), "HeadReckons$Row", rfl, lw_app (fun w h => by simp only [List.mem_cons, List.not_mem_nil, or_false] at h; rcases h with rfl | rfl | rfl | rfl | rfl; exact q1491; exact q1493; exact q1504; exact q1505; exact q133) (lw_meth q1506), Or.inr (Or.inr q1492), by decide, by decide, by decide +kernel⟩
theorem csr_at_25 : hk_CO "HeadReckons" 442 25 ⟨"HeadReckons$Row", "at", "(I)J"⟩ yX28_at cX28_at 2 (some .long) 1 := ⟨by decide, (RX28, TX28, 1), "HeadReckons$Row", rfl, lw_app (fun w h => by simp only [List.mem_cons, List.not_mem_nil, or_false] at h; rcases h with rfl | rfl | rfl | rfl | rfl; exact q1491; exact q1493; exact q1500; exact q957; exact q134) (lw_meth q959), Or.inr (Or.inr q1492), by decide, by decide, by decide +kernel⟩
theorem csr_at_26 : hk_CO "HeadReckons" 442 26 ⟨"HeadReckons$Row", "at", "(I)J"⟩ yX29_at cX29_at 2 (some .long) 1 := ⟨by decide, (RX29, TX29, 1), "HeadReckons$Row", rfl, lw_app (fun w h => by simp only [List.mem_cons, List.not_mem_nil, or_false] at h; rcases h with rfl | rfl | rfl | rfl | rfl; exact q1491; exact q1493; exact q1501; exact q1502; exact q135) (lw_meth q1503), Or.inr (Or.inr q1492), by decide, by decide, by decide +kernel⟩
theorem csr_at_27 : hk_CO "HeadReckons" 442 27 ⟨"HeadReckons$Row", "at", "(I)J"⟩ yX30_at cX30_at 2 (some .long) 1 := ⟨by decide, (RX30, TX30, 1), "HeadReckons$Row", rfl, lw_app (fun w h => by simp only [List.mem_cons, List.not_mem_nil, or_false] at h; rcases h with rfl | rfl | rfl | rfl | rfl; exact q1491; exact q1493; exact q1494; exact q1495; exact q136) (lw_meth q1496), Or.inr (Or.inr q1492), by decide, by decide, by decide +kernel⟩
theorem csr_put_23 : hk_CO "HeadReckons" 435 23 ⟨"HeadReckons$Row", "put", "(IJ)Z"⟩ yX26_put cX26_put 4 (some .boolean) 2 := ⟨by decide, (RX26, TX26, 1), "HeadReckons$Row", rfl, lw_app (fun w h => by simp only [List.mem_cons, List.not_mem_nil, or_false] at h; rcases h with rfl | rfl | rfl | rfl | rfl; exact q1468; exact q1470; exact q1474; exact q1475; exact q132) (lw_meth q1476), Or.inr (Or.inr q1469), by decide, by decide, by decide +kernel⟩
theorem csr_put_24 : hk_CO "HeadReckons" 435 24 ⟨"HeadReckons$Row", "put", "(IJ)Z"⟩ yX27_put cX27_put 4 (some .boolean) 2 := ⟨by decide, (RX27, TX27, 1), "HeadReckons$Row", rfl, lw_app (fun w h => by simp only [List.mem_cons, List.not_mem_nil, or_false] at h; rcases h with rfl | rfl | rfl | rfl | rfl; exact q1468; exact q1470; exact q1483; exact q1484; exact q133) (lw_meth q1485), Or.inr (Or.inr q1469), by decide, by decide, by decide +kernel⟩
theorem csr_put_25 : hk_CO "HeadReckons" 435 25 ⟨"HeadReckons$Row", "put", "(IJ)Z"⟩ yX28_put cX28_put 4 (some .boolean) 2 := ⟨by decide, (RX28, TX28, 1), "HeadReckons$Row", rfl, lw_app (fun w h => by simp only [List.mem_cons, List.not_mem_nil, or_false] at h; rcases h with rfl | rfl | rfl | rfl | rfl; exact q1468; exact q1470; exact q1477; exact q1478; exact q134) (lw_meth q1479), Or.inr (Or.inr q1469), by decide, by decide, by decide +kernel⟩
theorem csr_put_26 : hk_CO "HeadReckons" 435 26 ⟨"HeadReckons$Row", "put", "(IJ)Z"⟩ yX29_put cX29_put 4 (some .boolean) 2 := ⟨by decide, (RX29, TX29, 1), "HeadReckons$Row", rfl, lw_app (fun w h => by simp only [List.mem_cons, List.not_mem_nil, or_false] at h; rcases h with rfl | rfl | rfl | rfl | rfl; exact q1468; exact q1470; exact q1480; exact q1481; exact q135) (lw_meth q1482), Or.inr (Or.inr q1469), by decide, by decide, by decide +kernel⟩
theorem csr_put_27 : hk_CO "HeadReckons" 435 27 ⟨"HeadReckons$Row", "put", "(IJ)Z"⟩ yX30_put cX30_put 4 (some .boolean) 2 := ⟨by decide, (RX30, TX30, 1), "HeadReckons$Row", rfl, lw_app (fun w h => by simp only [List.mem_cons, List.not_mem_nil, or_false] at h; rcases h with rfl | rfl | rfl | rfl | rfl; exact q1468; exact q1470; exact q1471; exact q1472; exact q136) (lw_meth q1473), Or.inr (Or.inr q1469), by decide, by decide, by decide +kernel⟩
theorem csr_copy_23 : hk_CO "HeadReckons" 443 23 ⟨"HeadReckons$Row", "copy", "(ILHeadReckons$Row;II)V"⟩ yX26_copy cX26_copy 5 none 4 := ⟨by decide, (RX26, TX26, 1), "HeadReckons$Row", rfl, lw_app (fun w h => by simp only [List.mem_cons, List.not_mem_nil, or_false] at h; rcases h with rfl | rfl | rfl | rfl | rfl; exact q1511; exact q1513; exact q1521; exact q1522; exact q132) (lw_meth q1523), Or.inr (Or.inr q1512), by decide, by decide, by decide +kernel⟩
theorem csr_copy_24 : hk_CO "HeadReckons" 443 24 ⟨"HeadReckons$Row", "copy", "(ILHeadReckons$Row;II)V"⟩ yX27_copy cX27_copy 5 none 4 := ⟨by decide, (RX27, TX27, 1), "HeadReckons$Row", rfl, lw_app (fun w h => by simp only [List.mem_cons, List.not_mem_nil, or_false] at h; rcases h with rfl | rfl | rfl | rfl | rfl; exact q1511; exact q1513; exact q1536; exact q1537; exact q133) (lw_meth q1538), Or.inr (Or.inr q1512), by decide, by decide, by decide +kernel⟩
theorem csr_copy_25 : hk_CO "HeadReckons" 443 25 ⟨"HeadReckons$Row", "copy", "(ILHeadReckons$Row;II)V"⟩ yX28_copy cX28_copy 5 none 4 := ⟨by decide, (RX28, TX28, 1), "HeadReckons$Row", rfl, lw_app (fun w h => by simp only [List.mem_cons, List.not_mem_nil, or_false] at h; rcases h with rfl | rfl | rfl | rfl | rfl; exact q1511; exact q1513; exact q1526; exact q1527; exact q134) (lw_meth q1528), Or.inr (Or.inr q1512), by decide, by decide, by decide +kernel⟩
theorem csr_copy_26 : hk_CO "HeadReckons" 443 26 ⟨"HeadReckons$Row", "copy", "(ILHeadReckons$Row;II)V"⟩ yX29_copy cX29_copy 5 none 4 := ⟨by decide, (RX29, TX29, 1), "HeadReckons$Row", rfl, lw_app (fun w h => by simp only [List.mem_cons, List.not_mem_nil, or_false] at h; rcases h with rfl | rfl | rfl | rfl | rfl; exact q1511; exact q1513; exact q1531; exact q1532; exact q135) (lw_meth q1533), Or.inr (Or.inr q1512), by decide, by decide, by decide +kernel⟩
theorem csr_copy_27 : hk_CO "HeadReckons" 443 27 ⟨"HeadReckons$Row", "copy", "(ILHeadReckons$Row;II)V"⟩ yX30_copy cX30_copy 5 none 4 := ⟨by decide, (RX30, TX30, 1), "HeadReckons$Row", rfl, lw_app (fun w h => by simp only [List.mem_cons, List.not_mem_nil, or_false] at h; rcases h with rfl | rfl | rfl | rfl | rfl; exact q1511; exact q1513; exact q1514; exact q1515; exact q136) (lw_meth q1516), Or.inr (Or.inr q1512), by decide, by decide, by decide +kernel⟩
theorem cdx_isUnder : ∀ q ∈ vi_isUnder, hk_CO "HeadReckons" 446 q.1 ⟨"HeadReckons$Way", "isUnder", "(I)Z"⟩ q.2.1 q.2.2.1 q.2.2.2 (some .boolean) 1 := List.forall_mem_cons.mpr ⟨⟨by decide, (RX17, TX17, 2), "HeadReckons$Way", rfl, lw_app (fun w h => by simp only [List.mem_cons, List.not_mem_nil, or_false] at h; rcases h with rfl | rfl | rfl | rfl | rfl; exact q1545; exact q1548; exact q1547; exact q1546; exact q122) (lw_meth q1553), Or.inr (Or.inl ⟨_, _, _, q1553, q1546⟩), by decide, by decide, by decide +kernel⟩, List.forall_mem_cons.mpr ⟨⟨by decide, (RX18, TX18, 3), "HeadReckons$Way", rfl, lw_app (fun w h => by simp only [List.mem_cons, List.not_mem_nil, or_false] at h; rcases h with rfl | rfl | rfl | rfl | rfl; exact q1545; exact q1548; exact q1589; exact q1550; exact q123) (lw_meth q1551), Or.inr (Or.inl ⟨_, _, _, q1553, q1546⟩), by decide, by decide, by decide +kernel⟩, List.forall_mem_cons.mpr ⟨⟨by decide, (RX19, TX19, 3), "HeadReckons$Way", rfl, lw_app (fun w h => by simp only [List.mem_cons, List.not_mem_nil, or_false] at h; rcases h with rfl | rfl | rfl | rfl | rfl; exact q1545; exact q1548; exact q1590; exact q1586; exact q124) (lw_meth q1587), Or.inr (Or.inl ⟨_, _, _, q1553, q1546⟩), by decide, by decide, by decide +kernel⟩, List.forall_mem_cons.mpr ⟨⟨by decide, (RX20, TX20, 4), "HeadReckons$Way", rfl, lw_app (fun w h => by simp only [List.mem_cons, List.not_mem_nil, or_false] at h; rcases h with rfl | rfl | rfl | rfl | rfl; exact q1545; exact q1548; exact q1585; exact q1586; exact q124) (lw_meth q1587), Or.inr (Or.inl ⟨_, _, _, q1553, q1546⟩), by decide, by decide, by decide +kernel⟩, List.forall_mem_cons.mpr ⟨⟨by decide, (RX21, TX21, 3), "HeadReckons$Way", rfl, lw_app (fun w h => by simp only [List.mem_cons, List.not_mem_nil, or_false] at h; rcases h with rfl | rfl | rfl | rfl | rfl; exact q1545; exact q1548; exact q1584; exact q1546; exact q122) (lw_meth q1553), Or.inr (Or.inl ⟨_, _, _, q1553, q1546⟩), by decide, by decide, by decide +kernel⟩, List.forall_mem_cons.mpr ⟨⟨by decide, (RX22, TX22, 4), "HeadReckons$Way", rfl, lw_app (fun w h => by simp only [List.mem_cons, List.not_mem_nil, or_false] at h; rcases h with rfl | rfl | rfl | rfl | rfl; exact q1545; exact q1548; exact q1549; exact q1550; exact q123) (lw_meth q1551), Or.inr (Or.inl ⟨_, _, _, q1553, q1546⟩), by decide, by decide, by decide +kernel⟩, List.forall_mem_cons.mpr ⟨⟨by decide, (RX23, TX23, 3), "HeadReckons$Way", rfl, lw_app (fun w h => by simp only [List.mem_cons, List.not_mem_nil, or_false] at h; rcases h with rfl | rfl | rfl | rfl | rfl; exact q1545; exact q1548; exact q1580; exact q1581; exact q128) (lw_meth q1582), Or.inr (Or.inl ⟨_, _, _, q1553, q1546⟩), by decide, by decide, by decide +kernel⟩, List.forall_mem_cons.mpr ⟨⟨by decide, (RX24, TX24, 4), "HeadReckons$Way", rfl, lw_app (fun w h => by simp only [List.mem_cons, List.not_mem_nil, or_false] at h; rcases h with rfl | rfl | rfl | rfl | rfl; exact q1545; exact q1548; exact q1591; exact q1581; exact q128) (lw_meth q1582), Or.inr (Or.inl ⟨_, _, _, q1553, q1546⟩), by decide, by decide, by decide +kernel⟩, fun _ h => absurd h List.not_mem_nil⟩⟩⟩⟩⟩⟩⟩⟩
theorem cdx_kind : ∀ q ∈ vi_kind, hk_CO "HeadReckons" 449 q.1 ⟨"HeadReckons$Way", "kind", "()I"⟩ q.2.1 q.2.2.1 q.2.2.2 (some .int) 0 := List.forall_mem_cons.mpr ⟨⟨by decide, (RX17, TX17, 2), "HeadReckons$Way", rfl, lw_app (fun w h => by simp only [List.mem_cons, List.not_mem_nil, or_false] at h; rcases h with rfl | rfl | rfl | rfl | rfl; exact q1592; exact q1557; exact q1556; exact q1555; exact q122) (lw_meth q1579), Or.inr (Or.inl ⟨_, _, _, q1579, q1555⟩), by decide, by decide, by decide +kernel⟩, List.forall_mem_cons.mpr ⟨⟨by decide, (RX18, TX18, 3), "HeadReckons$Way", rfl, lw_app (fun w h => by simp only [List.mem_cons, List.not_mem_nil, or_false] at h; rcases h with rfl | rfl | rfl | rfl | rfl; exact q1592; exact q1557; exact q1570; exact q1571; exact q123) (lw_meth q1572), Or.inr (Or.inl ⟨_, _, _, q1579, q1555⟩), by decide, by decide, by decide +kernel⟩, List.forall_mem_cons.mpr ⟨⟨by decide, (RX19, TX19, 3), "HeadReckons$Way", rfl, lw_app (fun w h => by simp only [List.mem_cons, List.not_mem_nil, or_false] at h; rcases h with rfl | rfl | rfl | rfl | rfl; exact q1592; exact q1557; exact q1573; exact q1574; exact q124) (lw_meth q1575), Or.inr (Or.inl ⟨_, _, _, q1579, q1555⟩), by decide, by decide, by decide +kernel⟩, List.forall_mem_cons.mpr ⟨⟨by decide, (RX20, TX20, 4), "HeadReckons$Way", rfl, lw_app (fun w h => by simp only [List.mem_cons, List.not_mem_nil, or_false] at h; rcases h with rfl | rfl | rfl | rfl | rfl; exact q1592; exact q1557; exact q1567; exact q1568; exact q125) (lw_meth q1569), Or.inr (Or.inl ⟨_, _, _, q1579, q1555⟩), by decide, by decide, by decide +kernel⟩, List.forall_mem_cons.mpr ⟨⟨by decide, (RX21, TX21, 3), "HeadReckons$Way", rfl, lw_app (fun w h => by simp only [List.mem_cons, List.not_mem_nil, or_false] at h; rcases h with rfl | rfl | rfl | rfl | rfl; exact q1592; exact q1557; exact q1564; exact q1565; exact q126) (lw_meth q1566), Or.inr (Or.inl ⟨_, _, _, q1579, q1555⟩), by decide, by decide, by decide +kernel⟩, List.forall_mem_cons.mpr ⟨⟨by decide, (RX22, TX22, 4), "HeadReckons$Way", rfl, lw_app (fun w h => by simp only [List.mem_cons, List.not_mem_nil, or_false] at h; rcases h with rfl | rfl | rfl | rfl | rfl; exact q1592; exact q1557; exact q1558; exact q1559; exact q127) (lw_meth q1560), Or.inr (Or.inl ⟨_, _, _, q1579, q1555⟩), by decide, by decide, by decide +kernel⟩, List.forall_mem_cons.mpr ⟨⟨by decide, (RX23, TX23, 3), "HeadReckons$Way", rfl, lw_app (fun w h => by simp only [List.mem_cons, List.not_mem_nil, or_false] at h; rcases h with rfl | rfl | rfl | rfl | rfl; exact q1592; exact q1557; exact q1561; exact q1562; exact q128) (lw_meth q1563), Or.inr (Or.inl ⟨_, _, _, q1579, q1555⟩), by decide, by decide, by decide +kernel⟩, List.forall_mem_cons.mpr ⟨⟨by decide, (RX24, TX24, 4), "HeadReckons$Way", rfl, lw_app (fun w h => by simp only [List.mem_cons, List.not_mem_nil, or_false] at h; rcases h with rfl | rfl | rfl | rfl | rfl; exact q1592; exact q1557; exact q1576; exact q1577; exact q129) (lw_meth q1578), Or.inr (Or.inl ⟨_, _, _, q1579, q1555⟩), by decide, by decide, by decide +kernel⟩, fun _ h => absurd h List.not_mem_nil⟩⟩⟩⟩⟩⟩⟩⟩
def xv_isUnder (b : Nat) (x : Int32) (s : hk_St) : Option Int32 :=
  if hk_bf [15] s b = true then xWay_isUnder b x s else
  if hk_bf [16] s b = true then xFromLeft_isUnder b x s else
  if hk_bf [17] s b = true then xFromRight_isUnder b x s else
  if hk_bf [18] s b = true then xFromRight_isUnder b x s else
  if hk_bf [19] s b = true then xWay_isUnder b x s else
  if hk_bf [20] s b = true then xFromLeft_isUnder b x s else
  if hk_bf [21] s b = true then xByHeart_isUnder b x s else
  if hk_bf [22] s b = true then xByHeart_isUnder b x s else
  none
theorem wd_isUnder {l : Launch} {Gd : hk_G} {b : Nat} {x : Int32} {s : hk_St} {r : Int32} (h : xv_isUnder b x s = some r) : hk_Dm vi_isUnder (some .boolean) Gd l 6 200 b [.int x] s (some (.int r)) s := by
  unfold xv_isUnder at h
  by_cases c0 : hk_bf [15] s b = true
  · replace h := hq_ip c0 h
    exact ⟨(15, yX17_isUnder, cX17_isUnder, 2), List.mem_of_getElem? (i := 0) rfl, c0, 3, 79, wk_xWay_isUnder h, by decide, by decide⟩
  replace h := hq_in c0 h
  by_cases c1 : hk_bf [16] s b = true
  · replace h := hq_ip c1 h
    exact ⟨(16, yX18_isUnder, cX18_isUnder, 2), List.mem_of_getElem? (i := 1) rfl, c1, 4, 100, wk_xFromLeft_isUnder h, by decide, by decide⟩
  replace h := hq_in c1 h
  by_cases c2 : hk_bf [17] s b = true
  · replace h := hq_ip c2 h
    exact ⟨(17, yX19_isUnder, cX19_isUnder, 2), List.mem_of_getElem? (i := 2) rfl, c2, 4, 100, wk_xFromRight_isUnder h, by decide, by decide⟩
  replace h := hq_in c2 h
  by_cases c3 : hk_bf [18] s b = true
  · replace h := hq_ip c3 h
    exact ⟨(18, yX19_isUnder, cX19_isUnder, 2), List.mem_of_getElem? (i := 3) rfl, c3, 4, 100, wk_xFromRight_isUnder h, by decide, by decide⟩
  replace h := hq_in c3 h
  by_cases c4 : hk_bf [19] s b = true
  · replace h := hq_ip c4 h
    exact ⟨(19, yX17_isUnder, cX17_isUnder, 2), List.mem_of_getElem? (i := 4) rfl, c4, 3, 79, wk_xWay_isUnder h, by decide, by decide⟩
  replace h := hq_in c4 h
  by_cases c5 : hk_bf [20] s b = true
  · replace h := hq_ip c5 h
    exact ⟨(20, yX18_isUnder, cX18_isUnder, 2), List.mem_of_getElem? (i := 5) rfl, c5, 4, 100, wk_xFromLeft_isUnder h, by decide, by decide⟩
  replace h := hq_in c5 h
  by_cases c6 : hk_bf [21] s b = true
  · replace h := hq_ip c6 h
    exact ⟨(21, yX23_isUnder, cX23_isUnder, 2), List.mem_of_getElem? (i := 6) rfl, c6, 4, 100, wk_xByHeart_isUnder h, by decide, by decide⟩
  replace h := hq_in c6 h
  by_cases c7 : hk_bf [22] s b = true
  · replace h := hq_ip c7 h
    exact ⟨(22, yX23_isUnder, cX23_isUnder, 2), List.mem_of_getElem? (i := 7) rfl, c7, 4, 100, wk_xByHeart_isUnder h, by decide, by decide⟩
  replace h := hq_in c7 h
  cases h
set_option maxHeartbeats 4000000 in
theorem w0_element {l : Launch} {Gd : hk_G} {th : Nat} {p i : Int32} {s0 : hk_St} (htr : l.stackTraces = false) (hs : x_isShelf p = 0) : hx_MG Gd l yX0_element (wsW_ yX0_element cX0_element 4 (some .long) hx_t_element) 12 10400 [.ref th, .int p, .int i] s0 (some (.long (-9223372036854775808 : Int64))) s0 := by
  refine hx_startG htr "HeadReckons" (by decide +kernel) rfl (Nat.le_of_ble_eq_true rfl) ?_
  show hk_V Gd (l, cX0_element, "HeadReckons", 4, (some .long), 12, 10400, false) (hx_endG Gd hx_t_element s0 (some (.long (-9223372036854775808 : Int64))) s0) 0 [(0, .ref th), (1, .int p), (2, .int i)] [] s0
  refine hv_iload_n 1 dX0_element_0 rfl rfl ?_
  refine hv_callS [.int p] [] [.int (x_isShelf p)] (wk_x_isShelf rfl) cs_X0_237 rfl ⟨Nat.le_of_ble_eq_true rfl, Nat.le_of_ble_eq_true rfl⟩ rfl (Nat.le_of_ble_eq_true rfl) rfl dX0_element_1 ?_
  refine hv_if_ne (tgt := 11) dX0_element_4 (by decide) (fun c => absurd hs c) (fun _ => ?_)
  refine hv_ldc2 q1490 dX0_element_7 ?_
  exact hx_lret0 rfl dX0_element_10
set_option maxHeartbeats 4000000 in
theorem w1_element {l : Launch} {Gd : hk_G} {th sh : Nat} {p i : Int32} {s0 : hk_St} (htr : l.stackTraces = false) (hs : ¬ x_isShelf p = 0) (e1 : hk_gR [0] 22 s0 th = some (some sh)) (e2 : hk_lR 10 s0 sh p = some none) : hx_MG Gd l yX0_element (wsW_ yX0_element cX0_element 4 (some .long) hx_t_element) 12 10400 [.ref th, .int p, .int i] s0 (some (.long (-9223372036854775808 : Int64))) (hk_cs s0 1 8) := by
  refine hx_startG htr "HeadReckons" (by decide +kernel) rfl (Nat.le_of_ble_eq_true rfl) ?_
  show hk_V Gd (l, cX0_element, "HeadReckons", 4, (some .long), 12, 10400, false) (hx_endG Gd hx_t_element s0 (some (.long (-9223372036854775808 : Int64))) (hk_cs s0 1 8)) 0 [(0, .ref th), (1, .int p), (2, .int i)] [] s0
  refine hv_iload_n 1 dX0_element_0 rfl rfl ?_
  refine hv_callS [.int p] [] [.int (x_isShelf p)] (wk_x_isShelf rfl) cs_X0_237 rfl ⟨Nat.le_of_ble_eq_true rfl, Nat.le_of_ble_eq_true rfl⟩ rfl (Nat.le_of_ble_eq_true rfl) rfl dX0_element_1 ?_
  refine hv_if_ne (tgt := 11) dX0_element_4 (by decide) (fun _ => ?_) (fun c => absurd c hs)
  refine hv_aload_n 0 dX0_element_11 rfl rfl ?_
  refine hv_getR fl_X0_67 e1 dX0_element_12 ?_
  refine hv_iload_n 1 dX0_element_15 rfl rfl ?_
  refine hv_aald (by decide) (by decide) rfl e2 dX0_element_16 ?_
  refine hv_castN dX0_element_17 ?_
  refine hv_iload_n 2 dX0_element_20 rfl rfl ?_
  refine hx_invNA [.int i] [] hx_efG q1491 q1492 q1493 ⟨by decide, by decide⟩ (show (parseMethodDescriptor "(I)J").map (fun d => d.parameters.length) = some 1 from by decide +kernel) rfl (Nat.le_of_ble_eq_true rfl) (Nat.le_of_ble_eq_true rfl) (Nat.le_of_ble_eq_true rfl) dX0_element_21 ?_
  refine hx_catch (pc := 21) (A := []) (b := (11, 24, 25, 252)) (B := [(11, 24, 30, 250), (11, 24, 35, 254)]) ⟨by decide, by decide⟩ (by decide) q908 q930 (fun _ h => absurd h List.not_mem_nil) (fun qx z hz => ?_)
  refine hv_astore_n (L' := [(3, .ref qx), (0, .ref th), (1, .int p), (2, .int i)]) dX0_element_25 rfl (Nat.le_of_ble_eq_true rfl) rfl ?_
  refine hv_ldc2 q1490 dX0_element_26 ?_
  exact hx_lret (fin := hk_cs s0 1 8) hz rfl dX0_element_29
set_option maxHeartbeats 4000000 in
theorem w2_element {l : Launch} {Gd : hk_G} {th sh w ci : Nat} {r : vw_C} {p i : Int32} {s0 : hk_St} (htr : l.stackTraces = false) (hs : ¬ x_isShelf p = 0) (e1 : hk_gR [0] 22 s0 th = some (some sh)) (e2 : hk_lR 10 s0 sh p = some (some w)) (hw : hk_k s0 w = some (ci, 0)) (hno : hx_No ci r "HeadReckons$Row") : hx_MG Gd l yX0_element (wsW_ yX0_element cX0_element 4 (some .long) hx_t_element) 12 10400 [.ref th, .int p, .int i] s0 (some (.long (-9223372036854775808 : Int64))) (hk_cs s0 3 1010) := by
  refine hx_startG htr "HeadReckons" (by decide +kernel) rfl (Nat.le_of_ble_eq_true rfl) ?_
  show hk_V Gd (l, cX0_element, "HeadReckons", 4, (some .long), 12, 10400, false) (hx_endG Gd hx_t_element s0 (some (.long (-9223372036854775808 : Int64))) (hk_cs s0 3 1010)) 0 [(0, .ref th), (1, .int p), (2, .int i)] [] s0
  refine hv_iload_n 1 dX0_element_0 rfl rfl ?_
  refine hv_callS [.int p] [] [.int (x_isShelf p)] (wk_x_isShelf rfl) cs_X0_237 rfl ⟨Nat.le_of_ble_eq_true rfl, Nat.le_of_ble_eq_true rfl⟩ rfl (Nat.le_of_ble_eq_true rfl) rfl dX0_element_1 ?_
  refine hv_if_ne (tgt := 11) dX0_element_4 (by decide) (fun _ => ?_) (fun c => absurd c hs)
  refine hv_aload_n 0 dX0_element_11 rfl rfl ?_
  refine hv_getR fl_X0_67 e1 dX0_element_12 ?_
  refine hv_iload_n 1 dX0_element_15 rfl rfl ?_
  refine hv_aald (by decide) (by decide) rfl e2 dX0_element_16 ?_
  refine hx_cast hx_efG hw hno.1 hno.2.1 q1467 hno.2.2.1 ⟨hno.2.2.2.1, by decide +kernel⟩ ⟨hno.2.2.2.2, by decide⟩ (Nat.le_of_ble_eq_true rfl) (Nat.le_of_ble_eq_true rfl) (Nat.le_of_ble_eq_true rfl) dX0_element_17 ?_
  refine hx_catch (pc := 17) (A := [(11, 24, 25, 252)]) (b := (11, 24, 30, 250)) (B := [(11, 24, 35, 254)]) ⟨by decide, by decide⟩ (by decide) q824 q886 (List.forall_mem_cons.mpr ⟨Or.inr ⟨by decide, _, q908, by decide +kernel⟩, (fun _ h => absurd h List.not_mem_nil)⟩) (fun qx z hz => ?_)
  refine hv_astore_n (L' := [(3, .ref qx), (0, .ref th), (1, .int p), (2, .int i)]) dX0_element_30 rfl (Nat.le_of_ble_eq_true rfl) rfl ?_
  refine hv_ldc2 q1490 dX0_element_31 ?_
  exact hx_lret (fin := hk_cs s0 3 1010) hz rfl dX0_element_34
set_option maxHeartbeats 4000000 in
theorem w3_element {l : Launch} {Gd : hk_G} {th sh w ci : Nat} {r : vw_C} {p i : Int32} {s0 : hk_St} {y : MethodName} {bc : ByteArray} {mx : Nat} (htr : l.stackTraces = false) (hs : ¬ x_isShelf p = 0) (e1 : hk_gR [0] 22 s0 th = some (some sh)) (e2 : hk_lR 10 s0 sh p = some (some w)) (hw : hk_k s0 w = some (ci, 0)) (hye : hx_Ye ci r "HeadReckons$Row") (hmx : mx ≤ 5) (cs : hk_CO "HeadReckons" 442 ci ⟨"HeadReckons$Row", "at", "(I)J"⟩ y bc mx (some .long) 1) (hM : hx_MT Gd l y bc mx (some .long) 9 10300 (.ref w :: [.int i]) s0 (hk_cs s0 3 222) "java/lang/ArrayIndexOutOfBoundsException") : hx_MG Gd l yX0_element (wsW_ yX0_element cX0_element 4 (some .long) hx_t_element) 12 10400 [.ref th, .int p, .int i] s0 (some (.long (-9223372036854775808 : Int64))) (hk_cs s0 3 222) := by
  refine hx_startG htr "HeadReckons" (by decide +kernel) rfl (Nat.le_of_ble_eq_true rfl) ?_
  show hk_V Gd (l, cX0_element, "HeadReckons", 4, (some .long), 12, 10400, false) (hx_endG Gd hx_t_element s0 (some (.long (-9223372036854775808 : Int64))) (hk_cs s0 3 222)) 0 [(0, .ref th), (1, .int p), (2, .int i)] [] s0
  refine hv_iload_n 1 dX0_element_0 rfl rfl ?_
  refine hv_callS [.int p] [] [.int (x_isShelf p)] (wk_x_isShelf rfl) cs_X0_237 rfl ⟨Nat.le_of_ble_eq_true rfl, Nat.le_of_ble_eq_true rfl⟩ rfl (Nat.le_of_ble_eq_true rfl) rfl dX0_element_1 ?_
  refine hv_if_ne (tgt := 11) dX0_element_4 (by decide) (fun _ => ?_) (fun c => absurd c hs)
  refine hv_aload_n 0 dX0_element_11 rfl rfl ?_
  refine hv_getR fl_X0_67 e1 dX0_element_12 ?_
  refine hv_iload_n 1 dX0_element_15 rfl rfl ?_
  refine hv_aald (by decide) (by decide) rfl e2 dX0_element_16 ?_
  refine hv_cast (bf_k hw) hye.1 hye.2.1 q1467 hye.2.2 dX0_element_17 ?_
  refine hv_iload_n 2 dX0_element_20 rfl rfl ?_
  refine hx_callO [.int i] [] hx_efG hM cs (bf_k hw) rfl ⟨Nat.le_of_ble_eq_true rfl, by show 8 + (mx + 11) + 10300 ≤ 10400; omega⟩ rfl (Nat.le_of_ble_eq_true rfl) dX0_element_21 ?_
  refine hx_catch (pc := 21) (A := [(11, 24, 25, 252), (11, 24, 30, 250)]) (b := (11, 24, 35, 254)) (B := []) ⟨by decide, by decide⟩ (by decide) q933 q2228 (List.forall_mem_cons.mpr ⟨Or.inr ⟨by decide, _, q908, by decide +kernel⟩, (List.forall_mem_cons.mpr ⟨Or.inr ⟨by decide, _, q824, by decide +kernel⟩, (fun _ h => absurd h List.not_mem_nil)⟩)⟩) (fun qx z hz => ?_)
  refine hv_astore_n (L' := [(3, .ref qx), (0, .ref th), (1, .int p), (2, .int i)]) dX0_element_35 rfl (Nat.le_of_ble_eq_true rfl) rfl ?_
  refine hv_ldc2 q1490 dX0_element_36 ?_
  exact hx_lret (fin := hk_cs s0 3 222) hz rfl dX0_element_39
set_option maxHeartbeats 4000000 in
theorem w4_element {l : Launch} {Gd : hk_G} {th sh w ci : Nat} {r : vw_C} {p i : Int32} {s0 : hk_St} {y : MethodName} {bc : ByteArray} {mx fr lo : Nat} {z : Int64} (htr : l.stackTraces = false) (hs : ¬ x_isShelf p = 0) (e1 : hk_gR [0] 22 s0 th = some (some sh)) (e2 : hk_lR 10 s0 sh p = some (some w)) (hw : hk_k s0 w = some (ci, 0)) (hye : hx_Ye ci r "HeadReckons$Row") (hmx : mx ≤ 5) (hfr : fr ≤ 9) (hlo : lo ≤ 10300) (cs : hk_CO "HeadReckons" 442 ci ⟨"HeadReckons$Row", "at", "(I)J"⟩ y bc mx (some .long) 1) (hM : hk_Met Gd l y bc mx (some .long) fr lo (.ref w :: [.int i]) s0 (some (.long z)) s0) : hx_MG Gd l yX0_element (wsW_ yX0_element cX0_element 4 (some .long) hx_t_element) 12 10400 [.ref th, .int p, .int i] s0 (some (.long z)) s0 := by
  refine hx_startG htr "HeadReckons" (by decide +kernel) rfl (Nat.le_of_ble_eq_true rfl) ?_
  show hk_V Gd (l, cX0_element, "HeadReckons", 4, (some .long), 12, 10400, false) (hx_endG Gd hx_t_element s0 (some (.long z)) s0) 0 [(0, .ref th), (1, .int p), (2, .int i)] [] s0
  refine hv_iload_n 1 dX0_element_0 rfl rfl ?_
  refine hv_callS [.int p] [] [.int (x_isShelf p)] (wk_x_isShelf rfl) cs_X0_237 rfl ⟨Nat.le_of_ble_eq_true rfl, Nat.le_of_ble_eq_true rfl⟩ rfl (Nat.le_of_ble_eq_true rfl) rfl dX0_element_1 ?_
  refine hv_if_ne (tgt := 11) dX0_element_4 (by decide) (fun _ => ?_) (fun c => absurd c hs)
  refine hv_aload_n 0 dX0_element_11 rfl rfl ?_
  refine hv_getR fl_X0_67 e1 dX0_element_12 ?_
  refine hv_iload_n 1 dX0_element_15 rfl rfl ?_
  refine hv_aald (by decide) (by decide) rfl e2 dX0_element_16 ?_
  refine hv_cast (bf_k hw) hye.1 hye.2.1 q1467 hye.2.2 dX0_element_17 ?_
  refine hv_iload_n 2 dX0_element_20 rfl rfl ?_
  refine hv_callO [.int i] [] [.long z] hM cs (bf_k hw) rfl ⟨by show fr + 1 ≤ 12; omega, by show 8 + (mx + 11) + lo ≤ 10400; omega⟩ rfl (Nat.le_of_ble_eq_true rfl) rfl dX0_element_21 ?_
  exact hx_lret0 rfl dX0_element_24
set_option maxHeartbeats 4000000 in
theorem w0_put {l : Launch} {Gd : hk_G} {th : Nat} {p i : Int32} {v : Int64} {s0 : hk_St} (htr : l.stackTraces = false) (hs : x_isShelf p = 0) : hx_MG Gd l yX0_put (wsW_ yX0_put cX0_put 6 (some .int) hx_t_put) 12 10400 [.ref th, .int p, .int i, .long v] s0 (some (.int (-1 : Int32))) s0 := by
  refine hx_startG htr "HeadReckons" (by decide +kernel) rfl (Nat.le_of_ble_eq_true rfl) ?_
  show hk_V Gd (l, cX0_put, "HeadReckons", 6, (some .int), 12, 10400, false) (hx_endG Gd hx_t_put s0 (some (.int (-1 : Int32))) s0) 0 [(0, .ref th), (1, .int p), (2, .int i), (3, .long v)] [] s0
  refine hv_iload_n 1 dX0_put_0 rfl rfl ?_
  refine hv_callS [.int p] [] [.int (x_isShelf p)] (wk_x_isShelf rfl) cs_X0_237 rfl ⟨Nat.le_of_ble_eq_true rfl, Nat.le_of_ble_eq_true rfl⟩ rfl (Nat.le_of_ble_eq_true rfl) rfl dX0_put_1 ?_
  refine hv_if_ne (tgt := 9) dX0_put_4 (by decide) (fun c => absurd hs c) (fun _ => ?_)
  refine hv_iconst (v := -1) dX0_put_7 (by decide) ?_
  exact hx_iret0 rfl dX0_put_8
set_option maxHeartbeats 4000000 in
theorem w1_put {l : Launch} {Gd : hk_G} {th sh : Nat} {p i : Int32} {v : Int64} {s0 : hk_St} (htr : l.stackTraces = false) (hs : ¬ x_isShelf p = 0) (e1 : hk_gR [0] 22 s0 th = some (some sh)) (e2 : hk_lR 10 s0 sh p = some none) : hx_MG Gd l yX0_put (wsW_ yX0_put cX0_put 6 (some .int) hx_t_put) 12 10400 [.ref th, .int p, .int i, .long v] s0 (some (.int (-11 : Int32))) (hk_cs s0 1 8) := by
  refine hx_startG htr "HeadReckons" (by decide +kernel) rfl (Nat.le_of_ble_eq_true rfl) ?_
  show hk_V Gd (l, cX0_put, "HeadReckons", 6, (some .int), 12, 10400, false) (hx_endG Gd hx_t_put s0 (some (.int (-11 : Int32))) (hk_cs s0 1 8)) 0 [(0, .ref th), (1, .int p), (2, .int i), (3, .long v)] [] s0
  refine hv_iload_n 1 dX0_put_0 rfl rfl ?_
  refine hv_callS [.int p] [] [.int (x_isShelf p)] (wk_x_isShelf rfl) cs_X0_237 rfl ⟨Nat.le_of_ble_eq_true rfl, Nat.le_of_ble_eq_true rfl⟩ rfl (Nat.le_of_ble_eq_true rfl) rfl dX0_put_1 ?_
  refine hv_if_ne (tgt := 9) dX0_put_4 (by decide) (fun _ => ?_) (fun c => absurd c hs)
  refine hv_aload_n 0 dX0_put_9 rfl rfl ?_
  refine hv_getR fl_X0_67 e1 dX0_put_10 ?_
  refine hv_iload_n 1 dX0_put_13 rfl rfl ?_
  refine hv_aald (by decide) (by decide) rfl e2 dX0_put_14 ?_
  refine hv_castN dX0_put_15 ?_
  refine hv_iload_n 2 dX0_put_18 rfl rfl ?_
  refine hv_lload_n 3 dX0_put_19 rfl rfl ?_
  refine hx_invNA [.int i, .long v] [] hx_efG q1468 q1469 q1470 ⟨by decide, by decide⟩ (show (parseMethodDescriptor "(IJ)Z").map (fun d => d.parameters.length) = some 2 from by decide +kernel) rfl (Nat.le_of_ble_eq_true rfl) (Nat.le_of_ble_eq_true rfl) (Nat.le_of_ble_eq_true rfl) dX0_put_20 ?_
  refine hx_catch (pc := 20) (A := []) (b := (9, 31, 32, 252)) (B := [(9, 31, 37, 250), (9, 31, 42, 254)]) ⟨by decide, by decide⟩ (by decide) q908 q930 (fun _ h => absurd h List.not_mem_nil) (fun qx z hz => ?_)
  refine hv_astore (L' := [(5, .ref qx), (0, .ref th), (1, .int p), (2, .int i), (3, .long v)]) dX0_put_32 (Nat.le_of_ble_eq_true rfl) rfl ?_
  refine hv_bipush (v := -11) dX0_put_34 (by decide) ?_
  exact hx_iret (fin := hk_cs s0 1 8) hz rfl dX0_put_36
set_option maxHeartbeats 4000000 in
theorem w2_put {l : Launch} {Gd : hk_G} {th sh w ci : Nat} {r : vw_C} {p i : Int32} {v : Int64} {s0 : hk_St} (htr : l.stackTraces = false) (hs : ¬ x_isShelf p = 0) (e1 : hk_gR [0] 22 s0 th = some (some sh)) (e2 : hk_lR 10 s0 sh p = some (some w)) (hw : hk_k s0 w = some (ci, 0)) (hno : hx_No ci r "HeadReckons$Row") : hx_MG Gd l yX0_put (wsW_ yX0_put cX0_put 6 (some .int) hx_t_put) 12 10400 [.ref th, .int p, .int i, .long v] s0 (some (.int (-12 : Int32))) (hk_cs s0 3 1010) := by
  refine hx_startG htr "HeadReckons" (by decide +kernel) rfl (Nat.le_of_ble_eq_true rfl) ?_
  show hk_V Gd (l, cX0_put, "HeadReckons", 6, (some .int), 12, 10400, false) (hx_endG Gd hx_t_put s0 (some (.int (-12 : Int32))) (hk_cs s0 3 1010)) 0 [(0, .ref th), (1, .int p), (2, .int i), (3, .long v)] [] s0
  refine hv_iload_n 1 dX0_put_0 rfl rfl ?_
  refine hv_callS [.int p] [] [.int (x_isShelf p)] (wk_x_isShelf rfl) cs_X0_237 rfl ⟨Nat.le_of_ble_eq_true rfl, Nat.le_of_ble_eq_true rfl⟩ rfl (Nat.le_of_ble_eq_true rfl) rfl dX0_put_1 ?_
  refine hv_if_ne (tgt := 9) dX0_put_4 (by decide) (fun _ => ?_) (fun c => absurd c hs)
  refine hv_aload_n 0 dX0_put_9 rfl rfl ?_
  refine hv_getR fl_X0_67 e1 dX0_put_10 ?_
  refine hv_iload_n 1 dX0_put_13 rfl rfl ?_
  refine hv_aald (by decide) (by decide) rfl e2 dX0_put_14 ?_
  refine hx_cast hx_efG hw hno.1 hno.2.1 q1467 hno.2.2.1 ⟨hno.2.2.2.1, by decide +kernel⟩ ⟨hno.2.2.2.2, by decide⟩ (Nat.le_of_ble_eq_true rfl) (Nat.le_of_ble_eq_true rfl) (Nat.le_of_ble_eq_true rfl) dX0_put_15 ?_
  refine hx_catch (pc := 15) (A := [(9, 31, 32, 252)]) (b := (9, 31, 37, 250)) (B := [(9, 31, 42, 254)]) ⟨by decide, by decide⟩ (by decide) q824 q886 (List.forall_mem_cons.mpr ⟨Or.inr ⟨by decide, _, q908, by decide +kernel⟩, (fun _ h => absurd h List.not_mem_nil)⟩) (fun qx z hz => ?_)
  refine hv_astore (L' := [(5, .ref qx), (0, .ref th), (1, .int p), (2, .int i), (3, .long v)]) dX0_put_37 (Nat.le_of_ble_eq_true rfl) rfl ?_
  refine hv_bipush (v := -12) dX0_put_39 (by decide) ?_
  exact hx_iret (fin := hk_cs s0 3 1010) hz rfl dX0_put_41
set_option maxHeartbeats 4000000 in
theorem w3_put {l : Launch} {Gd : hk_G} {th sh w ci : Nat} {r : vw_C} {p i : Int32} {v : Int64} {s0 : hk_St} {y : MethodName} {bc : ByteArray} {mx : Nat} (htr : l.stackTraces = false) (hs : ¬ x_isShelf p = 0) (e1 : hk_gR [0] 22 s0 th = some (some sh)) (e2 : hk_lR 10 s0 sh p = some (some w)) (hw : hk_k s0 w = some (ci, 0)) (hye : hx_Ye ci r "HeadReckons$Row") (hmx : mx ≤ 5) (cs : hk_CO "HeadReckons" 435 ci ⟨"HeadReckons$Row", "put", "(IJ)Z"⟩ y bc mx (some .boolean) 2) (hM : hx_MT Gd l y bc mx (some .boolean) 9 10300 (.ref w :: [.int i, .long v]) s0 (hk_cs s0 3 222) "java/lang/ArrayIndexOutOfBoundsException") : hx_MG Gd l yX0_put (wsW_ yX0_put cX0_put 6 (some .int) hx_t_put) 12 10400 [.ref th, .int p, .int i, .long v] s0 (some (.int (-13 : Int32))) (hk_cs s0 3 222) := by
  refine hx_startG htr "HeadReckons" (by decide +kernel) rfl (Nat.le_of_ble_eq_true rfl) ?_
  show hk_V Gd (l, cX0_put, "HeadReckons", 6, (some .int), 12, 10400, false) (hx_endG Gd hx_t_put s0 (some (.int (-13 : Int32))) (hk_cs s0 3 222)) 0 [(0, .ref th), (1, .int p), (2, .int i), (3, .long v)] [] s0
  refine hv_iload_n 1 dX0_put_0 rfl rfl ?_
  refine hv_callS [.int p] [] [.int (x_isShelf p)] (wk_x_isShelf rfl) cs_X0_237 rfl ⟨Nat.le_of_ble_eq_true rfl, Nat.le_of_ble_eq_true rfl⟩ rfl (Nat.le_of_ble_eq_true rfl) rfl dX0_put_1 ?_
  refine hv_if_ne (tgt := 9) dX0_put_4 (by decide) (fun _ => ?_) (fun c => absurd c hs)
  refine hv_aload_n 0 dX0_put_9 rfl rfl ?_
  refine hv_getR fl_X0_67 e1 dX0_put_10 ?_
  refine hv_iload_n 1 dX0_put_13 rfl rfl ?_
  refine hv_aald (by decide) (by decide) rfl e2 dX0_put_14 ?_
  refine hv_cast (bf_k hw) hye.1 hye.2.1 q1467 hye.2.2 dX0_put_15 ?_
  refine hv_iload_n 2 dX0_put_18 rfl rfl ?_
  refine hv_lload_n 3 dX0_put_19 rfl rfl ?_
  refine hx_callO [.int i, .long v] [] hx_efG hM cs (bf_k hw) rfl ⟨Nat.le_of_ble_eq_true rfl, by show 8 + (mx + 11) + 10300 ≤ 10400; omega⟩ rfl (Nat.le_of_ble_eq_true rfl) dX0_put_20 ?_
  refine hx_catch (pc := 20) (A := [(9, 31, 32, 252), (9, 31, 37, 250)]) (b := (9, 31, 42, 254)) (B := []) ⟨by decide, by decide⟩ (by decide) q933 q2228 (List.forall_mem_cons.mpr ⟨Or.inr ⟨by decide, _, q908, by decide +kernel⟩, (List.forall_mem_cons.mpr ⟨Or.inr ⟨by decide, _, q824, by decide +kernel⟩, (fun _ h => absurd h List.not_mem_nil)⟩)⟩) (fun qx z hz => ?_)
  refine hv_astore (L' := [(5, .ref qx), (0, .ref th), (1, .int p), (2, .int i), (3, .long v)]) dX0_put_42 (Nat.le_of_ble_eq_true rfl) rfl ?_
  refine hv_bipush (v := -13) dX0_put_44 (by decide) ?_
  exact hx_iret (fin := hk_cs s0 3 222) hz rfl dX0_put_46
set_option maxHeartbeats 4000000 in
theorem w4_put {l : Launch} {Gd : hk_G} {th sh w ci : Nat} {r : vw_C} {p i : Int32} {v : Int64} {s0 : hk_St} {y : MethodName} {bc : ByteArray} {mx fr lo : Nat} {s2 : hk_St} (htr : l.stackTraces = false) (hs : ¬ x_isShelf p = 0) (e1 : hk_gR [0] 22 s0 th = some (some sh)) (e2 : hk_lR 10 s0 sh p = some (some w)) (hw : hk_k s0 w = some (ci, 0)) (hye : hx_Ye ci r "HeadReckons$Row") (hmx : mx ≤ 5) (hfr : fr ≤ 9) (hlo : lo ≤ 10300) (cs : hk_CO "HeadReckons" 435 ci ⟨"HeadReckons$Row", "put", "(IJ)Z"⟩ y bc mx (some .boolean) 2) (hM : hk_Met Gd l y bc mx (some .boolean) fr lo (.ref w :: [.int i, .long v]) s0 (some (.int 1)) s2) : hx_MG Gd l yX0_put (wsW_ yX0_put cX0_put 6 (some .int) hx_t_put) 12 10400 [.ref th, .int p, .int i, .long v] s0 (some (.int (1 : Int32))) s2 := by
  refine hx_startG htr "HeadReckons" (by decide +kernel) rfl (Nat.le_of_ble_eq_true rfl) ?_
  show hk_V Gd (l, cX0_put, "HeadReckons", 6, (some .int), 12, 10400, false) (hx_endG Gd hx_t_put s0 (some (.int (1 : Int32))) s2) 0 [(0, .ref th), (1, .int p), (2, .int i), (3, .long v)] [] s0
  refine hv_iload_n 1 dX0_put_0 rfl rfl ?_
  refine hv_callS [.int p] [] [.int (x_isShelf p)] (wk_x_isShelf rfl) cs_X0_237 rfl ⟨Nat.le_of_ble_eq_true rfl, Nat.le_of_ble_eq_true rfl⟩ rfl (Nat.le_of_ble_eq_true rfl) rfl dX0_put_1 ?_
  refine hv_if_ne (tgt := 9) dX0_put_4 (by decide) (fun _ => ?_) (fun c => absurd c hs)
  refine hv_aload_n 0 dX0_put_9 rfl rfl ?_
  refine hv_getR fl_X0_67 e1 dX0_put_10 ?_
  refine hv_iload_n 1 dX0_put_13 rfl rfl ?_
  refine hv_aald (by decide) (by decide) rfl e2 dX0_put_14 ?_
  refine hv_cast (bf_k hw) hye.1 hye.2.1 q1467 hye.2.2 dX0_put_15 ?_
  refine hv_iload_n 2 dX0_put_18 rfl rfl ?_
  refine hv_lload_n 3 dX0_put_19 rfl rfl ?_
  refine hv_callO [.int i, .long v] [] [.int 1] hM cs (bf_k hw) rfl ⟨by show fr + 1 ≤ 12; omega, by show 8 + (mx + 11) + lo ≤ 10400; omega⟩ rfl (Nat.le_of_ble_eq_true rfl) rfl dX0_put_20 ?_
  refine hv_if_eq (tgt := 30) dX0_put_23 (by decide) (fun c => absurd c (by decide)) (fun _ => ?_)
  refine hv_iconst (v := 1) dX0_put_26 (by decide) ?_
  refine hv_goto (tgt := 31) dX0_put_27 (by decide) ?_
  exact hx_iret0 rfl dX0_put_31
set_option maxHeartbeats 4000000 in
theorem w0_row {l : Launch} {Gd : hk_G} {th : Nat} {p s n : Int32} {s0 : hk_St} (htr : l.stackTraces = false) (hs : x_isShelf p = 0) : hx_MG Gd l yX0_row (wsW_ yX0_row cX0_row 5 (some .int) hx_t_row) 12 10400 [.ref th, .int p, .int s, .int n] s0 (some (.int (-1 : Int32))) s0 := by
  refine hx_startG htr "HeadReckons" (by decide +kernel) rfl (Nat.le_of_ble_eq_true rfl) ?_
  show hk_V Gd (l, cX0_row, "HeadReckons", 5, (some .int), 12, 10400, false) (hx_endG Gd hx_t_row s0 (some (.int (-1 : Int32))) s0) 0 [(0, .ref th), (1, .int p), (2, .int s), (3, .int n)] [] s0
  refine hv_iload_n 1 dX0_row_0 rfl rfl ?_
  refine hv_callS [.int p] [] [.int (x_isShelf p)] (wk_x_isShelf rfl) cs_X0_237 rfl ⟨Nat.le_of_ble_eq_true rfl, Nat.le_of_ble_eq_true rfl⟩ rfl (Nat.le_of_ble_eq_true rfl) rfl dX0_row_1 ?_
  refine hv_if_eq (tgt := 22) dX0_row_4 (by decide) (fun _ => ?_) (fun c => absurd hs c)
  refine hv_iconst (v := -1) dX0_row_22 (by decide) ?_
  exact hx_iret0 rfl dX0_row_23
set_option maxHeartbeats 4000000 in
theorem w1_row {l : Launch} {Gd : hk_G} {th : Nat} {p s n : Int32} {s0 : hk_St} (htr : l.stackTraces = false) (hs : ¬ x_isShelf p = 0) (hs2 : x_in s (0 : Int32) (4 : Int32) = 0) : hx_MG Gd l yX0_row (wsW_ yX0_row cX0_row 5 (some .int) hx_t_row) 12 10400 [.ref th, .int p, .int s, .int n] s0 (some (.int (-1 : Int32))) s0 := by
  refine hx_startG htr "HeadReckons" (by decide +kernel) rfl (Nat.le_of_ble_eq_true rfl) ?_
  show hk_V Gd (l, cX0_row, "HeadReckons", 5, (some .int), 12, 10400, false) (hx_endG Gd hx_t_row s0 (some (.int (-1 : Int32))) s0) 0 [(0, .ref th), (1, .int p), (2, .int s), (3, .int n)] [] s0
  refine hv_iload_n 1 dX0_row_0 rfl rfl ?_
  refine hv_callS [.int p] [] [.int (x_isShelf p)] (wk_x_isShelf rfl) cs_X0_237 rfl ⟨Nat.le_of_ble_eq_true rfl, Nat.le_of_ble_eq_true rfl⟩ rfl (Nat.le_of_ble_eq_true rfl) rfl dX0_row_1 ?_
  refine hv_if_eq (tgt := 22) dX0_row_4 (by decide) (fun c => absurd c hs) (fun _ => ?_)
  refine hv_iload_n 2 dX0_row_7 rfl rfl ?_
  refine hv_iconst (v := 0) dX0_row_8 (by decide) ?_
  refine hv_iconst (v := 4) dX0_row_9 (by decide) ?_
  refine hv_callS [.int s, .int (0 : Int32), .int (4 : Int32)] [] [.int (x_in s (0 : Int32) (4 : Int32))] (wk_x_in rfl) cs_X0_73 rfl ⟨Nat.le_of_ble_eq_true rfl, Nat.le_of_ble_eq_true rfl⟩ rfl (Nat.le_of_ble_eq_true rfl) rfl dX0_row_10 ?_
  refine hv_if_eq (tgt := 22) dX0_row_13 (by decide) (fun _ => ?_) (fun c => absurd hs2 c)
  refine hv_iconst (v := -1) dX0_row_22 (by decide) ?_
  exact hx_iret0 rfl dX0_row_23
set_option maxHeartbeats 4000000 in
theorem w2_row {l : Launch} {Gd : hk_G} {th : Nat} {p s n : Int32} {s0 : hk_St} (htr : l.stackTraces = false) (hs : ¬ x_isShelf p = 0) (hs2 : ¬ x_in s (0 : Int32) (4 : Int32) = 0) (hn : ¬ n ≤ (60 : Int32)) : hx_MG Gd l yX0_row (wsW_ yX0_row cX0_row 5 (some .int) hx_t_row) 12 10400 [.ref th, .int p, .int s, .int n] s0 (some (.int (-1 : Int32))) s0 := by
  refine hx_startG htr "HeadReckons" (by decide +kernel) rfl (Nat.le_of_ble_eq_true rfl) ?_
  show hk_V Gd (l, cX0_row, "HeadReckons", 5, (some .int), 12, 10400, false) (hx_endG Gd hx_t_row s0 (some (.int (-1 : Int32))) s0) 0 [(0, .ref th), (1, .int p), (2, .int s), (3, .int n)] [] s0
  refine hv_iload_n 1 dX0_row_0 rfl rfl ?_
  refine hv_callS [.int p] [] [.int (x_isShelf p)] (wk_x_isShelf rfl) cs_X0_237 rfl ⟨Nat.le_of_ble_eq_true rfl, Nat.le_of_ble_eq_true rfl⟩ rfl (Nat.le_of_ble_eq_true rfl) rfl dX0_row_1 ?_
  refine hv_if_eq (tgt := 22) dX0_row_4 (by decide) (fun c => absurd c hs) (fun _ => ?_)
  refine hv_iload_n 2 dX0_row_7 rfl rfl ?_
  refine hv_iconst (v := 0) dX0_row_8 (by decide) ?_
  refine hv_iconst (v := 4) dX0_row_9 (by decide) ?_
  refine hv_callS [.int s, .int (0 : Int32), .int (4 : Int32)] [] [.int (x_in s (0 : Int32) (4 : Int32))] (wk_x_in rfl) cs_X0_73 rfl ⟨Nat.le_of_ble_eq_true rfl, Nat.le_of_ble_eq_true rfl⟩ rfl (Nat.le_of_ble_eq_true rfl) rfl dX0_row_10 ?_
  refine hv_if_eq (tgt := 22) dX0_row_13 (by decide) (fun c => absurd c hs2) (fun _ => ?_)
  refine hv_iload_n 3 dX0_row_16 rfl rfl ?_
  refine hv_bipush (v := 60) dX0_row_17 (by decide) ?_
  refine hv_icmp_le (tgt := 24) dX0_row_19 (by decide) (fun c => absurd c hn) (fun _ => ?_)
  refine hv_iconst (v := -1) dX0_row_22 (by decide) ?_
  exact hx_iret0 rfl dX0_row_23
set_option maxHeartbeats 4000000 in
theorem w3_row {l : Launch} {Gd : hk_G} {th sh : Nat} {p s n : Int32} {s0 : hk_St} {s1 : hk_St} (htr : l.stackTraces = false) (hs : ¬ x_isShelf p = 0) (hs2 : ¬ x_in s (0 : Int32) (4 : Int32) = 0) (hn : n ≤ (60 : Int32)) (e1 : hk_gR [0] 22 s0 th = some (some sh)) (hM : hx_MT Gd l yX0_newRow cX0_newRow 2 (some (.object "HeadReckons$Row")) 10 10330 [.int s, .int n] s0 (hk_cs s1 3 54) "java/lang/NegativeArraySizeException") : hx_MG Gd l yX0_row (wsW_ yX0_row cX0_row 5 (some .int) hx_t_row) 12 10400 [.ref th, .int p, .int s, .int n] s0 (some (.int (-14 : Int32))) (hk_cs s1 3 54) := by
  refine hx_startG htr "HeadReckons" (by decide +kernel) rfl (Nat.le_of_ble_eq_true rfl) ?_
  show hk_V Gd (l, cX0_row, "HeadReckons", 5, (some .int), 12, 10400, false) (hx_endG Gd hx_t_row s0 (some (.int (-14 : Int32))) (hk_cs s1 3 54)) 0 [(0, .ref th), (1, .int p), (2, .int s), (3, .int n)] [] s0
  refine hv_iload_n 1 dX0_row_0 rfl rfl ?_
  refine hv_callS [.int p] [] [.int (x_isShelf p)] (wk_x_isShelf rfl) cs_X0_237 rfl ⟨Nat.le_of_ble_eq_true rfl, Nat.le_of_ble_eq_true rfl⟩ rfl (Nat.le_of_ble_eq_true rfl) rfl dX0_row_1 ?_
  refine hv_if_eq (tgt := 22) dX0_row_4 (by decide) (fun c => absurd c hs) (fun _ => ?_)
  refine hv_iload_n 2 dX0_row_7 rfl rfl ?_
  refine hv_iconst (v := 0) dX0_row_8 (by decide) ?_
  refine hv_iconst (v := 4) dX0_row_9 (by decide) ?_
  refine hv_callS [.int s, .int (0 : Int32), .int (4 : Int32)] [] [.int (x_in s (0 : Int32) (4 : Int32))] (wk_x_in rfl) cs_X0_73 rfl ⟨Nat.le_of_ble_eq_true rfl, Nat.le_of_ble_eq_true rfl⟩ rfl (Nat.le_of_ble_eq_true rfl) rfl dX0_row_10 ?_
  refine hv_if_eq (tgt := 22) dX0_row_13 (by decide) (fun c => absurd c hs2) (fun _ => ?_)
  refine hv_iload_n 3 dX0_row_16 rfl rfl ?_
  refine hv_bipush (v := 60) dX0_row_17 (by decide) ?_
  refine hv_icmp_le (tgt := 24) dX0_row_19 (by decide) (fun _ => ?_) (fun c => absurd hn c)
  refine hv_aload_n 0 dX0_row_24 rfl rfl ?_
  refine hv_getR fl_X0_67 e1 dX0_row_25 ?_
  refine hv_iload_n 1 dX0_row_28 rfl rfl ?_
  refine hv_iload_n 2 dX0_row_29 rfl rfl ?_
  refine hv_iload_n 3 dX0_row_30 rfl rfl ?_
  refine hx_callS [.int s, .int n] [.int p, .ref sh] hx_efG hM cs_X0_427 rfl ⟨Nat.le_of_ble_eq_true rfl, Nat.le_of_ble_eq_true rfl⟩ rfl (Nat.le_of_ble_eq_true rfl) dX0_row_31 ?_
  refine hx_catch (pc := 31) (A := []) (b := (24, 35, 38, 431)) (B := []) ⟨by decide, by decide⟩ (by decide) q1392 q1404 (fun _ h => absurd h List.not_mem_nil) (fun qx z hz => ?_)
  refine hv_astore (L' := [(4, .ref qx), (0, .ref th), (1, .int p), (2, .int s), (3, .int n)]) dX0_row_38 (Nat.le_of_ble_eq_true rfl) rfl ?_
  refine hv_bipush (v := -14) dX0_row_40 (by decide) ?_
  exact hx_iret (fin := hk_cs s1 3 54) hz rfl dX0_row_42
set_option maxHeartbeats 4000000 in
theorem w4_row {l : Launch} {Gd : hk_G} {th sh w : Nat} {p s n : Int32} {s0 : hk_St} {s1 s2 : hk_St} (htr : l.stackTraces = false) (hs : ¬ x_isShelf p = 0) (hs2 : ¬ x_in s (0 : Int32) (4 : Int32) = 0) (hn : n ≤ (60 : Int32)) (e1 : hk_gR [0] 22 s0 th = some (some sh)) (hM : hk_Met Gd l yX0_newRow cX0_newRow 2 (some (.object "HeadReckons$Row")) 4 120 [.int s, .int n] s0 (some (.ref w)) s1) (e2 : hk_tR 10 [15, 16, 17, 18, 19, 20, 21, 22, 23, 24, 25, 26, 27] s1 sh p (some w) = some s2) : hx_MG Gd l yX0_row (wsW_ yX0_row cX0_row 5 (some .int) hx_t_row) 12 10400 [.ref th, .int p, .int s, .int n] s0 (some (.int (1 : Int32))) s2 := by
  refine hx_startG htr "HeadReckons" (by decide +kernel) rfl (Nat.le_of_ble_eq_true rfl) ?_
  show hk_V Gd (l, cX0_row, "HeadReckons", 5, (some .int), 12, 10400, false) (hx_endG Gd hx_t_row s0 (some (.int (1 : Int32))) s2) 0 [(0, .ref th), (1, .int p), (2, .int s), (3, .int n)] [] s0
  refine hv_iload_n 1 dX0_row_0 rfl rfl ?_
  refine hv_callS [.int p] [] [.int (x_isShelf p)] (wk_x_isShelf rfl) cs_X0_237 rfl ⟨Nat.le_of_ble_eq_true rfl, Nat.le_of_ble_eq_true rfl⟩ rfl (Nat.le_of_ble_eq_true rfl) rfl dX0_row_1 ?_
  refine hv_if_eq (tgt := 22) dX0_row_4 (by decide) (fun c => absurd c hs) (fun _ => ?_)
  refine hv_iload_n 2 dX0_row_7 rfl rfl ?_
  refine hv_iconst (v := 0) dX0_row_8 (by decide) ?_
  refine hv_iconst (v := 4) dX0_row_9 (by decide) ?_
  refine hv_callS [.int s, .int (0 : Int32), .int (4 : Int32)] [] [.int (x_in s (0 : Int32) (4 : Int32))] (wk_x_in rfl) cs_X0_73 rfl ⟨Nat.le_of_ble_eq_true rfl, Nat.le_of_ble_eq_true rfl⟩ rfl (Nat.le_of_ble_eq_true rfl) rfl dX0_row_10 ?_
  refine hv_if_eq (tgt := 22) dX0_row_13 (by decide) (fun c => absurd c hs2) (fun _ => ?_)
  refine hv_iload_n 3 dX0_row_16 rfl rfl ?_
  refine hv_bipush (v := 60) dX0_row_17 (by decide) ?_
  refine hv_icmp_le (tgt := 24) dX0_row_19 (by decide) (fun _ => ?_) (fun c => absurd hn c)
  refine hv_aload_n 0 dX0_row_24 rfl rfl ?_
  refine hv_getR fl_X0_67 e1 dX0_row_25 ?_
  refine hv_iload_n 1 dX0_row_28 rfl rfl ?_
  refine hv_iload_n 2 dX0_row_29 rfl rfl ?_
  refine hv_iload_n 3 dX0_row_30 rfl rfl ?_
  refine hv_callS [.int s, .int n] [.int p, .ref sh] [.ref w, .int p, .ref sh] hM cs_X0_427 rfl ⟨Nat.le_of_ble_eq_true rfl, Nat.le_of_ble_eq_true rfl⟩ rfl (Nat.le_of_ble_eq_true rfl) rfl dX0_row_31 ?_
  refine hv_aast (v := some w) (by decide) (by decide) rfl hk_as10 e2 dX0_row_34 ?_
  refine hv_goto (tgt := 43) dX0_row_35 (by decide) ?_
  refine hv_iconst (v := 1) dX0_row_43 (by decide) ?_
  exact hx_iret0 rfl dX0_row_44
set_option maxHeartbeats 4000000 in
theorem w0_shift {l : Launch} {Gd : hk_G} {th : Nat} {p i p2 j n : Int32} {s0 : hk_St} (htr : l.stackTraces = false) (hs : x_isShelf p = 0) : hx_MG Gd l yX0_shift (wsW_ yX0_shift cX0_shift 7 (some .int) hx_t_shift) 12 10400 [.ref th, .int p, .int i, .int p2, .int j, .int n] s0 (some (.int (-1 : Int32))) s0 := by
  refine hx_startG htr "HeadReckons" (by decide +kernel) rfl (Nat.le_of_ble_eq_true rfl) ?_
  show hk_V Gd (l, cX0_shift, "HeadReckons", 7, (some .int), 12, 10400, false) (hx_endG Gd hx_t_shift s0 (some (.int (-1 : Int32))) s0) 0 [(0, .ref th), (1, .int p), (2, .int i), (3, .int p2), (4, .int j), (5, .int n)] [] s0
  refine hv_iload_n 1 dX0_shift_0 rfl rfl ?_
  refine hv_callS [.int p] [] [.int (x_isShelf p)] (wk_x_isShelf rfl) cs_X0_237 rfl ⟨Nat.le_of_ble_eq_true rfl, Nat.le_of_ble_eq_true rfl⟩ rfl (Nat.le_of_ble_eq_true rfl) rfl dX0_shift_1 ?_
  refine hv_if_eq (tgt := 14) dX0_shift_4 (by decide) (fun _ => ?_) (fun c => absurd hs c)
  refine hv_iconst (v := -1) dX0_shift_14 (by decide) ?_
  exact hx_iret0 rfl dX0_shift_15
set_option maxHeartbeats 4000000 in
theorem w1_shift {l : Launch} {Gd : hk_G} {th : Nat} {p i p2 j n : Int32} {s0 : hk_St} (htr : l.stackTraces = false) (hs : ¬ x_isShelf p = 0) (hs2 : x_isShelf p2 = 0) : hx_MG Gd l yX0_shift (wsW_ yX0_shift cX0_shift 7 (some .int) hx_t_shift) 12 10400 [.ref th, .int p, .int i, .int p2, .int j, .int n] s0 (some (.int (-1 : Int32))) s0 := by
  refine hx_startG htr "HeadReckons" (by decide +kernel) rfl (Nat.le_of_ble_eq_true rfl) ?_
  show hk_V Gd (l, cX0_shift, "HeadReckons", 7, (some .int), 12, 10400, false) (hx_endG Gd hx_t_shift s0 (some (.int (-1 : Int32))) s0) 0 [(0, .ref th), (1, .int p), (2, .int i), (3, .int p2), (4, .int j), (5, .int n)] [] s0
  refine hv_iload_n 1 dX0_shift_0 rfl rfl ?_
  refine hv_callS [.int p] [] [.int (x_isShelf p)] (wk_x_isShelf rfl) cs_X0_237 rfl ⟨Nat.le_of_ble_eq_true rfl, Nat.le_of_ble_eq_true rfl⟩ rfl (Nat.le_of_ble_eq_true rfl) rfl dX0_shift_1 ?_
  refine hv_if_eq (tgt := 14) dX0_shift_4 (by decide) (fun c => absurd c hs) (fun _ => ?_)
  refine hv_iload_n 3 dX0_shift_7 rfl rfl ?_
  refine hv_callS [.int p2] [] [.int (x_isShelf p2)] (wk_x_isShelf rfl) cs_X0_237 rfl ⟨Nat.le_of_ble_eq_true rfl, Nat.le_of_ble_eq_true rfl⟩ rfl (Nat.le_of_ble_eq_true rfl) rfl dX0_shift_8 ?_
  refine hv_if_ne (tgt := 16) dX0_shift_11 (by decide) (fun c => absurd hs2 c) (fun _ => ?_)
  refine hv_iconst (v := -1) dX0_shift_14 (by decide) ?_
  exact hx_iret0 rfl dX0_shift_15
set_option maxHeartbeats 4000000 in
theorem w2_shift {l : Launch} {Gd : hk_G} {th sh : Nat} {p i p2 j n : Int32} {s0 : hk_St} (htr : l.stackTraces = false) (hs : ¬ x_isShelf p = 0) (hs2 : ¬ x_isShelf p2 = 0) (e1 : hk_gR [0] 22 s0 th = some (some sh)) (e2 : hk_lR 10 s0 sh p = some none) : hx_MG Gd l yX0_shift (wsW_ yX0_shift cX0_shift 7 (some .int) hx_t_shift) 12 10400 [.ref th, .int p, .int i, .int p2, .int j, .int n] s0 (some (.int (-11 : Int32))) s0 := by
  refine hx_startG htr "HeadReckons" (by decide +kernel) rfl (Nat.le_of_ble_eq_true rfl) ?_
  show hk_V Gd (l, cX0_shift, "HeadReckons", 7, (some .int), 12, 10400, false) (hx_endG Gd hx_t_shift s0 (some (.int (-11 : Int32))) s0) 0 [(0, .ref th), (1, .int p), (2, .int i), (3, .int p2), (4, .int j), (5, .int n)] [] s0
  refine hv_iload_n 1 dX0_shift_0 rfl rfl ?_
  refine hv_callS [.int p] [] [.int (x_isShelf p)] (wk_x_isShelf rfl) cs_X0_237 rfl ⟨Nat.le_of_ble_eq_true rfl, Nat.le_of_ble_eq_true rfl⟩ rfl (Nat.le_of_ble_eq_true rfl) rfl dX0_shift_1 ?_
  refine hv_if_eq (tgt := 14) dX0_shift_4 (by decide) (fun c => absurd c hs) (fun _ => ?_)
  refine hv_iload_n 3 dX0_shift_7 rfl rfl ?_
  refine hv_callS [.int p2] [] [.int (x_isShelf p2)] (wk_x_isShelf rfl) cs_X0_237 rfl ⟨Nat.le_of_ble_eq_true rfl, Nat.le_of_ble_eq_true rfl⟩ rfl (Nat.le_of_ble_eq_true rfl) rfl dX0_shift_8 ?_
  refine hv_if_ne (tgt := 16) dX0_shift_11 (by decide) (fun _ => ?_) (fun c => absurd c hs2)
  refine hv_aload_n 0 dX0_shift_16 rfl rfl ?_
  refine hv_getR fl_X0_67 e1 dX0_shift_17 ?_
  refine hv_iload_n 1 dX0_shift_20 rfl rfl ?_
  refine hv_aald (by decide) (by decide) rfl e2 dX0_shift_21 ?_
  refine hv_ifnull (tgt := 34) dX0_shift_22 (by decide) (fun _ => ?_) (fun _ c => nomatch c)
  refine hv_bipush (v := -11) dX0_shift_34 (by decide) ?_
  exact hx_iret0 rfl dX0_shift_36
set_option maxHeartbeats 4000000 in
theorem w3_shift {l : Launch} {Gd : hk_G} {th sh w : Nat} {p i p2 j n : Int32} {s0 : hk_St} (htr : l.stackTraces = false) (hs : ¬ x_isShelf p = 0) (hs2 : ¬ x_isShelf p2 = 0) (e1 : hk_gR [0] 22 s0 th = some (some sh)) (e2 : hk_lR 10 s0 sh p = some (some w)) (e3 : hk_lR 10 s0 sh p2 = some none) : hx_MG Gd l yX0_shift (wsW_ yX0_shift cX0_shift 7 (some .int) hx_t_shift) 12 10400 [.ref th, .int p, .int i, .int p2, .int j, .int n] s0 (some (.int (-11 : Int32))) s0 := by
  refine hx_startG htr "HeadReckons" (by decide +kernel) rfl (Nat.le_of_ble_eq_true rfl) ?_
  show hk_V Gd (l, cX0_shift, "HeadReckons", 7, (some .int), 12, 10400, false) (hx_endG Gd hx_t_shift s0 (some (.int (-11 : Int32))) s0) 0 [(0, .ref th), (1, .int p), (2, .int i), (3, .int p2), (4, .int j), (5, .int n)] [] s0
  refine hv_iload_n 1 dX0_shift_0 rfl rfl ?_
  refine hv_callS [.int p] [] [.int (x_isShelf p)] (wk_x_isShelf rfl) cs_X0_237 rfl ⟨Nat.le_of_ble_eq_true rfl, Nat.le_of_ble_eq_true rfl⟩ rfl (Nat.le_of_ble_eq_true rfl) rfl dX0_shift_1 ?_
  refine hv_if_eq (tgt := 14) dX0_shift_4 (by decide) (fun c => absurd c hs) (fun _ => ?_)
  refine hv_iload_n 3 dX0_shift_7 rfl rfl ?_
  refine hv_callS [.int p2] [] [.int (x_isShelf p2)] (wk_x_isShelf rfl) cs_X0_237 rfl ⟨Nat.le_of_ble_eq_true rfl, Nat.le_of_ble_eq_true rfl⟩ rfl (Nat.le_of_ble_eq_true rfl) rfl dX0_shift_8 ?_
  refine hv_if_ne (tgt := 16) dX0_shift_11 (by decide) (fun _ => ?_) (fun c => absurd c hs2)
  refine hv_aload_n 0 dX0_shift_16 rfl rfl ?_
  refine hv_getR fl_X0_67 e1 dX0_shift_17 ?_
  refine hv_iload_n 1 dX0_shift_20 rfl rfl ?_
  refine hv_aald (by decide) (by decide) rfl e2 dX0_shift_21 ?_
  refine hv_ifnull (tgt := 34) dX0_shift_22 (by decide) (fun c => nomatch c) (fun _ _ => ?_)
  refine hv_aload_n 0 dX0_shift_25 rfl rfl ?_
  refine hv_getR fl_X0_67 e1 dX0_shift_26 ?_
  refine hv_iload_n 3 dX0_shift_29 rfl rfl ?_
  refine hv_aald (by decide) (by decide) rfl e3 dX0_shift_30 ?_
  refine hv_ifnonnull (tgt := 37) dX0_shift_31 (by decide) (fun _ c => nomatch c) (fun _ => ?_)
  refine hv_bipush (v := -11) dX0_shift_34 (by decide) ?_
  exact hx_iret0 rfl dX0_shift_36
set_option maxHeartbeats 4000000 in
theorem w4_shift {l : Launch} {Gd : hk_G} {th sh w w2 ci : Nat} {r : vw_C} {p i p2 j n : Int32} {s0 : hk_St} (htr : l.stackTraces = false) (hs : ¬ x_isShelf p = 0) (hs2 : ¬ x_isShelf p2 = 0) (e1 : hk_gR [0] 22 s0 th = some (some sh)) (e2 : hk_lR 10 s0 sh p = some (some w)) (e3 : hk_lR 10 s0 sh p2 = some (some w2)) (hw : hk_k s0 w = some (ci, 0)) (hno : hx_No ci r "HeadReckons$Row") : hx_MG Gd l yX0_shift (wsW_ yX0_shift cX0_shift 7 (some .int) hx_t_shift) 12 10400 [.ref th, .int p, .int i, .int p2, .int j, .int n] s0 (some (.int (-12 : Int32))) (hk_cs s0 3 1010) := by
  refine hx_startG htr "HeadReckons" (by decide +kernel) rfl (Nat.le_of_ble_eq_true rfl) ?_
  show hk_V Gd (l, cX0_shift, "HeadReckons", 7, (some .int), 12, 10400, false) (hx_endG Gd hx_t_shift s0 (some (.int (-12 : Int32))) (hk_cs s0 3 1010)) 0 [(0, .ref th), (1, .int p), (2, .int i), (3, .int p2), (4, .int j), (5, .int n)] [] s0
  refine hv_iload_n 1 dX0_shift_0 rfl rfl ?_
  refine hv_callS [.int p] [] [.int (x_isShelf p)] (wk_x_isShelf rfl) cs_X0_237 rfl ⟨Nat.le_of_ble_eq_true rfl, Nat.le_of_ble_eq_true rfl⟩ rfl (Nat.le_of_ble_eq_true rfl) rfl dX0_shift_1 ?_
  refine hv_if_eq (tgt := 14) dX0_shift_4 (by decide) (fun c => absurd c hs) (fun _ => ?_)
  refine hv_iload_n 3 dX0_shift_7 rfl rfl ?_
  refine hv_callS [.int p2] [] [.int (x_isShelf p2)] (wk_x_isShelf rfl) cs_X0_237 rfl ⟨Nat.le_of_ble_eq_true rfl, Nat.le_of_ble_eq_true rfl⟩ rfl (Nat.le_of_ble_eq_true rfl) rfl dX0_shift_8 ?_
  refine hv_if_ne (tgt := 16) dX0_shift_11 (by decide) (fun _ => ?_) (fun c => absurd c hs2)
  refine hv_aload_n 0 dX0_shift_16 rfl rfl ?_
  refine hv_getR fl_X0_67 e1 dX0_shift_17 ?_
  refine hv_iload_n 1 dX0_shift_20 rfl rfl ?_
  refine hv_aald (by decide) (by decide) rfl e2 dX0_shift_21 ?_
  refine hv_ifnull (tgt := 34) dX0_shift_22 (by decide) (fun c => nomatch c) (fun _ _ => ?_)
  refine hv_aload_n 0 dX0_shift_25 rfl rfl ?_
  refine hv_getR fl_X0_67 e1 dX0_shift_26 ?_
  refine hv_iload_n 3 dX0_shift_29 rfl rfl ?_
  refine hv_aald (by decide) (by decide) rfl e3 dX0_shift_30 ?_
  refine hv_ifnonnull (tgt := 37) dX0_shift_31 (by decide) (fun _ _ => ?_) (fun c => nomatch c)
  refine hv_aload_n 0 dX0_shift_37 rfl rfl ?_
  refine hv_getR fl_X0_67 e1 dX0_shift_38 ?_
  refine hv_iload_n 1 dX0_shift_41 rfl rfl ?_
  refine hv_aald (by decide) (by decide) rfl e2 dX0_shift_42 ?_
  refine hx_cast hx_efG hw hno.1 hno.2.1 q1467 hno.2.2.1 ⟨hno.2.2.2.1, by decide +kernel⟩ ⟨hno.2.2.2.2, by decide⟩ (Nat.le_of_ble_eq_true rfl) (Nat.le_of_ble_eq_true rfl) (Nat.le_of_ble_eq_true rfl) dX0_shift_43 ?_
  refine hx_catch (pc := 43) (A := []) (b := (37, 63, 66, 250)) (B := [(37, 63, 71, 254)]) ⟨by decide, by decide⟩ (by decide) q824 q886 (fun _ h => absurd h List.not_mem_nil) (fun qx z hz => ?_)
  refine hv_astore (L' := [(6, .ref qx), (0, .ref th), (1, .int p), (2, .int i), (3, .int p2), (4, .int j), (5, .int n)]) dX0_shift_66 (Nat.le_of_ble_eq_true rfl) rfl ?_
  refine hv_bipush (v := -12) dX0_shift_68 (by decide) ?_
  exact hx_iret (fin := hk_cs s0 3 1010) hz rfl dX0_shift_70
set_option maxHeartbeats 4000000 in
theorem w5_shift {l : Launch} {Gd : hk_G} {th sh w w2 ci ci2 : Nat} {r r2 : vw_C} {p i p2 j n : Int32} {s0 : hk_St} (htr : l.stackTraces = false) (hs : ¬ x_isShelf p = 0) (hs2 : ¬ x_isShelf p2 = 0) (e1 : hk_gR [0] 22 s0 th = some (some sh)) (e2 : hk_lR 10 s0 sh p = some (some w)) (e3 : hk_lR 10 s0 sh p2 = some (some w2)) (hw : hk_k s0 w = some (ci, 0)) (hye : hx_Ye ci r "HeadReckons$Row") (hw2 : hk_k s0 w2 = some (ci2, 0)) (hno2 : hx_No ci2 r2 "HeadReckons$Row") : hx_MG Gd l yX0_shift (wsW_ yX0_shift cX0_shift 7 (some .int) hx_t_shift) 12 10400 [.ref th, .int p, .int i, .int p2, .int j, .int n] s0 (some (.int (-12 : Int32))) (hk_cs s0 3 1010) := by
  refine hx_startG htr "HeadReckons" (by decide +kernel) rfl (Nat.le_of_ble_eq_true rfl) ?_
  show hk_V Gd (l, cX0_shift, "HeadReckons", 7, (some .int), 12, 10400, false) (hx_endG Gd hx_t_shift s0 (some (.int (-12 : Int32))) (hk_cs s0 3 1010)) 0 [(0, .ref th), (1, .int p), (2, .int i), (3, .int p2), (4, .int j), (5, .int n)] [] s0
  refine hv_iload_n 1 dX0_shift_0 rfl rfl ?_
  refine hv_callS [.int p] [] [.int (x_isShelf p)] (wk_x_isShelf rfl) cs_X0_237 rfl ⟨Nat.le_of_ble_eq_true rfl, Nat.le_of_ble_eq_true rfl⟩ rfl (Nat.le_of_ble_eq_true rfl) rfl dX0_shift_1 ?_
  refine hv_if_eq (tgt := 14) dX0_shift_4 (by decide) (fun c => absurd c hs) (fun _ => ?_)
  refine hv_iload_n 3 dX0_shift_7 rfl rfl ?_
  refine hv_callS [.int p2] [] [.int (x_isShelf p2)] (wk_x_isShelf rfl) cs_X0_237 rfl ⟨Nat.le_of_ble_eq_true rfl, Nat.le_of_ble_eq_true rfl⟩ rfl (Nat.le_of_ble_eq_true rfl) rfl dX0_shift_8 ?_
  refine hv_if_ne (tgt := 16) dX0_shift_11 (by decide) (fun _ => ?_) (fun c => absurd c hs2)
  refine hv_aload_n 0 dX0_shift_16 rfl rfl ?_
  refine hv_getR fl_X0_67 e1 dX0_shift_17 ?_
  refine hv_iload_n 1 dX0_shift_20 rfl rfl ?_
  refine hv_aald (by decide) (by decide) rfl e2 dX0_shift_21 ?_
  refine hv_ifnull (tgt := 34) dX0_shift_22 (by decide) (fun c => nomatch c) (fun _ _ => ?_)
  refine hv_aload_n 0 dX0_shift_25 rfl rfl ?_
  refine hv_getR fl_X0_67 e1 dX0_shift_26 ?_
  refine hv_iload_n 3 dX0_shift_29 rfl rfl ?_
  refine hv_aald (by decide) (by decide) rfl e3 dX0_shift_30 ?_
  refine hv_ifnonnull (tgt := 37) dX0_shift_31 (by decide) (fun _ _ => ?_) (fun c => nomatch c)
  refine hv_aload_n 0 dX0_shift_37 rfl rfl ?_
  refine hv_getR fl_X0_67 e1 dX0_shift_38 ?_
  refine hv_iload_n 1 dX0_shift_41 rfl rfl ?_
  refine hv_aald (by decide) (by decide) rfl e2 dX0_shift_42 ?_
  refine hv_cast (bf_k hw) hye.1 hye.2.1 q1467 hye.2.2 dX0_shift_43 ?_
  refine hv_iload_n 2 dX0_shift_46 rfl rfl ?_
  refine hv_aload_n 0 dX0_shift_47 rfl rfl ?_
  refine hv_getR fl_X0_67 e1 dX0_shift_48 ?_
  refine hv_iload_n 3 dX0_shift_51 rfl rfl ?_
  refine hv_aald (by decide) (by decide) rfl e3 dX0_shift_52 ?_
  refine hx_cast hx_efG hw2 hno2.1 hno2.2.1 q1467 hno2.2.2.1 ⟨hno2.2.2.2.1, by decide +kernel⟩ ⟨hno2.2.2.2.2, by decide⟩ (Nat.le_of_ble_eq_true rfl) (Nat.le_of_ble_eq_true rfl) (Nat.le_of_ble_eq_true rfl) dX0_shift_53 ?_
  refine hx_catch (pc := 53) (A := []) (b := (37, 63, 66, 250)) (B := [(37, 63, 71, 254)]) ⟨by decide, by decide⟩ (by decide) q824 q886 (fun _ h => absurd h List.not_mem_nil) (fun qx z hz => ?_)
  refine hv_astore (L' := [(6, .ref qx), (0, .ref th), (1, .int p), (2, .int i), (3, .int p2), (4, .int j), (5, .int n)]) dX0_shift_66 (Nat.le_of_ble_eq_true rfl) rfl ?_
  refine hv_bipush (v := -12) dX0_shift_68 (by decide) ?_
  exact hx_iret (fin := hk_cs s0 3 1010) hz rfl dX0_shift_70
set_option maxHeartbeats 4000000 in
theorem w6_shift {l : Launch} {Gd : hk_G} {th sh w w2 ci ci2 : Nat} {r r2 : vw_C} {p i p2 j n : Int32} {s0 : hk_St} {y : MethodName} {bc : ByteArray} {mx : Nat} (htr : l.stackTraces = false) (hs : ¬ x_isShelf p = 0) (hs2 : ¬ x_isShelf p2 = 0) (e1 : hk_gR [0] 22 s0 th = some (some sh)) (e2 : hk_lR 10 s0 sh p = some (some w)) (e3 : hk_lR 10 s0 sh p2 = some (some w2)) (hw : hk_k s0 w = some (ci, 0)) (hye : hx_Ye ci r "HeadReckons$Row") (hw2 : hk_k s0 w2 = some (ci2, 0)) (hye2 : hx_Ye ci2 r2 "HeadReckons$Row") (hmx : mx ≤ 5) (cs : hk_CO "HeadReckons" 443 ci ⟨"HeadReckons$Row", "copy", "(ILHeadReckons$Row;II)V"⟩ y bc mx none 4) (hM : hx_MT Gd l y bc mx none 9 10300 (.ref w :: [.int i, .ref w2, .int j, .int n]) s0 (hk_cs s0 3 1010) "java/lang/ClassCastException") : hx_MG Gd l yX0_shift (wsW_ yX0_shift cX0_shift 7 (some .int) hx_t_shift) 12 10400 [.ref th, .int p, .int i, .int p2, .int j, .int n] s0 (some (.int (-12 : Int32))) (hk_cs s0 3 1010) := by
  refine hx_startG htr "HeadReckons" (by decide +kernel) rfl (Nat.le_of_ble_eq_true rfl) ?_
  show hk_V Gd (l, cX0_shift, "HeadReckons", 7, (some .int), 12, 10400, false) (hx_endG Gd hx_t_shift s0 (some (.int (-12 : Int32))) (hk_cs s0 3 1010)) 0 [(0, .ref th), (1, .int p), (2, .int i), (3, .int p2), (4, .int j), (5, .int n)] [] s0
  refine hv_iload_n 1 dX0_shift_0 rfl rfl ?_
  refine hv_callS [.int p] [] [.int (x_isShelf p)] (wk_x_isShelf rfl) cs_X0_237 rfl ⟨Nat.le_of_ble_eq_true rfl, Nat.le_of_ble_eq_true rfl⟩ rfl (Nat.le_of_ble_eq_true rfl) rfl dX0_shift_1 ?_
  refine hv_if_eq (tgt := 14) dX0_shift_4 (by decide) (fun c => absurd c hs) (fun _ => ?_)
  refine hv_iload_n 3 dX0_shift_7 rfl rfl ?_
  refine hv_callS [.int p2] [] [.int (x_isShelf p2)] (wk_x_isShelf rfl) cs_X0_237 rfl ⟨Nat.le_of_ble_eq_true rfl, Nat.le_of_ble_eq_true rfl⟩ rfl (Nat.le_of_ble_eq_true rfl) rfl dX0_shift_8 ?_
  refine hv_if_ne (tgt := 16) dX0_shift_11 (by decide) (fun _ => ?_) (fun c => absurd c hs2)
  refine hv_aload_n 0 dX0_shift_16 rfl rfl ?_
  refine hv_getR fl_X0_67 e1 dX0_shift_17 ?_
  refine hv_iload_n 1 dX0_shift_20 rfl rfl ?_
  refine hv_aald (by decide) (by decide) rfl e2 dX0_shift_21 ?_
  refine hv_ifnull (tgt := 34) dX0_shift_22 (by decide) (fun c => nomatch c) (fun _ _ => ?_)
  refine hv_aload_n 0 dX0_shift_25 rfl rfl ?_
  refine hv_getR fl_X0_67 e1 dX0_shift_26 ?_
  refine hv_iload_n 3 dX0_shift_29 rfl rfl ?_
  refine hv_aald (by decide) (by decide) rfl e3 dX0_shift_30 ?_
  refine hv_ifnonnull (tgt := 37) dX0_shift_31 (by decide) (fun _ _ => ?_) (fun c => nomatch c)
  refine hv_aload_n 0 dX0_shift_37 rfl rfl ?_
  refine hv_getR fl_X0_67 e1 dX0_shift_38 ?_
  refine hv_iload_n 1 dX0_shift_41 rfl rfl ?_
  refine hv_aald (by decide) (by decide) rfl e2 dX0_shift_42 ?_
  refine hv_cast (bf_k hw) hye.1 hye.2.1 q1467 hye.2.2 dX0_shift_43 ?_
  refine hv_iload_n 2 dX0_shift_46 rfl rfl ?_
  refine hv_aload_n 0 dX0_shift_47 rfl rfl ?_
  refine hv_getR fl_X0_67 e1 dX0_shift_48 ?_
  refine hv_iload_n 3 dX0_shift_51 rfl rfl ?_
  refine hv_aald (by decide) (by decide) rfl e3 dX0_shift_52 ?_
  refine hv_cast (bf_k hw2) hye2.1 hye2.2.1 q1467 hye2.2.2 dX0_shift_53 ?_
  refine hv_iload 4 dX0_shift_56 rfl ?_
  refine hv_iload 5 dX0_shift_58 rfl ?_
  refine hx_callO [.int i, .ref w2, .int j, .int n] [] hx_efG hM cs (bf_k hw) rfl ⟨Nat.le_of_ble_eq_true rfl, by show 8 + (mx + 11) + 10300 ≤ 10400; omega⟩ rfl (Nat.le_of_ble_eq_true rfl) dX0_shift_60 ?_
  refine hx_catch (pc := 60) (A := []) (b := (37, 63, 66, 250)) (B := [(37, 63, 71, 254)]) ⟨by decide, by decide⟩ (by decide) q824 q886 (fun _ h => absurd h List.not_mem_nil) (fun qx z hz => ?_)
  refine hv_astore (L' := [(6, .ref qx), (0, .ref th), (1, .int p), (2, .int i), (3, .int p2), (4, .int j), (5, .int n)]) dX0_shift_66 (Nat.le_of_ble_eq_true rfl) rfl ?_
  refine hv_bipush (v := -12) dX0_shift_68 (by decide) ?_
  exact hx_iret (fin := hk_cs s0 3 1010) hz rfl dX0_shift_70
set_option maxHeartbeats 4000000 in
theorem w7_shift {l : Launch} {Gd : hk_G} {th sh w w2 ci ci2 : Nat} {r r2 : vw_C} {p i p2 j n : Int32} {s0 : hk_St} {y : MethodName} {bc : ByteArray} {mx : Nat} (htr : l.stackTraces = false) (hs : ¬ x_isShelf p = 0) (hs2 : ¬ x_isShelf p2 = 0) (e1 : hk_gR [0] 22 s0 th = some (some sh)) (e2 : hk_lR 10 s0 sh p = some (some w)) (e3 : hk_lR 10 s0 sh p2 = some (some w2)) (hw : hk_k s0 w = some (ci, 0)) (hye : hx_Ye ci r "HeadReckons$Row") (hw2 : hk_k s0 w2 = some (ci2, 0)) (hye2 : hx_Ye ci2 r2 "HeadReckons$Row") (hmx : mx ≤ 5) (cs : hk_CO "HeadReckons" 443 ci ⟨"HeadReckons$Row", "copy", "(ILHeadReckons$Row;II)V"⟩ y bc mx none 4) (hM : hx_MT Gd l y bc mx none 9 10300 (.ref w :: [.int i, .ref w2, .int j, .int n]) s0 (hk_cs s0 3 510) "java/lang/ArrayIndexOutOfBoundsException") : hx_MG Gd l yX0_shift (wsW_ yX0_shift cX0_shift 7 (some .int) hx_t_shift) 12 10400 [.ref th, .int p, .int i, .int p2, .int j, .int n] s0 (some (.int (-13 : Int32))) (hk_cs s0 3 510) := by
  refine hx_startG htr "HeadReckons" (by decide +kernel) rfl (Nat.le_of_ble_eq_true rfl) ?_
  show hk_V Gd (l, cX0_shift, "HeadReckons", 7, (some .int), 12, 10400, false) (hx_endG Gd hx_t_shift s0 (some (.int (-13 : Int32))) (hk_cs s0 3 510)) 0 [(0, .ref th), (1, .int p), (2, .int i), (3, .int p2), (4, .int j), (5, .int n)] [] s0
  refine hv_iload_n 1 dX0_shift_0 rfl rfl ?_
  refine hv_callS [.int p] [] [.int (x_isShelf p)] (wk_x_isShelf rfl) cs_X0_237 rfl ⟨Nat.le_of_ble_eq_true rfl, Nat.le_of_ble_eq_true rfl⟩ rfl (Nat.le_of_ble_eq_true rfl) rfl dX0_shift_1 ?_
  refine hv_if_eq (tgt := 14) dX0_shift_4 (by decide) (fun c => absurd c hs) (fun _ => ?_)
  refine hv_iload_n 3 dX0_shift_7 rfl rfl ?_
  refine hv_callS [.int p2] [] [.int (x_isShelf p2)] (wk_x_isShelf rfl) cs_X0_237 rfl ⟨Nat.le_of_ble_eq_true rfl, Nat.le_of_ble_eq_true rfl⟩ rfl (Nat.le_of_ble_eq_true rfl) rfl dX0_shift_8 ?_
  refine hv_if_ne (tgt := 16) dX0_shift_11 (by decide) (fun _ => ?_) (fun c => absurd c hs2)
  refine hv_aload_n 0 dX0_shift_16 rfl rfl ?_
  refine hv_getR fl_X0_67 e1 dX0_shift_17 ?_
  refine hv_iload_n 1 dX0_shift_20 rfl rfl ?_
  refine hv_aald (by decide) (by decide) rfl e2 dX0_shift_21 ?_
  refine hv_ifnull (tgt := 34) dX0_shift_22 (by decide) (fun c => nomatch c) (fun _ _ => ?_)
  refine hv_aload_n 0 dX0_shift_25 rfl rfl ?_
  refine hv_getR fl_X0_67 e1 dX0_shift_26 ?_
  refine hv_iload_n 3 dX0_shift_29 rfl rfl ?_
  refine hv_aald (by decide) (by decide) rfl e3 dX0_shift_30 ?_
  refine hv_ifnonnull (tgt := 37) dX0_shift_31 (by decide) (fun _ _ => ?_) (fun c => nomatch c)
  refine hv_aload_n 0 dX0_shift_37 rfl rfl ?_
  refine hv_getR fl_X0_67 e1 dX0_shift_38 ?_
  refine hv_iload_n 1 dX0_shift_41 rfl rfl ?_
  refine hv_aald (by decide) (by decide) rfl e2 dX0_shift_42 ?_
  refine hv_cast (bf_k hw) hye.1 hye.2.1 q1467 hye.2.2 dX0_shift_43 ?_
  refine hv_iload_n 2 dX0_shift_46 rfl rfl ?_
  refine hv_aload_n 0 dX0_shift_47 rfl rfl ?_
  refine hv_getR fl_X0_67 e1 dX0_shift_48 ?_
  refine hv_iload_n 3 dX0_shift_51 rfl rfl ?_
  refine hv_aald (by decide) (by decide) rfl e3 dX0_shift_52 ?_
  refine hv_cast (bf_k hw2) hye2.1 hye2.2.1 q1467 hye2.2.2 dX0_shift_53 ?_
  refine hv_iload 4 dX0_shift_56 rfl ?_
  refine hv_iload 5 dX0_shift_58 rfl ?_
  refine hx_callO [.int i, .ref w2, .int j, .int n] [] hx_efG hM cs (bf_k hw) rfl ⟨Nat.le_of_ble_eq_true rfl, by show 8 + (mx + 11) + 10300 ≤ 10400; omega⟩ rfl (Nat.le_of_ble_eq_true rfl) dX0_shift_60 ?_
  refine hx_catch (pc := 60) (A := [(37, 63, 66, 250)]) (b := (37, 63, 71, 254)) (B := []) ⟨by decide, by decide⟩ (by decide) q933 q2228 (List.forall_mem_cons.mpr ⟨Or.inr ⟨by decide, _, q824, by decide +kernel⟩, (fun _ h => absurd h List.not_mem_nil)⟩) (fun qx z hz => ?_)
  refine hv_astore (L' := [(6, .ref qx), (0, .ref th), (1, .int p), (2, .int i), (3, .int p2), (4, .int j), (5, .int n)]) dX0_shift_71 (Nat.le_of_ble_eq_true rfl) rfl ?_
  refine hv_bipush (v := -13) dX0_shift_73 (by decide) ?_
  exact hx_iret (fin := hk_cs s0 3 510) hz rfl dX0_shift_75
set_option maxHeartbeats 4000000 in
theorem w8_shift {l : Launch} {Gd : hk_G} {th sh w w2 ci ci2 : Nat} {r r2 : vw_C} {p i p2 j n : Int32} {s0 : hk_St} {y : MethodName} {bc : ByteArray} {mx fr lo : Nat} {s2 : hk_St} (htr : l.stackTraces = false) (hs : ¬ x_isShelf p = 0) (hs2 : ¬ x_isShelf p2 = 0) (e1 : hk_gR [0] 22 s0 th = some (some sh)) (e2 : hk_lR 10 s0 sh p = some (some w)) (e3 : hk_lR 10 s0 sh p2 = some (some w2)) (hw : hk_k s0 w = some (ci, 0)) (hye : hx_Ye ci r "HeadReckons$Row") (hw2 : hk_k s0 w2 = some (ci2, 0)) (hye2 : hx_Ye ci2 r2 "HeadReckons$Row") (hmx : mx ≤ 5) (hfr : fr ≤ 9) (hlo : lo ≤ 10300) (cs : hk_CO "HeadReckons" 443 ci ⟨"HeadReckons$Row", "copy", "(ILHeadReckons$Row;II)V"⟩ y bc mx none 4) (hM : hk_Met Gd l y bc mx none fr lo (.ref w :: [.int i, .ref w2, .int j, .int n]) s0 none s2) : hx_MG Gd l yX0_shift (wsW_ yX0_shift cX0_shift 7 (some .int) hx_t_shift) 12 10400 [.ref th, .int p, .int i, .int p2, .int j, .int n] s0 (some (.int n)) s2 := by
  refine hx_startG htr "HeadReckons" (by decide +kernel) rfl (Nat.le_of_ble_eq_true rfl) ?_
  show hk_V Gd (l, cX0_shift, "HeadReckons", 7, (some .int), 12, 10400, false) (hx_endG Gd hx_t_shift s0 (some (.int n)) s2) 0 [(0, .ref th), (1, .int p), (2, .int i), (3, .int p2), (4, .int j), (5, .int n)] [] s0
  refine hv_iload_n 1 dX0_shift_0 rfl rfl ?_
  refine hv_callS [.int p] [] [.int (x_isShelf p)] (wk_x_isShelf rfl) cs_X0_237 rfl ⟨Nat.le_of_ble_eq_true rfl, Nat.le_of_ble_eq_true rfl⟩ rfl (Nat.le_of_ble_eq_true rfl) rfl dX0_shift_1 ?_
  refine hv_if_eq (tgt := 14) dX0_shift_4 (by decide) (fun c => absurd c hs) (fun _ => ?_)
  refine hv_iload_n 3 dX0_shift_7 rfl rfl ?_
  refine hv_callS [.int p2] [] [.int (x_isShelf p2)] (wk_x_isShelf rfl) cs_X0_237 rfl ⟨Nat.le_of_ble_eq_true rfl, Nat.le_of_ble_eq_true rfl⟩ rfl (Nat.le_of_ble_eq_true rfl) rfl dX0_shift_8 ?_
  refine hv_if_ne (tgt := 16) dX0_shift_11 (by decide) (fun _ => ?_) (fun c => absurd c hs2)
  refine hv_aload_n 0 dX0_shift_16 rfl rfl ?_
  refine hv_getR fl_X0_67 e1 dX0_shift_17 ?_
  refine hv_iload_n 1 dX0_shift_20 rfl rfl ?_
  refine hv_aald (by decide) (by decide) rfl e2 dX0_shift_21 ?_
  refine hv_ifnull (tgt := 34) dX0_shift_22 (by decide) (fun c => nomatch c) (fun _ _ => ?_)
  refine hv_aload_n 0 dX0_shift_25 rfl rfl ?_
  refine hv_getR fl_X0_67 e1 dX0_shift_26 ?_
  refine hv_iload_n 3 dX0_shift_29 rfl rfl ?_
  refine hv_aald (by decide) (by decide) rfl e3 dX0_shift_30 ?_
  refine hv_ifnonnull (tgt := 37) dX0_shift_31 (by decide) (fun _ _ => ?_) (fun c => nomatch c)
  refine hv_aload_n 0 dX0_shift_37 rfl rfl ?_
  refine hv_getR fl_X0_67 e1 dX0_shift_38 ?_
  refine hv_iload_n 1 dX0_shift_41 rfl rfl ?_
  refine hv_aald (by decide) (by decide) rfl e2 dX0_shift_42 ?_
  refine hv_cast (bf_k hw) hye.1 hye.2.1 q1467 hye.2.2 dX0_shift_43 ?_
  refine hv_iload_n 2 dX0_shift_46 rfl rfl ?_
  refine hv_aload_n 0 dX0_shift_47 rfl rfl ?_
  refine hv_getR fl_X0_67 e1 dX0_shift_48 ?_
  refine hv_iload_n 3 dX0_shift_51 rfl rfl ?_
  refine hv_aald (by decide) (by decide) rfl e3 dX0_shift_52 ?_
  refine hv_cast (bf_k hw2) hye2.1 hye2.2.1 q1467 hye2.2.2 dX0_shift_53 ?_
  refine hv_iload 4 dX0_shift_56 rfl ?_
  refine hv_iload 5 dX0_shift_58 rfl ?_
  refine hv_callO [.int i, .ref w2, .int j, .int n] [] [] hM cs (bf_k hw) rfl ⟨by show fr + 1 ≤ 12; omega, by show 8 + (mx + 11) + lo ≤ 10400; omega⟩ rfl (Nat.le_of_ble_eq_true rfl) rfl dX0_shift_60 ?_
  refine hv_goto (tgt := 76) dX0_shift_63 (by decide) ?_
  refine hv_iload 5 dX0_shift_76 rfl ?_
  exact hx_iret0 rfl dX0_shift_78
set_option maxHeartbeats 4000000 in
theorem w0_taken {l : Launch} {Gd : hk_G} {th : Nat} {p k : Int32} {s0 : hk_St} (htr : l.stackTraces = false) (hs : x_isShelf p = 0) : hx_MG Gd l yX0_taken (wsW_ yX0_taken cX0_taken 4 (some .int) hx_t_taken) 12 10400 [.ref th, .int p, .int k] s0 (some (.int (-1 : Int32))) s0 := by
  refine hx_startG htr "HeadReckons" (by decide +kernel) rfl (Nat.le_of_ble_eq_true rfl) ?_
  show hk_V Gd (l, cX0_taken, "HeadReckons", 4, (some .int), 12, 10400, false) (hx_endG Gd hx_t_taken s0 (some (.int (-1 : Int32))) s0) 0 [(0, .ref th), (1, .int p), (2, .int k)] [] s0
  refine hv_iload_n 1 dX0_taken_0 rfl rfl ?_
  refine hv_callS [.int p] [] [.int (x_isShelf p)] (wk_x_isShelf rfl) cs_X0_237 rfl ⟨Nat.le_of_ble_eq_true rfl, Nat.le_of_ble_eq_true rfl⟩ rfl (Nat.le_of_ble_eq_true rfl) rfl dX0_taken_1 ?_
  refine hv_if_eq (tgt := 17) dX0_taken_4 (by decide) (fun _ => ?_) (fun c => absurd hs c)
  refine hv_iconst (v := -1) dX0_taken_17 (by decide) ?_
  exact hx_iret0 rfl dX0_taken_18
set_option maxHeartbeats 4000000 in
theorem w1_taken {l : Launch} {Gd : hk_G} {th : Nat} {p k : Int32} {s0 : hk_St} (htr : l.stackTraces = false) (hs : ¬ x_isShelf p = 0) (hs2 : x_in k (0 : Int32) (7 : Int32) = 0) : hx_MG Gd l yX0_taken (wsW_ yX0_taken cX0_taken 4 (some .int) hx_t_taken) 12 10400 [.ref th, .int p, .int k] s0 (some (.int (-1 : Int32))) s0 := by
  refine hx_startG htr "HeadReckons" (by decide +kernel) rfl (Nat.le_of_ble_eq_true rfl) ?_
  show hk_V Gd (l, cX0_taken, "HeadReckons", 4, (some .int), 12, 10400, false) (hx_endG Gd hx_t_taken s0 (some (.int (-1 : Int32))) s0) 0 [(0, .ref th), (1, .int p), (2, .int k)] [] s0
  refine hv_iload_n 1 dX0_taken_0 rfl rfl ?_
  refine hv_callS [.int p] [] [.int (x_isShelf p)] (wk_x_isShelf rfl) cs_X0_237 rfl ⟨Nat.le_of_ble_eq_true rfl, Nat.le_of_ble_eq_true rfl⟩ rfl (Nat.le_of_ble_eq_true rfl) rfl dX0_taken_1 ?_
  refine hv_if_eq (tgt := 17) dX0_taken_4 (by decide) (fun c => absurd c hs) (fun _ => ?_)
  refine hv_iload_n 2 dX0_taken_7 rfl rfl ?_
  refine hv_iconst (v := 0) dX0_taken_8 (by decide) ?_
  refine hv_bipush (v := 7) dX0_taken_9 (by decide) ?_
  refine hv_callS [.int k, .int (0 : Int32), .int (7 : Int32)] [] [.int (x_in k (0 : Int32) (7 : Int32))] (wk_x_in rfl) cs_X0_73 rfl ⟨Nat.le_of_ble_eq_true rfl, Nat.le_of_ble_eq_true rfl⟩ rfl (Nat.le_of_ble_eq_true rfl) rfl dX0_taken_11 ?_
  refine hv_if_ne (tgt := 19) dX0_taken_14 (by decide) (fun c => absurd hs2 c) (fun _ => ?_)
  refine hv_iconst (v := -1) dX0_taken_17 (by decide) ?_
  exact hx_iret0 rfl dX0_taken_18
set_option maxHeartbeats 4000000 in
theorem w2_taken {l : Launch} {Gd : hk_G} {th sh : Nat} {p k : Int32} {s0 : hk_St} (htr : l.stackTraces = false) (hs : ¬ x_isShelf p = 0) (hs2 : ¬ x_in k (0 : Int32) (7 : Int32) = 0) (e1 : hk_gR [0] 22 s0 th = some (some sh)) (e2 : hk_lR 10 s0 sh p = some none) : hx_MG Gd l yX0_taken (wsW_ yX0_taken cX0_taken 4 (some .int) hx_t_taken) 12 10400 [.ref th, .int p, .int k] s0 (some (.int (-11 : Int32))) (hk_cs s0 1 8) := by
  refine hx_startG htr "HeadReckons" (by decide +kernel) rfl (Nat.le_of_ble_eq_true rfl) ?_
  show hk_V Gd (l, cX0_taken, "HeadReckons", 4, (some .int), 12, 10400, false) (hx_endG Gd hx_t_taken s0 (some (.int (-11 : Int32))) (hk_cs s0 1 8)) 0 [(0, .ref th), (1, .int p), (2, .int k)] [] s0
  refine hv_iload_n 1 dX0_taken_0 rfl rfl ?_
  refine hv_callS [.int p] [] [.int (x_isShelf p)] (wk_x_isShelf rfl) cs_X0_237 rfl ⟨Nat.le_of_ble_eq_true rfl, Nat.le_of_ble_eq_true rfl⟩ rfl (Nat.le_of_ble_eq_true rfl) rfl dX0_taken_1 ?_
  refine hv_if_eq (tgt := 17) dX0_taken_4 (by decide) (fun c => absurd c hs) (fun _ => ?_)
  refine hv_iload_n 2 dX0_taken_7 rfl rfl ?_
  refine hv_iconst (v := 0) dX0_taken_8 (by decide) ?_
  refine hv_bipush (v := 7) dX0_taken_9 (by decide) ?_
  refine hv_callS [.int k, .int (0 : Int32), .int (7 : Int32)] [] [.int (x_in k (0 : Int32) (7 : Int32))] (wk_x_in rfl) cs_X0_73 rfl ⟨Nat.le_of_ble_eq_true rfl, Nat.le_of_ble_eq_true rfl⟩ rfl (Nat.le_of_ble_eq_true rfl) rfl dX0_taken_11 ?_
  refine hv_if_ne (tgt := 19) dX0_taken_14 (by decide) (fun _ => ?_) (fun c => absurd c hs2)
  refine hv_aload_n 0 dX0_taken_19 rfl rfl ?_
  refine hv_getR fl_X0_67 e1 dX0_taken_20 ?_
  refine hv_iload_n 1 dX0_taken_23 rfl rfl ?_
  refine hv_aald (by decide) (by decide) rfl e2 dX0_taken_24 ?_
  refine hv_castN dX0_taken_25 ?_
  refine hv_astore_nq (L' := [(3, va_rf none), (0, .ref th), (1, .int p), (2, .int k)]) dX0_taken_28 rfl (Nat.le_of_ble_eq_true rfl) rfl ?_
  refine hv_aload_nq 0 dX0_taken_29 rfl rfl ?_
  refine hv_iload_n 3 dX0_taken_30 rfl rfl ?_
  refine hx_invN (C := "HeadReckons$Way") [.int k] [] hx_efG q1545 q1546 q1553 q1547 ⟨by decide, by decide⟩ (show (parseMethodDescriptor "(I)Z").map (fun d => d.parameters.length) = some 1 from by decide +kernel) rfl (Nat.le_of_ble_eq_true rfl) (Nat.le_of_ble_eq_true rfl) (Nat.le_of_ble_eq_true rfl) dX0_taken_31 ?_
  refine hx_catch (pc := 31) (A := []) (b := (19, 46, 47, 252)) (B := [(19, 46, 51, 250)]) ⟨by decide, by decide⟩ (by decide) q908 q930 (fun _ h => absurd h List.not_mem_nil) (fun qx z hz => ?_)
  refine hv_astore_n (L' := [(3, .ref qx), (0, .ref th), (1, .int p), (2, .int k)]) dX0_taken_47 rfl (Nat.le_of_ble_eq_true rfl) rfl ?_
  refine hv_bipush (v := -11) dX0_taken_48 (by decide) ?_
  exact hx_iret (fin := hk_cs s0 1 8) hz rfl dX0_taken_50
set_option maxHeartbeats 4000000 in
theorem w3_taken {l : Launch} {Gd : hk_G} {th sh w ci : Nat} {r : vw_C} {p k : Int32} {s0 : hk_St} (htr : l.stackTraces = false) (hs : ¬ x_isShelf p = 0) (hs2 : ¬ x_in k (0 : Int32) (7 : Int32) = 0) (e1 : hk_gR [0] 22 s0 th = some (some sh)) (e2 : hk_lR 10 s0 sh p = some (some w)) (hw : hk_k s0 w = some (ci, 0)) (hno : hx_No ci r "HeadReckons$Way") : hx_MG Gd l yX0_taken (wsW_ yX0_taken cX0_taken 4 (some .int) hx_t_taken) 12 10400 [.ref th, .int p, .int k] s0 (some (.int (-12 : Int32))) (hk_cs s0 3 1010) := by
  refine hx_startG htr "HeadReckons" (by decide +kernel) rfl (Nat.le_of_ble_eq_true rfl) ?_
  show hk_V Gd (l, cX0_taken, "HeadReckons", 4, (some .int), 12, 10400, false) (hx_endG Gd hx_t_taken s0 (some (.int (-12 : Int32))) (hk_cs s0 3 1010)) 0 [(0, .ref th), (1, .int p), (2, .int k)] [] s0
  refine hv_iload_n 1 dX0_taken_0 rfl rfl ?_
  refine hv_callS [.int p] [] [.int (x_isShelf p)] (wk_x_isShelf rfl) cs_X0_237 rfl ⟨Nat.le_of_ble_eq_true rfl, Nat.le_of_ble_eq_true rfl⟩ rfl (Nat.le_of_ble_eq_true rfl) rfl dX0_taken_1 ?_
  refine hv_if_eq (tgt := 17) dX0_taken_4 (by decide) (fun c => absurd c hs) (fun _ => ?_)
  refine hv_iload_n 2 dX0_taken_7 rfl rfl ?_
  refine hv_iconst (v := 0) dX0_taken_8 (by decide) ?_
  refine hv_bipush (v := 7) dX0_taken_9 (by decide) ?_
  refine hv_callS [.int k, .int (0 : Int32), .int (7 : Int32)] [] [.int (x_in k (0 : Int32) (7 : Int32))] (wk_x_in rfl) cs_X0_73 rfl ⟨Nat.le_of_ble_eq_true rfl, Nat.le_of_ble_eq_true rfl⟩ rfl (Nat.le_of_ble_eq_true rfl) rfl dX0_taken_11 ?_
  refine hv_if_ne (tgt := 19) dX0_taken_14 (by decide) (fun _ => ?_) (fun c => absurd c hs2)
  refine hv_aload_n 0 dX0_taken_19 rfl rfl ?_
  refine hv_getR fl_X0_67 e1 dX0_taken_20 ?_
  refine hv_iload_n 1 dX0_taken_23 rfl rfl ?_
  refine hv_aald (by decide) (by decide) rfl e2 dX0_taken_24 ?_
  refine hx_cast hx_efG hw hno.1 hno.2.1 q248 hno.2.2.1 ⟨hno.2.2.2.1, by decide +kernel⟩ ⟨hno.2.2.2.2, by decide⟩ (Nat.le_of_ble_eq_true rfl) (Nat.le_of_ble_eq_true rfl) (Nat.le_of_ble_eq_true rfl) dX0_taken_25 ?_
  refine hx_catch (pc := 25) (A := [(19, 46, 47, 252)]) (b := (19, 46, 51, 250)) (B := []) ⟨by decide, by decide⟩ (by decide) q824 q886 (List.forall_mem_cons.mpr ⟨Or.inr ⟨by decide, _, q908, by decide +kernel⟩, (fun _ h => absurd h List.not_mem_nil)⟩) (fun qx z hz => ?_)
  refine hv_astore_n (L' := [(3, .ref qx), (0, .ref th), (1, .int p), (2, .int k)]) dX0_taken_51 rfl (Nat.le_of_ble_eq_true rfl) rfl ?_
  refine hv_bipush (v := -12) dX0_taken_52 (by decide) ?_
  exact hx_iret (fin := hk_cs s0 3 1010) hz rfl dX0_taken_54
set_option maxHeartbeats 4000000 in
theorem w4_taken {l : Launch} {Gd : hk_G} {th sh w ci : Nat} {r : vw_C} {p k : Int32} {s0 : hk_St} {u : Int32} (htr : l.stackTraces = false) (hs : ¬ x_isShelf p = 0) (hs2 : ¬ x_in k (0 : Int32) (7 : Int32) = 0) (e1 : hk_gR [0] 22 s0 th = some (some sh)) (e2 : hk_lR 10 s0 sh p = some (some w)) (hw : hk_k s0 w = some (ci, 0)) (hye : hx_Ye ci r "HeadReckons$Way") (hu : xv_isUnder w k s0 = some u) (hu0 : u = 0) : hx_MG Gd l yX0_taken (wsW_ yX0_taken cX0_taken 4 (some .int) hx_t_taken) 12 10400 [.ref th, .int p, .int k] s0 (some (.int (-12 : Int32))) s0 := by
  refine hx_startG htr "HeadReckons" (by decide +kernel) rfl (Nat.le_of_ble_eq_true rfl) ?_
  show hk_V Gd (l, cX0_taken, "HeadReckons", 4, (some .int), 12, 10400, false) (hx_endG Gd hx_t_taken s0 (some (.int (-12 : Int32))) s0) 0 [(0, .ref th), (1, .int p), (2, .int k)] [] s0
  refine hv_iload_n 1 dX0_taken_0 rfl rfl ?_
  refine hv_callS [.int p] [] [.int (x_isShelf p)] (wk_x_isShelf rfl) cs_X0_237 rfl ⟨Nat.le_of_ble_eq_true rfl, Nat.le_of_ble_eq_true rfl⟩ rfl (Nat.le_of_ble_eq_true rfl) rfl dX0_taken_1 ?_
  refine hv_if_eq (tgt := 17) dX0_taken_4 (by decide) (fun c => absurd c hs) (fun _ => ?_)
  refine hv_iload_n 2 dX0_taken_7 rfl rfl ?_
  refine hv_iconst (v := 0) dX0_taken_8 (by decide) ?_
  refine hv_bipush (v := 7) dX0_taken_9 (by decide) ?_
  refine hv_callS [.int k, .int (0 : Int32), .int (7 : Int32)] [] [.int (x_in k (0 : Int32) (7 : Int32))] (wk_x_in rfl) cs_X0_73 rfl ⟨Nat.le_of_ble_eq_true rfl, Nat.le_of_ble_eq_true rfl⟩ rfl (Nat.le_of_ble_eq_true rfl) rfl dX0_taken_11 ?_
  refine hv_if_ne (tgt := 19) dX0_taken_14 (by decide) (fun _ => ?_) (fun c => absurd c hs2)
  refine hv_aload_n 0 dX0_taken_19 rfl rfl ?_
  refine hv_getR fl_X0_67 e1 dX0_taken_20 ?_
  refine hv_iload_n 1 dX0_taken_23 rfl rfl ?_
  refine hv_aald (by decide) (by decide) rfl e2 dX0_taken_24 ?_
  refine hv_cast (bf_k hw) hye.1 hye.2.1 q248 hye.2.2 dX0_taken_25 ?_
  refine hv_astore_n (L' := [(3, .ref w), (0, .ref th), (1, .int p), (2, .int k)]) dX0_taken_28 rfl (Nat.le_of_ble_eq_true rfl) rfl ?_
  refine hv_aload_n 0 dX0_taken_29 rfl rfl ?_
  refine hv_iload_n 3 dX0_taken_30 rfl rfl ?_
  refine hv_callD [.int k] [] [.int u] (wd_isUnder hu) cdx_isUnder rfl ⟨Nat.le_of_ble_eq_true rfl, Nat.le_of_ble_eq_true rfl⟩ rfl (Nat.le_of_ble_eq_true rfl) rfl dX0_taken_31 ?_
  refine hv_if_eq (tgt := 44) dX0_taken_34 (by decide) (fun _ => ?_) (fun c => absurd hu0 c)
  refine hv_bipush (v := -12) dX0_taken_44 (by decide) ?_
  exact hx_iret0 rfl dX0_taken_46
set_option maxHeartbeats 4000000 in
theorem w5_taken {l : Launch} {Gd : hk_G} {th sh w ci : Nat} {r : vw_C} {p k : Int32} {s0 : hk_St} {u kd : Int32} (htr : l.stackTraces = false) (hs : ¬ x_isShelf p = 0) (hs2 : ¬ x_in k (0 : Int32) (7 : Int32) = 0) (e1 : hk_gR [0] 22 s0 th = some (some sh)) (e2 : hk_lR 10 s0 sh p = some (some w)) (hw : hk_k s0 w = some (ci, 0)) (hye : hx_Ye ci r "HeadReckons$Way") (hu : xv_isUnder w k s0 = some u) (hu0 : ¬ u = 0) (hk : xv_kind w s0 = some kd) : hx_MG Gd l yX0_taken (wsW_ yX0_taken cX0_taken 4 (some .int) hx_t_taken) 12 10400 [.ref th, .int p, .int k] s0 (some (.int kd)) s0 := by
  refine hx_startG htr "HeadReckons" (by decide +kernel) rfl (Nat.le_of_ble_eq_true rfl) ?_
  show hk_V Gd (l, cX0_taken, "HeadReckons", 4, (some .int), 12, 10400, false) (hx_endG Gd hx_t_taken s0 (some (.int kd)) s0) 0 [(0, .ref th), (1, .int p), (2, .int k)] [] s0
  refine hv_iload_n 1 dX0_taken_0 rfl rfl ?_
  refine hv_callS [.int p] [] [.int (x_isShelf p)] (wk_x_isShelf rfl) cs_X0_237 rfl ⟨Nat.le_of_ble_eq_true rfl, Nat.le_of_ble_eq_true rfl⟩ rfl (Nat.le_of_ble_eq_true rfl) rfl dX0_taken_1 ?_
  refine hv_if_eq (tgt := 17) dX0_taken_4 (by decide) (fun c => absurd c hs) (fun _ => ?_)
  refine hv_iload_n 2 dX0_taken_7 rfl rfl ?_
  refine hv_iconst (v := 0) dX0_taken_8 (by decide) ?_
  refine hv_bipush (v := 7) dX0_taken_9 (by decide) ?_
  refine hv_callS [.int k, .int (0 : Int32), .int (7 : Int32)] [] [.int (x_in k (0 : Int32) (7 : Int32))] (wk_x_in rfl) cs_X0_73 rfl ⟨Nat.le_of_ble_eq_true rfl, Nat.le_of_ble_eq_true rfl⟩ rfl (Nat.le_of_ble_eq_true rfl) rfl dX0_taken_11 ?_
  refine hv_if_ne (tgt := 19) dX0_taken_14 (by decide) (fun _ => ?_) (fun c => absurd c hs2)
  refine hv_aload_n 0 dX0_taken_19 rfl rfl ?_
  refine hv_getR fl_X0_67 e1 dX0_taken_20 ?_
  refine hv_iload_n 1 dX0_taken_23 rfl rfl ?_
  refine hv_aald (by decide) (by decide) rfl e2 dX0_taken_24 ?_
  refine hv_cast (bf_k hw) hye.1 hye.2.1 q248 hye.2.2 dX0_taken_25 ?_
  refine hv_astore_n (L' := [(3, .ref w), (0, .ref th), (1, .int p), (2, .int k)]) dX0_taken_28 rfl (Nat.le_of_ble_eq_true rfl) rfl ?_
  refine hv_aload_n 0 dX0_taken_29 rfl rfl ?_
  refine hv_iload_n 3 dX0_taken_30 rfl rfl ?_
  refine hv_callD [.int k] [] [.int u] (wd_isUnder hu) cdx_isUnder rfl ⟨Nat.le_of_ble_eq_true rfl, Nat.le_of_ble_eq_true rfl⟩ rfl (Nat.le_of_ble_eq_true rfl) rfl dX0_taken_31 ?_
  refine hv_if_eq (tgt := 44) dX0_taken_34 (by decide) (fun c => absurd c hu0) (fun _ => ?_)
  refine hv_aload_n 0 dX0_taken_37 rfl rfl ?_
  refine hv_callD [] [] [.int kd] (wd_kind hk) cdx_kind rfl ⟨Nat.le_of_ble_eq_true rfl, Nat.le_of_ble_eq_true rfl⟩ rfl (Nat.le_of_ble_eq_true rfl) rfl dX0_taken_38 ?_
  refine hv_goto (tgt := 46) dX0_taken_41 (by decide) ?_
  exact hx_iret0 rfl dX0_taken_46