/-! HeadReckons$Way -/
set_option maxRecDepth 100000
def RX17 : String := "HeadReckons$Way"
def TX17 : u_T := fun k => match k with
  | 0 => ("HeadReckons$Way", "number", "I", true)
  | _ => ("HeadReckons$Way", "this$0", "LHeadReckons;", true)
def tyX17 : Nat → FieldType := fun k => match k with
  | 0 => .int
  | _ => .object "HeadReckons"
abbrev wsX170 : List Cond := u_ws RX17 TX17 2
theorem nmX17 : ∀ a, a < 2 → ∀ b, b < 2 → a ≠ b → (TX17 a).2.1 ≠ (TX17 b).2.1 := by decide +kernel
theorem tyX17_ok : ∀ k, k < 2 → parseFieldDescriptor (TX17 k).2.2.1 = some (tyX17 k) := by decide +kernel
abbrev cX17_init : ByteArray := prog_32_method_1_code
def yX17_init : MethodName := ⟨RX17, "<init>", "(LHeadReckons;I)V"⟩
def dkwX17_init_0 : List UInt8 := [42, 43, 181, 0, 3, 42, 183, 0, 9, 42, 28, 181, 0, 15, 177]
abbrev dktX17_init_0 : List UInt8 := dkwX17_init_0 ++ []
theorem dksX17_init_0 : cX17_init.data.toList.drop 0 = dktX17_init_0 := by decide +kernel
theorem dX17_init_0 : decode cX17_init 0 = .ok (.aload_n 0, 1) := dk_42 (dk_at dksX17_init_0 0 rfl rfl)
theorem dX17_init_1 : decode cX17_init 1 = .ok (.aload_n 1, 1) := dk_43 (dk_at dksX17_init_0 1 rfl rfl)
theorem dX17_init_2 : decode cX17_init 2 = .ok (.putfield 3, 3) := dk_181 0 3 (dk_at dksX17_init_0 2 rfl rfl)
theorem dX17_init_5 : decode cX17_init 5 = .ok (.aload_n 0, 1) := dk_42 (dk_at dksX17_init_0 5 rfl rfl)
theorem dX17_init_6 : decode cX17_init 6 = .ok (.invokespecial 9, 3) := dk_183 0 9 (dk_at dksX17_init_0 6 rfl rfl)
theorem dX17_init_9 : decode cX17_init 9 = .ok (.aload_n 0, 1) := dk_42 (dk_at dksX17_init_0 9 rfl rfl)
theorem dX17_init_10 : decode cX17_init 10 = .ok (.iload_n 2, 1) := dk_28 (dk_at dksX17_init_0 10 rfl rfl)
theorem dX17_init_11 : decode cX17_init 11 = .ok (.putfield 15, 3) := dk_181 0 15 (dk_at dksX17_init_0 11 rfl rfl)
theorem dX17_init_14 : decode cX17_init 14 = .ok (.return_, 1) := dk_177 (dk_at dksX17_init_0 14 rfl rfl)
abbrev cX17_costs : ByteArray := prog_32_method_5_code
def yX17_costs : MethodName := ⟨RX17, "costs", "(I)I"⟩
def dkwX17_costs_0 : List UInt8 := [42, 180, 0, 3, 4, 182, 0, 23, 27, 42, 180, 0, 15, 96, 172]
abbrev dktX17_costs_0 : List UInt8 := dkwX17_costs_0 ++ []
theorem dksX17_costs_0 : cX17_costs.data.toList.drop 0 = dktX17_costs_0 := by decide +kernel
theorem dX17_costs_0 : decode cX17_costs 0 = .ok (.aload_n 0, 1) := dk_42 (dk_at dksX17_costs_0 0 rfl rfl)
theorem dX17_costs_1 : decode cX17_costs 1 = .ok (.getfield 3, 3) := dk_180 0 3 (dk_at dksX17_costs_0 1 rfl rfl)
theorem dX17_costs_4 : decode cX17_costs 4 = .ok (.iconst 1, 1) := dk_4 (dk_at dksX17_costs_0 4 rfl rfl)
theorem dX17_costs_5 : decode cX17_costs 5 = .ok (.invokevirtual 23, 3) := dk_182 0 23 (dk_at dksX17_costs_0 5 rfl rfl)
theorem dX17_costs_8 : decode cX17_costs 8 = .ok (.iload_n 1, 1) := dk_27 (dk_at dksX17_costs_0 8 rfl rfl)
theorem dX17_costs_9 : decode cX17_costs 9 = .ok (.aload_n 0, 1) := dk_42 (dk_at dksX17_costs_0 9 rfl rfl)
theorem dX17_costs_10 : decode cX17_costs 10 = .ok (.getfield 15, 3) := dk_180 0 15 (dk_at dksX17_costs_0 10 rfl rfl)
theorem dX17_costs_13 : decode cX17_costs 13 = .ok (.iadd, 1) := dk_96 (dk_at dksX17_costs_0 13 rfl rfl)
theorem dX17_costs_14 : decode cX17_costs 14 = .ok (.ireturn, 1) := dk_172 (dk_at dksX17_costs_0 14 rfl rfl)
abbrev cX17_tells : ByteArray := prog_32_method_8_code
def yX17_tells : MethodName := ⟨RX17, "tells", "(I)I"⟩
def dkwX17_tells_0 : List UInt8 := [42, 180, 0, 3, 5, 182, 0, 23, 42, 27, 182, 0, 31, 61, 28, 42, 4, 182, 0, 34, 100, 172]
abbrev dktX17_tells_0 : List UInt8 := dkwX17_tells_0 ++ []
theorem dksX17_tells_0 : cX17_tells.data.toList.drop 0 = dktX17_tells_0 := by decide +kernel
theorem dX17_tells_0 : decode cX17_tells 0 = .ok (.aload_n 0, 1) := dk_42 (dk_at dksX17_tells_0 0 rfl rfl)
theorem dX17_tells_1 : decode cX17_tells 1 = .ok (.getfield 3, 3) := dk_180 0 3 (dk_at dksX17_tells_0 1 rfl rfl)
theorem dX17_tells_4 : decode cX17_tells 4 = .ok (.iconst 2, 1) := dk_5 (dk_at dksX17_tells_0 4 rfl rfl)
theorem dX17_tells_5 : decode cX17_tells 5 = .ok (.invokevirtual 23, 3) := dk_182 0 23 (dk_at dksX17_tells_0 5 rfl rfl)
theorem dX17_tells_8 : decode cX17_tells 8 = .ok (.aload_n 0, 1) := dk_42 (dk_at dksX17_tells_0 8 rfl rfl)
theorem dX17_tells_9 : decode cX17_tells 9 = .ok (.iload_n 1, 1) := dk_27 (dk_at dksX17_tells_0 9 rfl rfl)
theorem dX17_tells_10 : decode cX17_tells 10 = .ok (.invokevirtual 31, 3) := dk_182 0 31 (dk_at dksX17_tells_0 10 rfl rfl)
theorem dX17_tells_13 : decode cX17_tells 13 = .ok (.istore_n 2, 1) := dk_61 (dk_at dksX17_tells_0 13 rfl rfl)
theorem dX17_tells_14 : decode cX17_tells 14 = .ok (.iload_n 2, 1) := dk_28 (dk_at dksX17_tells_0 14 rfl rfl)
theorem dX17_tells_15 : decode cX17_tells 15 = .ok (.aload_n 0, 1) := dk_42 (dk_at dksX17_tells_0 15 rfl rfl)
theorem dX17_tells_16 : decode cX17_tells 16 = .ok (.iconst 1, 1) := dk_4 (dk_at dksX17_tells_0 16 rfl rfl)
theorem dX17_tells_17 : decode cX17_tells 17 = .ok (.invokevirtual 34, 3) := dk_182 0 34 (dk_at dksX17_tells_0 17 rfl rfl)
theorem dX17_tells_20 : decode cX17_tells 20 = .ok (.isub, 1) := dk_100 (dk_at dksX17_tells_0 20 rfl rfl)
theorem dX17_tells_21 : decode cX17_tells 21 = .ok (.ireturn, 1) := dk_172 (dk_at dksX17_tells_0 21 rfl rfl)
abbrev cX17_keeps : ByteArray := prog_32_method_6_code
def yX17_keeps : MethodName := ⟨RX17, "keeps", "(I)I"⟩
def dkwX17_keeps_0 : List UInt8 := [42, 180, 0, 3, 16, 10, 182, 0, 23, 42, 27, 182, 0, 27, 5, 104, 172]
abbrev dktX17_keeps_0 : List UInt8 := dkwX17_keeps_0 ++ []
theorem dksX17_keeps_0 : cX17_keeps.data.toList.drop 0 = dktX17_keeps_0 := by decide +kernel
theorem dX17_keeps_0 : decode cX17_keeps 0 = .ok (.aload_n 0, 1) := dk_42 (dk_at dksX17_keeps_0 0 rfl rfl)
theorem dX17_keeps_1 : decode cX17_keeps 1 = .ok (.getfield 3, 3) := dk_180 0 3 (dk_at dksX17_keeps_0 1 rfl rfl)
theorem dX17_keeps_4 : decode cX17_keeps 4 = .ok (.bipush 10, 2) := dk_16 10 (dk_at dksX17_keeps_0 4 rfl rfl)
theorem dX17_keeps_6 : decode cX17_keeps 6 = .ok (.invokevirtual 23, 3) := dk_182 0 23 (dk_at dksX17_keeps_0 6 rfl rfl)
theorem dX17_keeps_9 : decode cX17_keeps 9 = .ok (.aload_n 0, 1) := dk_42 (dk_at dksX17_keeps_0 9 rfl rfl)
theorem dX17_keeps_10 : decode cX17_keeps 10 = .ok (.iload_n 1, 1) := dk_27 (dk_at dksX17_keeps_0 10 rfl rfl)
theorem dX17_keeps_11 : decode cX17_keeps 11 = .ok (.invokevirtual 27, 3) := dk_182 0 27 (dk_at dksX17_keeps_0 11 rfl rfl)
theorem dX17_keeps_14 : decode cX17_keeps 14 = .ok (.iconst 2, 1) := dk_5 (dk_at dksX17_keeps_0 14 rfl rfl)
theorem dX17_keeps_15 : decode cX17_keeps 15 = .ok (.imul, 1) := dk_104 (dk_at dksX17_keeps_0 15 rfl rfl)
theorem dX17_keeps_16 : decode cX17_keeps 16 = .ok (.ireturn, 1) := dk_172 (dk_at dksX17_keeps_0 16 rfl rfl)
abbrev cX17_slips : ByteArray := prog_32_method_7_code
def yX17_slips : MethodName := ⟨RX17, "slips", "(I)I"⟩
def dkwX17_slips_0 : List UInt8 := [42, 180, 0, 3, 16, 11, 182, 0, 23, 27, 42, 180, 0, 15, 130, 172]
abbrev dktX17_slips_0 : List UInt8 := dkwX17_slips_0 ++ []
theorem dksX17_slips_0 : cX17_slips.data.toList.drop 0 = dktX17_slips_0 := by decide +kernel
theorem dX17_slips_0 : decode cX17_slips 0 = .ok (.aload_n 0, 1) := dk_42 (dk_at dksX17_slips_0 0 rfl rfl)
theorem dX17_slips_1 : decode cX17_slips 1 = .ok (.getfield 3, 3) := dk_180 0 3 (dk_at dksX17_slips_0 1 rfl rfl)
theorem dX17_slips_4 : decode cX17_slips 4 = .ok (.bipush 11, 2) := dk_16 11 (dk_at dksX17_slips_0 4 rfl rfl)
theorem dX17_slips_6 : decode cX17_slips 6 = .ok (.invokevirtual 23, 3) := dk_182 0 23 (dk_at dksX17_slips_0 6 rfl rfl)
theorem dX17_slips_9 : decode cX17_slips 9 = .ok (.iload_n 1, 1) := dk_27 (dk_at dksX17_slips_0 9 rfl rfl)
theorem dX17_slips_10 : decode cX17_slips 10 = .ok (.aload_n 0, 1) := dk_42 (dk_at dksX17_slips_0 10 rfl rfl)
theorem dX17_slips_11 : decode cX17_slips 11 = .ok (.getfield 15, 3) := dk_180 0 15 (dk_at dksX17_slips_0 11 rfl rfl)
theorem dX17_slips_14 : decode cX17_slips 14 = .ok (.ixor, 1) := dk_130 (dk_at dksX17_slips_0 14 rfl rfl)
theorem dX17_slips_15 : decode cX17_slips 15 = .ok (.ireturn, 1) := dk_172 (dk_at dksX17_slips_0 15 rfl rfl)
abbrev cX17_isUnder : ByteArray := prog_32_method_4_code
def yX17_isUnder : MethodName := ⟨RX17, "isUnder", "(I)Z"⟩
def dkwX17_isUnder_0 : List UInt8 := [27, 153, 0, 11, 27, 42, 182, 0, 19, 160, 0, 7, 4, 167, 0, 4, 3, 172]
abbrev dktX17_isUnder_0 : List UInt8 := dkwX17_isUnder_0 ++ []
theorem dksX17_isUnder_0 : cX17_isUnder.data.toList.drop 0 = dktX17_isUnder_0 := by decide +kernel
theorem dX17_isUnder_0 : decode cX17_isUnder 0 = .ok (.iload_n 1, 1) := dk_27 (dk_at dksX17_isUnder_0 0 rfl rfl)
theorem dX17_isUnder_1 : decode cX17_isUnder 1 = .ok (.ifCond .eq 11, 3) := dk_153 0 11 (dk_at dksX17_isUnder_0 1 rfl rfl)
theorem dX17_isUnder_4 : decode cX17_isUnder 4 = .ok (.iload_n 1, 1) := dk_27 (dk_at dksX17_isUnder_0 4 rfl rfl)
theorem dX17_isUnder_5 : decode cX17_isUnder 5 = .ok (.aload_n 0, 1) := dk_42 (dk_at dksX17_isUnder_0 5 rfl rfl)
theorem dX17_isUnder_6 : decode cX17_isUnder 6 = .ok (.invokevirtual 19, 3) := dk_182 0 19 (dk_at dksX17_isUnder_0 6 rfl rfl)
theorem dX17_isUnder_9 : decode cX17_isUnder 9 = .ok (.if_icmp .ne 7, 3) := dk_160 0 7 (dk_at dksX17_isUnder_0 9 rfl rfl)
theorem dX17_isUnder_12 : decode cX17_isUnder 12 = .ok (.iconst 1, 1) := dk_4 (dk_at dksX17_isUnder_0 12 rfl rfl)
theorem dX17_isUnder_13 : decode cX17_isUnder 13 = .ok (.goto 4, 3) := dk_167 0 4 (dk_at dksX17_isUnder_0 13 rfl rfl)
theorem dX17_isUnder_16 : decode cX17_isUnder 16 = .ok (.iconst 0, 1) := dk_3 (dk_at dksX17_isUnder_0 16 rfl rfl)
theorem dX17_isUnder_17 : decode cX17_isUnder 17 = .ok (.ireturn, 1) := dk_172 (dk_at dksX17_isUnder_0 17 rfl rfl)
abbrev cX17_kind : ByteArray := prog_32_method_3_code
def yX17_kind : MethodName := ⟨RX17, "kind", "()I"⟩
theorem dX17_kind_0 : decode cX17_kind 0 = .ok (.iconst 0, 1) := by decide +kernel
theorem dX17_kind_1 : decode cX17_kind 1 = .ok (.ireturn, 1) := by decide +kernel
theorem q122 : (Jvm.Cond.initialized "HeadReckons$Way") ∈ lw_all := lw_g (lw_at lw_m1 31 rfl) rfl
theorem q1133 : (Jvm.Cond.instanceMethod ({ cls := "HeadReckons$Way", name := "<init>", desc := "(LHeadReckons;I)V" } : Jvm.MethodName)) ∈ lw_all := lw_g (lw_at lw_m5 82 rfl) rfl
theorem q1134 : (Jvm.Cond.code ({ cls := "HeadReckons$Way", name := "<init>", desc := "(LHeadReckons;I)V" } : Jvm.MethodName) prog_32_method_1_code (3 : Nat) (Option.none : Option Jvm.ClassFile.FieldType)) ∈ lw_all := lw_g (lw_at lw_m5 83 rfl) rfl
theorem q1135 : (Jvm.Cond.methodLinkNest "HeadReckons$Way" (9 : Nat) ({ cls := "HeadReckons$Held", name := "<init>", desc := "()V" } : Jvm.MethodName) "HeadReckons") ∈ lw_tbl := lw_at lw_m5 84 rfl
theorem q1140 : (Jvm.Cond.fieldLink "HeadReckons$Way" (15 : Nat) "HeadReckons$Way" "number" "I") ∈ lw_all := lw_g (lw_at lw_m5 89 rfl) rfl
theorem q1141 : (Jvm.Cond.fieldLink "HeadReckons$Way" (3 : Nat) "HeadReckons$Way" "this$0" "LHeadReckons;") ∈ lw_all := lw_g (lw_at lw_m5 90 rfl) rfl
theorem q1145 : (Jvm.Cond.soleField "HeadReckons$Way" "number") ∈ lw_all := lw_g (lw_at lw_m5 94 rfl) rfl
theorem q1147 : (Jvm.Cond.soleField "HeadReckons$Way" "this$0") ∈ lw_all := lw_g (lw_at lw_m5 96 rfl) rfl
theorem q1224 : (Jvm.Cond.instantiable "HeadReckons$Way" (2 : Nat)) ∈ lw_all := lw_g (lw_at lw_m5 173 rfl) rfl
theorem q1226 : (Jvm.Cond.laysFinal "HeadReckons$Way" "HeadReckons$Way" "number" "I") ∈ lw_all := lw_g (lw_at lw_m5 175 rfl) rfl
theorem q1227 : (Jvm.Cond.laysFinal "HeadReckons$Way" "HeadReckons$Way" "this$0" "LHeadReckons;") ∈ lw_all := lw_g (lw_at lw_m5 176 rfl) rfl
theorem q1228 : (Jvm.Cond.superclass "HeadReckons$Way" "HeadReckons$Held") ∈ lw_all := lw_g (lw_at lw_m5 177 rfl) rfl
theorem q1256 : (Jvm.Cond.instanceMethod ({ cls := "HeadReckons$Way", name := "costs", desc := "(I)I" } : Jvm.MethodName)) ∈ lw_all := lw_g (lw_at lw_m5 205 rfl) rfl
theorem q1257 : (Jvm.Cond.code ({ cls := "HeadReckons$Way", name := "costs", desc := "(I)I" } : Jvm.MethodName) prog_32_method_5_code (2 : Nat) (Option.some Jvm.ClassFile.FieldType.int)) ∈ lw_all := lw_g (lw_at lw_m5 206 rfl) rfl
theorem q1258 : (Jvm.Cond.methodLinkNest "HeadReckons$Way" (23 : Nat) ({ cls := "HeadReckons", name := "ran", desc := "(I)V" } : Jvm.MethodName) "HeadReckons") ∈ lw_tbl := lw_at lw_m5 207 rfl
theorem q1262 : (Jvm.Cond.publicMethod ({ cls := "HeadReckons$Way", name := "costs", desc := "(I)I" } : Jvm.MethodName)) ∈ lw_tbl := lw_at lw_m5 211 rfl
theorem q1279 : (Jvm.Cond.castable "HeadReckons$Way" "HeadReckons$Costs") ∈ lw_tbl := lw_at lw_m5 228 rfl
theorem q1280 : (Jvm.Cond.selects "HeadReckons$Way" ({ cls := "HeadReckons$Costs", name := "costs", desc := "(I)I" } : Jvm.MethodName) ({ cls := "HeadReckons$Way", name := "costs", desc := "(I)I" } : Jvm.MethodName)) ∈ lw_all := lw_g (lw_at lw_m5 229 rfl) rfl
theorem q1281 : (Jvm.Cond.unhidden "HeadReckons$Way" "costs" "(I)I") ∈ lw_tbl := lw_at lw_m5 230 rfl
theorem q1289 : (Jvm.Cond.instanceMethod ({ cls := "HeadReckons$Way", name := "tells", desc := "(I)I" } : Jvm.MethodName)) ∈ lw_all := lw_g (lw_at lw_m5 238 rfl) rfl
theorem q1290 : (Jvm.Cond.publicMethod ({ cls := "HeadReckons$Way", name := "tells", desc := "(I)I" } : Jvm.MethodName)) ∈ lw_tbl := lw_at lw_m5 239 rfl
theorem q1291 : (Jvm.Cond.code ({ cls := "HeadReckons$Way", name := "tells", desc := "(I)I" } : Jvm.MethodName) prog_32_method_8_code (3 : Nat) (Option.some Jvm.ClassFile.FieldType.int)) ∈ lw_all := lw_g (lw_at lw_m6 0 rfl) rfl
theorem q1292 : (Jvm.Cond.methodLink "HeadReckons$Way" (31 : Nat) ({ cls := "HeadReckons$Way", name := "keeps", desc := "(I)I" } : Jvm.MethodName)) ∈ lw_all := lw_g (lw_at lw_m6 1 rfl) rfl
theorem q1293 : (Jvm.Cond.instanceMethod ({ cls := "HeadReckons$Way", name := "keeps", desc := "(I)I" } : Jvm.MethodName)) ∈ lw_all := lw_g (lw_at lw_m6 2 rfl) rfl
theorem q1294 : (Jvm.Cond.selects "HeadReckons$Way" ({ cls := "HeadReckons$Way", name := "keeps", desc := "(I)I" } : Jvm.MethodName) ({ cls := "HeadReckons$Way", name := "keeps", desc := "(I)I" } : Jvm.MethodName)) ∈ lw_all := lw_g (lw_at lw_m6 3 rfl) rfl
theorem q1295 : (Jvm.Cond.sameMethod "HeadReckons$Way" "HeadReckons$Way" "keeps" "(I)I") ∈ lw_all := lw_g (lw_at lw_m6 4 rfl) rfl
theorem q1304 : (Jvm.Cond.code ({ cls := "HeadReckons$Way", name := "keeps", desc := "(I)I" } : Jvm.MethodName) prog_32_method_6_code (2 : Nat) (Option.some Jvm.ClassFile.FieldType.int)) ∈ lw_all := lw_g (lw_at lw_m6 13 rfl) rfl
theorem q1305 : (Jvm.Cond.methodLink "HeadReckons$Way" (27 : Nat) ({ cls := "HeadReckons$Way", name := "costs", desc := "(I)I" } : Jvm.MethodName)) ∈ lw_all := lw_g (lw_at lw_m6 14 rfl) rfl
theorem q1314 : (Jvm.Cond.declares ({ cls := "HeadReckons$Way", name := "keeps", desc := "(I)I" } : Jvm.MethodName)) ∈ lw_tbl := lw_at lw_m6 23 rfl
theorem q1315 : (Jvm.Cond.methodLink "HeadReckons$Way" (34 : Nat) ({ cls := "HeadReckons$Way", name := "slips", desc := "(I)I" } : Jvm.MethodName)) ∈ lw_all := lw_g (lw_at lw_m6 24 rfl) rfl
theorem q1316 : (Jvm.Cond.instanceMethod ({ cls := "HeadReckons$Way", name := "slips", desc := "(I)I" } : Jvm.MethodName)) ∈ lw_all := lw_g (lw_at lw_m6 25 rfl) rfl
theorem q1317 : (Jvm.Cond.selects "HeadReckons$Way" ({ cls := "HeadReckons$Way", name := "slips", desc := "(I)I" } : Jvm.MethodName) ({ cls := "HeadReckons$Way", name := "slips", desc := "(I)I" } : Jvm.MethodName)) ∈ lw_all := lw_g (lw_at lw_m6 26 rfl) rfl
theorem q1318 : (Jvm.Cond.sameMethod "HeadReckons$Way" "HeadReckons$Way" "slips" "(I)I") ∈ lw_all := lw_g (lw_at lw_m6 27 rfl) rfl
theorem q1324 : (Jvm.Cond.declares ({ cls := "HeadReckons$Way", name := "slips", desc := "(I)I" } : Jvm.MethodName)) ∈ lw_tbl := lw_at lw_m6 33 rfl
theorem q1325 : (Jvm.Cond.code ({ cls := "HeadReckons$Way", name := "slips", desc := "(I)I" } : Jvm.MethodName) prog_32_method_7_code (2 : Nat) (Option.some Jvm.ClassFile.FieldType.int)) ∈ lw_all := lw_g (lw_at lw_m6 34 rfl) rfl
theorem q1370 : (Jvm.Cond.declares ({ cls := "HeadReckons$Way", name := "tells", desc := "(I)I" } : Jvm.MethodName)) ∈ lw_tbl := lw_at lw_m6 79 rfl
theorem q1375 : (Jvm.Cond.castable "HeadReckons$Way" "HeadReckons$Tells") ∈ lw_tbl := lw_at lw_m6 84 rfl
theorem q1376 : (Jvm.Cond.selects "HeadReckons$Way" ({ cls := "HeadReckons$Tells", name := "tells", desc := "(I)I" } : Jvm.MethodName) ({ cls := "HeadReckons$Way", name := "tells", desc := "(I)I" } : Jvm.MethodName)) ∈ lw_all := lw_g (lw_at lw_m6 85 rfl) rfl
theorem q1377 : (Jvm.Cond.unhidden "HeadReckons$Way" "tells" "(I)I") ∈ lw_tbl := lw_at lw_m6 86 rfl
theorem q1546 : (Jvm.Cond.instanceMethod ({ cls := "HeadReckons$Way", name := "isUnder", desc := "(I)Z" } : Jvm.MethodName)) ∈ lw_all := lw_g (lw_at lw_m7 15 rfl) rfl
theorem q1547 : (Jvm.Cond.selects "HeadReckons$Way" ({ cls := "HeadReckons$Way", name := "isUnder", desc := "(I)Z" } : Jvm.MethodName) ({ cls := "HeadReckons$Way", name := "isUnder", desc := "(I)Z" } : Jvm.MethodName)) ∈ lw_all := lw_g (lw_at lw_m7 16 rfl) rfl
theorem q1548 : (Jvm.Cond.sameMethod "HeadReckons$Way" "HeadReckons$Way" "isUnder" "(I)Z") ∈ lw_all := lw_g (lw_at lw_m7 17 rfl) rfl
theorem q1553 : (Jvm.Cond.code ({ cls := "HeadReckons$Way", name := "isUnder", desc := "(I)Z" } : Jvm.MethodName) prog_32_method_4_code (2 : Nat) (Option.some Jvm.ClassFile.FieldType.boolean)) ∈ lw_all := lw_g (lw_at lw_m7 22 rfl) rfl
theorem q1554 : (Jvm.Cond.methodLink "HeadReckons$Way" (19 : Nat) ({ cls := "HeadReckons$Way", name := "kind", desc := "()I" } : Jvm.MethodName)) ∈ lw_all := lw_g (lw_at lw_m7 23 rfl) rfl
theorem q1555 : (Jvm.Cond.instanceMethod ({ cls := "HeadReckons$Way", name := "kind", desc := "()I" } : Jvm.MethodName)) ∈ lw_all := lw_g (lw_at lw_m7 24 rfl) rfl
theorem q1556 : (Jvm.Cond.selects "HeadReckons$Way" ({ cls := "HeadReckons$Way", name := "kind", desc := "()I" } : Jvm.MethodName) ({ cls := "HeadReckons$Way", name := "kind", desc := "()I" } : Jvm.MethodName)) ∈ lw_all := lw_g (lw_at lw_m7 25 rfl) rfl
theorem q1557 : (Jvm.Cond.sameMethod "HeadReckons$Way" "HeadReckons$Way" "kind" "()I") ∈ lw_all := lw_g (lw_at lw_m7 26 rfl) rfl
theorem q1579 : (Jvm.Cond.code ({ cls := "HeadReckons$Way", name := "kind", desc := "()I" } : Jvm.MethodName) prog_32_method_3_code (1 : Nat) (Option.some Jvm.ClassFile.FieldType.int)) ∈ lw_all := lw_g (lw_at lw_m7 48 rfl) rfl
theorem q2217 : (Jvm.Cond.sameMethod "HeadReckons$Way" "HeadReckons$Way" "costs" "(I)I") ∈ lw_all := lw_g (lw_at lw_m9 206 rfl) rfl
theorem q2225 : (Jvm.Cond.selects "HeadReckons$Way" ({ cls := "HeadReckons$Way", name := "costs", desc := "(I)I" } : Jvm.MethodName) ({ cls := "HeadReckons$Way", name := "costs", desc := "(I)I" } : Jvm.MethodName)) ∈ lw_all := lw_g (lw_at lw_m9 214 rfl) rfl
theorem q2227 : (Jvm.Cond.sameMethod "HeadReckons$Way" "HeadReckons$Way" "tells" "(I)I") ∈ lw_all := lw_g (lw_at lw_m9 216 rfl) rfl
theorem q2248 : (Jvm.Cond.castable "HeadReckons$Way" "HeadReckons$Held") ∈ lw_tbl := lw_at lw_m9 237 rfl
theorem in_X17 : ∀ w ∈ wsX170, w ∈ lw_all := lw_in wsX170 [1226, 1227] (by decide +kernel) (by decide +kernel)

/-! HeadReckons$FromLeft -/
set_option maxRecDepth 100000
def RX18 : String := "HeadReckons$FromLeft"
def TX18 : u_T := fun k => match k with
  | 0 => ("HeadReckons$Way", "number", "I", true)
  | 1 => ("HeadReckons$Way", "this$0", "LHeadReckons;", true)
  | _ => ("HeadReckons$FromLeft", "this$0", "LHeadReckons;", true)
def tyX18 : Nat → FieldType := fun k => match k with
  | 0 => .int
  | 1 => .object "HeadReckons"
  | _ => .object "HeadReckons"
abbrev wsX180 : List Cond := u_ws RX18 TX18 3
-- two fields of one name: no nmX18
theorem tyX18_ok : ∀ k, k < 3 → parseFieldDescriptor (TX18 k).2.2.1 = some (tyX18 k) := by decide +kernel
abbrev cX18_init : ByteArray := prog_13_method_1_code
def yX18_init : MethodName := ⟨RX18, "<init>", "(LHeadReckons;I)V"⟩
def dkwX18_init_0 : List UInt8 := [42, 43, 181, 0, 1, 42, 43, 28, 183, 0, 7, 177]
abbrev dktX18_init_0 : List UInt8 := dkwX18_init_0 ++ []
theorem dksX18_init_0 : cX18_init.data.toList.drop 0 = dktX18_init_0 := by decide +kernel
theorem dX18_init_0 : decode cX18_init 0 = .ok (.aload_n 0, 1) := dk_42 (dk_at dksX18_init_0 0 rfl rfl)
theorem dX18_init_1 : decode cX18_init 1 = .ok (.aload_n 1, 1) := dk_43 (dk_at dksX18_init_0 1 rfl rfl)
theorem dX18_init_2 : decode cX18_init 2 = .ok (.putfield 1, 3) := dk_181 0 1 (dk_at dksX18_init_0 2 rfl rfl)
theorem dX18_init_5 : decode cX18_init 5 = .ok (.aload_n 0, 1) := dk_42 (dk_at dksX18_init_0 5 rfl rfl)
theorem dX18_init_6 : decode cX18_init 6 = .ok (.aload_n 1, 1) := dk_43 (dk_at dksX18_init_0 6 rfl rfl)
theorem dX18_init_7 : decode cX18_init 7 = .ok (.iload_n 2, 1) := dk_28 (dk_at dksX18_init_0 7 rfl rfl)
theorem dX18_init_8 : decode cX18_init 8 = .ok (.invokespecial 7, 3) := dk_183 0 7 (dk_at dksX18_init_0 8 rfl rfl)
theorem dX18_init_11 : decode cX18_init 11 = .ok (.return_, 1) := dk_177 (dk_at dksX18_init_0 11 rfl rfl)
abbrev cX18_costs : ByteArray := prog_13_method_4_code
def yX18_costs : MethodName := ⟨RX18, "costs", "(I)I"⟩
def dkwX18_costs_0 : List UInt8 := [42, 180, 0, 1, 16, 20, 182, 0, 17, 42, 27, 183, 0, 23, 6, 96, 172]
abbrev dktX18_costs_0 : List UInt8 := dkwX18_costs_0 ++ []
theorem dksX18_costs_0 : cX18_costs.data.toList.drop 0 = dktX18_costs_0 := by decide +kernel
theorem dX18_costs_0 : decode cX18_costs 0 = .ok (.aload_n 0, 1) := dk_42 (dk_at dksX18_costs_0 0 rfl rfl)
theorem dX18_costs_1 : decode cX18_costs 1 = .ok (.getfield 1, 3) := dk_180 0 1 (dk_at dksX18_costs_0 1 rfl rfl)
theorem dX18_costs_4 : decode cX18_costs 4 = .ok (.bipush 20, 2) := dk_16 20 (dk_at dksX18_costs_0 4 rfl rfl)
theorem dX18_costs_6 : decode cX18_costs 6 = .ok (.invokevirtual 17, 3) := dk_182 0 17 (dk_at dksX18_costs_0 6 rfl rfl)
theorem dX18_costs_9 : decode cX18_costs 9 = .ok (.aload_n 0, 1) := dk_42 (dk_at dksX18_costs_0 9 rfl rfl)
theorem dX18_costs_10 : decode cX18_costs 10 = .ok (.iload_n 1, 1) := dk_27 (dk_at dksX18_costs_0 10 rfl rfl)
theorem dX18_costs_11 : decode cX18_costs 11 = .ok (.invokespecial 23, 3) := dk_183 0 23 (dk_at dksX18_costs_0 11 rfl rfl)
theorem dX18_costs_14 : decode cX18_costs 14 = .ok (.iconst 3, 1) := dk_6 (dk_at dksX18_costs_0 14 rfl rfl)
theorem dX18_costs_15 : decode cX18_costs 15 = .ok (.iadd, 1) := dk_96 (dk_at dksX18_costs_0 15 rfl rfl)
theorem dX18_costs_16 : decode cX18_costs 16 = .ok (.ireturn, 1) := dk_172 (dk_at dksX18_costs_0 16 rfl rfl)
abbrev cX18_isUnder : ByteArray := prog_13_method_3_code
def yX18_isUnder : MethodName := ⟨RX18, "isUnder", "(I)Z"⟩
def dkwX18_isUnder_0 : List UInt8 := [27, 4, 159, 0, 11, 42, 27, 183, 0, 13, 153, 0, 7, 4, 167, 0, 4, 3, 172]
abbrev dktX18_isUnder_0 : List UInt8 := dkwX18_isUnder_0 ++ []
theorem dksX18_isUnder_0 : cX18_isUnder.data.toList.drop 0 = dktX18_isUnder_0 := by decide +kernel
theorem dX18_isUnder_0 : decode cX18_isUnder 0 = .ok (.iload_n 1, 1) := dk_27 (dk_at dksX18_isUnder_0 0 rfl rfl)
theorem dX18_isUnder_1 : decode cX18_isUnder 1 = .ok (.iconst 1, 1) := dk_4 (dk_at dksX18_isUnder_0 1 rfl rfl)
theorem dX18_isUnder_2 : decode cX18_isUnder 2 = .ok (.if_icmp .eq 11, 3) := dk_159 0 11 (dk_at dksX18_isUnder_0 2 rfl rfl)
theorem dX18_isUnder_5 : decode cX18_isUnder 5 = .ok (.aload_n 0, 1) := dk_42 (dk_at dksX18_isUnder_0 5 rfl rfl)
theorem dX18_isUnder_6 : decode cX18_isUnder 6 = .ok (.iload_n 1, 1) := dk_27 (dk_at dksX18_isUnder_0 6 rfl rfl)
theorem dX18_isUnder_7 : decode cX18_isUnder 7 = .ok (.invokespecial 13, 3) := dk_183 0 13 (dk_at dksX18_isUnder_0 7 rfl rfl)
theorem dX18_isUnder_10 : decode cX18_isUnder 10 = .ok (.ifCond .eq 7, 3) := dk_153 0 7 (dk_at dksX18_isUnder_0 10 rfl rfl)
theorem dX18_isUnder_13 : decode cX18_isUnder 13 = .ok (.iconst 1, 1) := dk_4 (dk_at dksX18_isUnder_0 13 rfl rfl)
theorem dX18_isUnder_14 : decode cX18_isUnder 14 = .ok (.goto 4, 3) := dk_167 0 4 (dk_at dksX18_isUnder_0 14 rfl rfl)
theorem dX18_isUnder_17 : decode cX18_isUnder 17 = .ok (.iconst 0, 1) := dk_3 (dk_at dksX18_isUnder_0 17 rfl rfl)
theorem dX18_isUnder_18 : decode cX18_isUnder 18 = .ok (.ireturn, 1) := dk_172 (dk_at dksX18_isUnder_0 18 rfl rfl)
abbrev cX18_kind : ByteArray := prog_13_method_2_code
def yX18_kind : MethodName := ⟨RX18, "kind", "()I"⟩
theorem dX18_kind_0 : decode cX18_kind 0 = .ok (.iconst 1, 1) := by decide +kernel
theorem dX18_kind_1 : decode cX18_kind 1 = .ok (.ireturn, 1) := by decide +kernel
theorem q123 : (Jvm.Cond.initialized "HeadReckons$FromLeft") ∈ lw_all := lw_g (lw_at lw_m1 32 rfl) rfl
theorem q1128 : (Jvm.Cond.instantiable "HeadReckons$FromLeft" (3 : Nat)) ∈ lw_all := lw_g (lw_at lw_m5 77 rfl) rfl
theorem q1130 : (Jvm.Cond.instanceMethod ({ cls := "HeadReckons$FromLeft", name := "<init>", desc := "(LHeadReckons;I)V" } : Jvm.MethodName)) ∈ lw_all := lw_g (lw_at lw_m5 79 rfl) rfl
theorem q1131 : (Jvm.Cond.code ({ cls := "HeadReckons$FromLeft", name := "<init>", desc := "(LHeadReckons;I)V" } : Jvm.MethodName) prog_13_method_1_code (3 : Nat) (Option.none : Option Jvm.ClassFile.FieldType)) ∈ lw_all := lw_g (lw_at lw_m5 80 rfl) rfl
theorem q1132 : (Jvm.Cond.methodLink "HeadReckons$FromLeft" (7 : Nat) ({ cls := "HeadReckons$Way", name := "<init>", desc := "(LHeadReckons;I)V" } : Jvm.MethodName)) ∈ lw_all := lw_g (lw_at lw_m5 81 rfl) rfl
theorem q1139 : (Jvm.Cond.fieldLink "HeadReckons$FromLeft" (1 : Nat) "HeadReckons$FromLeft" "this$0" "LHeadReckons;") ∈ lw_all := lw_g (lw_at lw_m5 88 rfl) rfl
theorem q1142 : (Jvm.Cond.laysFinal "HeadReckons$FromLeft" "HeadReckons$FromLeft" "this$0" "LHeadReckons;") ∈ lw_all := lw_g (lw_at lw_m5 91 rfl) rfl
theorem q1143 : (Jvm.Cond.soleField "HeadReckons$FromLeft" "this$0") ∈ lw_all := lw_g (lw_at lw_m5 92 rfl) rfl
theorem q1144 : (Jvm.Cond.laysFinal "HeadReckons$FromLeft" "HeadReckons$Way" "number" "I") ∈ lw_all := lw_g (lw_at lw_m5 93 rfl) rfl
theorem q1146 : (Jvm.Cond.laysFinal "HeadReckons$FromLeft" "HeadReckons$Way" "this$0" "LHeadReckons;") ∈ lw_all := lw_g (lw_at lw_m5 95 rfl) rfl
theorem q1148 : (Jvm.Cond.superclass "HeadReckons$FromLeft" "HeadReckons$Way") ∈ lw_all := lw_g (lw_at lw_m5 97 rfl) rfl
theorem q1252 : (Jvm.Cond.instanceMethod ({ cls := "HeadReckons$FromLeft", name := "costs", desc := "(I)I" } : Jvm.MethodName)) ∈ lw_all := lw_g (lw_at lw_m5 201 rfl) rfl
theorem q1253 : (Jvm.Cond.code ({ cls := "HeadReckons$FromLeft", name := "costs", desc := "(I)I" } : Jvm.MethodName) prog_13_method_4_code (2 : Nat) (Option.some Jvm.ClassFile.FieldType.int)) ∈ lw_all := lw_g (lw_at lw_m5 202 rfl) rfl
theorem q1254 : (Jvm.Cond.methodLinkNest "HeadReckons$FromLeft" (17 : Nat) ({ cls := "HeadReckons", name := "ran", desc := "(I)V" } : Jvm.MethodName) "HeadReckons") ∈ lw_tbl := lw_at lw_m5 203 rfl
theorem q1255 : (Jvm.Cond.methodLink "HeadReckons$FromLeft" (23 : Nat) ({ cls := "HeadReckons$Way", name := "costs", desc := "(I)I" } : Jvm.MethodName)) ∈ lw_all := lw_g (lw_at lw_m5 204 rfl) rfl
theorem q1269 : (Jvm.Cond.castable "HeadReckons$FromLeft" "HeadReckons$Costs") ∈ lw_tbl := lw_at lw_m5 218 rfl
theorem q1270 : (Jvm.Cond.selects "HeadReckons$FromLeft" ({ cls := "HeadReckons$Costs", name := "costs", desc := "(I)I" } : Jvm.MethodName) ({ cls := "HeadReckons$FromLeft", name := "costs", desc := "(I)I" } : Jvm.MethodName)) ∈ lw_all := lw_g (lw_at lw_m5 219 rfl) rfl
theorem q1271 : (Jvm.Cond.unhidden "HeadReckons$FromLeft" "costs" "(I)I") ∈ lw_tbl := lw_at lw_m5 220 rfl
theorem q1272 : (Jvm.Cond.publicMethod ({ cls := "HeadReckons$FromLeft", name := "costs", desc := "(I)I" } : Jvm.MethodName)) ∈ lw_tbl := lw_at lw_m5 221 rfl
theorem q1306 : (Jvm.Cond.selects "HeadReckons$FromLeft" ({ cls := "HeadReckons$Way", name := "keeps", desc := "(I)I" } : Jvm.MethodName) ({ cls := "HeadReckons$Way", name := "keeps", desc := "(I)I" } : Jvm.MethodName)) ∈ lw_all := lw_g (lw_at lw_m6 15 rfl) rfl
theorem q1323 : (Jvm.Cond.sameMethod "HeadReckons$FromLeft" "HeadReckons$Way" "slips" "(I)I") ∈ lw_all := lw_g (lw_at lw_m6 32 rfl) rfl
theorem q1339 : (Jvm.Cond.selects "HeadReckons$FromLeft" ({ cls := "HeadReckons$Way", name := "slips", desc := "(I)I" } : Jvm.MethodName) ({ cls := "HeadReckons$Way", name := "slips", desc := "(I)I" } : Jvm.MethodName)) ∈ lw_all := lw_g (lw_at lw_m6 48 rfl) rfl
theorem q1356 : (Jvm.Cond.castable "HeadReckons$FromLeft" "HeadReckons$Tells") ∈ lw_tbl := lw_at lw_m6 65 rfl
theorem q1357 : (Jvm.Cond.selects "HeadReckons$FromLeft" ({ cls := "HeadReckons$Tells", name := "tells", desc := "(I)I" } : Jvm.MethodName) ({ cls := "HeadReckons$Way", name := "tells", desc := "(I)I" } : Jvm.MethodName)) ∈ lw_all := lw_g (lw_at lw_m6 66 rfl) rfl
theorem q1358 : (Jvm.Cond.unhidden "HeadReckons$FromLeft" "tells" "(I)I") ∈ lw_tbl := lw_at lw_m6 67 rfl
theorem q1550 : (Jvm.Cond.instanceMethod ({ cls := "HeadReckons$FromLeft", name := "isUnder", desc := "(I)Z" } : Jvm.MethodName)) ∈ lw_all := lw_g (lw_at lw_m7 19 rfl) rfl
theorem q1551 : (Jvm.Cond.code ({ cls := "HeadReckons$FromLeft", name := "isUnder", desc := "(I)Z" } : Jvm.MethodName) prog_13_method_3_code (2 : Nat) (Option.some Jvm.ClassFile.FieldType.boolean)) ∈ lw_all := lw_g (lw_at lw_m7 20 rfl) rfl
theorem q1552 : (Jvm.Cond.methodLink "HeadReckons$FromLeft" (13 : Nat) ({ cls := "HeadReckons$Way", name := "isUnder", desc := "(I)Z" } : Jvm.MethodName)) ∈ lw_all := lw_g (lw_at lw_m7 21 rfl) rfl
theorem q1570 : (Jvm.Cond.selects "HeadReckons$FromLeft" ({ cls := "HeadReckons$Way", name := "kind", desc := "()I" } : Jvm.MethodName) ({ cls := "HeadReckons$FromLeft", name := "kind", desc := "()I" } : Jvm.MethodName)) ∈ lw_all := lw_g (lw_at lw_m7 39 rfl) rfl
theorem q1571 : (Jvm.Cond.instanceMethod ({ cls := "HeadReckons$FromLeft", name := "kind", desc := "()I" } : Jvm.MethodName)) ∈ lw_all := lw_g (lw_at lw_m7 40 rfl) rfl
theorem q1572 : (Jvm.Cond.code ({ cls := "HeadReckons$FromLeft", name := "kind", desc := "()I" } : Jvm.MethodName) prog_13_method_2_code (1 : Nat) (Option.some Jvm.ClassFile.FieldType.int)) ∈ lw_all := lw_g (lw_at lw_m7 41 rfl) rfl
theorem q1589 : (Jvm.Cond.selects "HeadReckons$FromLeft" ({ cls := "HeadReckons$Way", name := "isUnder", desc := "(I)Z" } : Jvm.MethodName) ({ cls := "HeadReckons$FromLeft", name := "isUnder", desc := "(I)Z" } : Jvm.MethodName)) ∈ lw_all := lw_g (lw_at lw_m7 58 rfl) rfl
theorem q2216 : (Jvm.Cond.sameMethod "HeadReckons$FromLeft" "HeadReckons$FromLeft" "costs" "(I)I") ∈ lw_all := lw_g (lw_at lw_m9 205 rfl) rfl
theorem q2222 : (Jvm.Cond.selects "HeadReckons$FromLeft" ({ cls := "HeadReckons$Way", name := "costs", desc := "(I)I" } : Jvm.MethodName) ({ cls := "HeadReckons$FromLeft", name := "costs", desc := "(I)I" } : Jvm.MethodName)) ∈ lw_all := lw_g (lw_at lw_m9 211 rfl) rfl
theorem q2238 : (Jvm.Cond.castable "HeadReckons$FromLeft" "HeadReckons$Way") ∈ lw_tbl := lw_at lw_m9 227 rfl
theorem q2241 : (Jvm.Cond.castable "HeadReckons$FromLeft" "HeadReckons$Held") ∈ lw_tbl := lw_at lw_m9 230 rfl
theorem in_X18 : ∀ w ∈ wsX180, w ∈ lw_all := lw_in wsX180 [1144, 1146, 1142] (by decide +kernel) (by decide +kernel)

/-! HeadReckons$FromRight -/
set_option maxRecDepth 100000
def RX19 : String := "HeadReckons$FromRight"
def TX19 : u_T := fun k => match k with
  | 0 => ("HeadReckons$Way", "number", "I", true)
  | 1 => ("HeadReckons$Way", "this$0", "LHeadReckons;", true)
  | _ => ("HeadReckons$FromRight", "this$0", "LHeadReckons;", true)
def tyX19 : Nat → FieldType := fun k => match k with
  | 0 => .int
  | 1 => .object "HeadReckons"
  | _ => .object "HeadReckons"
abbrev wsX190 : List Cond := u_ws RX19 TX19 3
-- two fields of one name: no nmX19
theorem tyX19_ok : ∀ k, k < 3 → parseFieldDescriptor (TX19 k).2.2.1 = some (tyX19 k) := by decide +kernel
abbrev cX19_init : ByteArray := prog_14_method_1_code
def yX19_init : MethodName := ⟨RX19, "<init>", "(LHeadReckons;I)V"⟩
def dkwX19_init_0 : List UInt8 := [42, 43, 181, 0, 1, 42, 43, 28, 183, 0, 7, 177]
abbrev dktX19_init_0 : List UInt8 := dkwX19_init_0 ++ []
theorem dksX19_init_0 : cX19_init.data.toList.drop 0 = dktX19_init_0 := by decide +kernel
theorem dX19_init_0 : decode cX19_init 0 = .ok (.aload_n 0, 1) := dk_42 (dk_at dksX19_init_0 0 rfl rfl)
theorem dX19_init_1 : decode cX19_init 1 = .ok (.aload_n 1, 1) := dk_43 (dk_at dksX19_init_0 1 rfl rfl)
theorem dX19_init_2 : decode cX19_init 2 = .ok (.putfield 1, 3) := dk_181 0 1 (dk_at dksX19_init_0 2 rfl rfl)
theorem dX19_init_5 : decode cX19_init 5 = .ok (.aload_n 0, 1) := dk_42 (dk_at dksX19_init_0 5 rfl rfl)
theorem dX19_init_6 : decode cX19_init 6 = .ok (.aload_n 1, 1) := dk_43 (dk_at dksX19_init_0 6 rfl rfl)
theorem dX19_init_7 : decode cX19_init 7 = .ok (.iload_n 2, 1) := dk_28 (dk_at dksX19_init_0 7 rfl rfl)
theorem dX19_init_8 : decode cX19_init 8 = .ok (.invokespecial 7, 3) := dk_183 0 7 (dk_at dksX19_init_0 8 rfl rfl)
theorem dX19_init_11 : decode cX19_init 11 = .ok (.return_, 1) := dk_177 (dk_at dksX19_init_0 11 rfl rfl)
abbrev cX19_keeps : ByteArray := prog_14_method_4_code
def yX19_keeps : MethodName := ⟨RX19, "keeps", "(I)I"⟩
def dkwX19_keeps_0 : List UInt8 := [42, 180, 0, 1, 16, 30, 182, 0, 17, 42, 27, 183, 0, 23, 116, 172]
abbrev dktX19_keeps_0 : List UInt8 := dkwX19_keeps_0 ++ []
theorem dksX19_keeps_0 : cX19_keeps.data.toList.drop 0 = dktX19_keeps_0 := by decide +kernel
theorem dX19_keeps_0 : decode cX19_keeps 0 = .ok (.aload_n 0, 1) := dk_42 (dk_at dksX19_keeps_0 0 rfl rfl)
theorem dX19_keeps_1 : decode cX19_keeps 1 = .ok (.getfield 1, 3) := dk_180 0 1 (dk_at dksX19_keeps_0 1 rfl rfl)
theorem dX19_keeps_4 : decode cX19_keeps 4 = .ok (.bipush 30, 2) := dk_16 30 (dk_at dksX19_keeps_0 4 rfl rfl)
theorem dX19_keeps_6 : decode cX19_keeps 6 = .ok (.invokevirtual 17, 3) := dk_182 0 17 (dk_at dksX19_keeps_0 6 rfl rfl)
theorem dX19_keeps_9 : decode cX19_keeps 9 = .ok (.aload_n 0, 1) := dk_42 (dk_at dksX19_keeps_0 9 rfl rfl)
theorem dX19_keeps_10 : decode cX19_keeps 10 = .ok (.iload_n 1, 1) := dk_27 (dk_at dksX19_keeps_0 10 rfl rfl)
theorem dX19_keeps_11 : decode cX19_keeps 11 = .ok (.invokespecial 23, 3) := dk_183 0 23 (dk_at dksX19_keeps_0 11 rfl rfl)
theorem dX19_keeps_14 : decode cX19_keeps 14 = .ok (.ineg, 1) := dk_116 (dk_at dksX19_keeps_0 14 rfl rfl)
theorem dX19_keeps_15 : decode cX19_keeps 15 = .ok (.ireturn, 1) := dk_172 (dk_at dksX19_keeps_0 15 rfl rfl)
abbrev cX19_kind : ByteArray := prog_14_method_2_code
def yX19_kind : MethodName := ⟨RX19, "kind", "()I"⟩
theorem dX19_kind_0 : decode cX19_kind 0 = .ok (.iconst 2, 1) := by decide +kernel
theorem dX19_kind_1 : decode cX19_kind 1 = .ok (.ireturn, 1) := by decide +kernel
abbrev cX19_isUnder : ByteArray := prog_14_method_3_code
def yX19_isUnder : MethodName := ⟨RX19, "isUnder", "(I)Z"⟩
def dkwX19_isUnder_0 : List UInt8 := [27, 5, 159, 0, 11, 42, 27, 183, 0, 13, 153, 0, 7, 4, 167, 0, 4, 3, 172]
abbrev dktX19_isUnder_0 : List UInt8 := dkwX19_isUnder_0 ++ []
theorem dksX19_isUnder_0 : cX19_isUnder.data.toList.drop 0 = dktX19_isUnder_0 := by decide +kernel
theorem dX19_isUnder_0 : decode cX19_isUnder 0 = .ok (.iload_n 1, 1) := dk_27 (dk_at dksX19_isUnder_0 0 rfl rfl)
theorem dX19_isUnder_1 : decode cX19_isUnder 1 = .ok (.iconst 2, 1) := dk_5 (dk_at dksX19_isUnder_0 1 rfl rfl)
theorem dX19_isUnder_2 : decode cX19_isUnder 2 = .ok (.if_icmp .eq 11, 3) := dk_159 0 11 (dk_at dksX19_isUnder_0 2 rfl rfl)
theorem dX19_isUnder_5 : decode cX19_isUnder 5 = .ok (.aload_n 0, 1) := dk_42 (dk_at dksX19_isUnder_0 5 rfl rfl)
theorem dX19_isUnder_6 : decode cX19_isUnder 6 = .ok (.iload_n 1, 1) := dk_27 (dk_at dksX19_isUnder_0 6 rfl rfl)
theorem dX19_isUnder_7 : decode cX19_isUnder 7 = .ok (.invokespecial 13, 3) := dk_183 0 13 (dk_at dksX19_isUnder_0 7 rfl rfl)
theorem dX19_isUnder_10 : decode cX19_isUnder 10 = .ok (.ifCond .eq 7, 3) := dk_153 0 7 (dk_at dksX19_isUnder_0 10 rfl rfl)
theorem dX19_isUnder_13 : decode cX19_isUnder 13 = .ok (.iconst 1, 1) := dk_4 (dk_at dksX19_isUnder_0 13 rfl rfl)
theorem dX19_isUnder_14 : decode cX19_isUnder 14 = .ok (.goto 4, 3) := dk_167 0 4 (dk_at dksX19_isUnder_0 14 rfl rfl)
theorem dX19_isUnder_17 : decode cX19_isUnder 17 = .ok (.iconst 0, 1) := dk_3 (dk_at dksX19_isUnder_0 17 rfl rfl)
theorem dX19_isUnder_18 : decode cX19_isUnder 18 = .ok (.ireturn, 1) := dk_172 (dk_at dksX19_isUnder_0 18 rfl rfl)
theorem q124 : (Jvm.Cond.initialized "HeadReckons$FromRight") ∈ lw_all := lw_g (lw_at lw_m1 33 rfl) rfl
theorem q1150 : (Jvm.Cond.instantiable "HeadReckons$FromRight" (3 : Nat)) ∈ lw_all := lw_g (lw_at lw_m5 99 rfl) rfl
theorem q1152 : (Jvm.Cond.instanceMethod ({ cls := "HeadReckons$FromRight", name := "<init>", desc := "(LHeadReckons;I)V" } : Jvm.MethodName)) ∈ lw_all := lw_g (lw_at lw_m5 101 rfl) rfl
theorem q1153 : (Jvm.Cond.code ({ cls := "HeadReckons$FromRight", name := "<init>", desc := "(LHeadReckons;I)V" } : Jvm.MethodName) prog_14_method_1_code (3 : Nat) (Option.none : Option Jvm.ClassFile.FieldType)) ∈ lw_all := lw_g (lw_at lw_m5 102 rfl) rfl
theorem q1154 : (Jvm.Cond.methodLink "HeadReckons$FromRight" (7 : Nat) ({ cls := "HeadReckons$Way", name := "<init>", desc := "(LHeadReckons;I)V" } : Jvm.MethodName)) ∈ lw_all := lw_g (lw_at lw_m5 103 rfl) rfl
theorem q1155 : (Jvm.Cond.fieldLink "HeadReckons$FromRight" (1 : Nat) "HeadReckons$FromRight" "this$0" "LHeadReckons;") ∈ lw_all := lw_g (lw_at lw_m5 104 rfl) rfl
theorem q1156 : (Jvm.Cond.laysFinal "HeadReckons$FromRight" "HeadReckons$FromRight" "this$0" "LHeadReckons;") ∈ lw_all := lw_g (lw_at lw_m5 105 rfl) rfl
theorem q1157 : (Jvm.Cond.soleField "HeadReckons$FromRight" "this$0") ∈ lw_all := lw_g (lw_at lw_m5 106 rfl) rfl
theorem q1158 : (Jvm.Cond.laysFinal "HeadReckons$FromRight" "HeadReckons$Way" "number" "I") ∈ lw_all := lw_g (lw_at lw_m5 107 rfl) rfl
theorem q1159 : (Jvm.Cond.laysFinal "HeadReckons$FromRight" "HeadReckons$Way" "this$0" "LHeadReckons;") ∈ lw_all := lw_g (lw_at lw_m5 108 rfl) rfl
theorem q1160 : (Jvm.Cond.superclass "HeadReckons$FromRight" "HeadReckons$Way") ∈ lw_all := lw_g (lw_at lw_m5 109 rfl) rfl
theorem q1273 : (Jvm.Cond.castable "HeadReckons$FromRight" "HeadReckons$Costs") ∈ lw_tbl := lw_at lw_m5 222 rfl
theorem q1274 : (Jvm.Cond.selects "HeadReckons$FromRight" ({ cls := "HeadReckons$Costs", name := "costs", desc := "(I)I" } : Jvm.MethodName) ({ cls := "HeadReckons$Way", name := "costs", desc := "(I)I" } : Jvm.MethodName)) ∈ lw_all := lw_g (lw_at lw_m5 223 rfl) rfl
theorem q1275 : (Jvm.Cond.unhidden "HeadReckons$FromRight" "costs" "(I)I") ∈ lw_tbl := lw_at lw_m5 224 rfl
theorem q1300 : (Jvm.Cond.instanceMethod ({ cls := "HeadReckons$FromRight", name := "keeps", desc := "(I)I" } : Jvm.MethodName)) ∈ lw_all := lw_g (lw_at lw_m6 9 rfl) rfl
theorem q1301 : (Jvm.Cond.code ({ cls := "HeadReckons$FromRight", name := "keeps", desc := "(I)I" } : Jvm.MethodName) prog_14_method_4_code (2 : Nat) (Option.some Jvm.ClassFile.FieldType.int)) ∈ lw_all := lw_g (lw_at lw_m6 10 rfl) rfl
theorem q1302 : (Jvm.Cond.methodLinkNest "HeadReckons$FromRight" (17 : Nat) ({ cls := "HeadReckons", name := "ran", desc := "(I)V" } : Jvm.MethodName) "HeadReckons") ∈ lw_tbl := lw_at lw_m6 11 rfl
theorem q1303 : (Jvm.Cond.methodLink "HeadReckons$FromRight" (23 : Nat) ({ cls := "HeadReckons$Way", name := "keeps", desc := "(I)I" } : Jvm.MethodName)) ∈ lw_all := lw_g (lw_at lw_m6 12 rfl) rfl
theorem q1307 : (Jvm.Cond.selects "HeadReckons$FromRight" ({ cls := "HeadReckons$Way", name := "keeps", desc := "(I)I" } : Jvm.MethodName) ({ cls := "HeadReckons$FromRight", name := "keeps", desc := "(I)I" } : Jvm.MethodName)) ∈ lw_all := lw_g (lw_at lw_m6 16 rfl) rfl
theorem q1338 : (Jvm.Cond.sameMethod "HeadReckons$FromRight" "HeadReckons$Way" "slips" "(I)I") ∈ lw_all := lw_g (lw_at lw_m6 47 rfl) rfl
theorem q1340 : (Jvm.Cond.selects "HeadReckons$FromRight" ({ cls := "HeadReckons$Way", name := "slips", desc := "(I)I" } : Jvm.MethodName) ({ cls := "HeadReckons$Way", name := "slips", desc := "(I)I" } : Jvm.MethodName)) ∈ lw_all := lw_g (lw_at lw_m6 49 rfl) rfl
theorem q1359 : (Jvm.Cond.castable "HeadReckons$FromRight" "HeadReckons$Tells") ∈ lw_tbl := lw_at lw_m6 68 rfl
theorem q1360 : (Jvm.Cond.selects "HeadReckons$FromRight" ({ cls := "HeadReckons$Tells", name := "tells", desc := "(I)I" } : Jvm.MethodName) ({ cls := "HeadReckons$Way", name := "tells", desc := "(I)I" } : Jvm.MethodName)) ∈ lw_all := lw_g (lw_at lw_m6 69 rfl) rfl
theorem q1361 : (Jvm.Cond.unhidden "HeadReckons$FromRight" "tells" "(I)I") ∈ lw_tbl := lw_at lw_m6 70 rfl
theorem q1573 : (Jvm.Cond.selects "HeadReckons$FromRight" ({ cls := "HeadReckons$Way", name := "kind", desc := "()I" } : Jvm.MethodName) ({ cls := "HeadReckons$FromRight", name := "kind", desc := "()I" } : Jvm.MethodName)) ∈ lw_all := lw_g (lw_at lw_m7 42 rfl) rfl
theorem q1574 : (Jvm.Cond.instanceMethod ({ cls := "HeadReckons$FromRight", name := "kind", desc := "()I" } : Jvm.MethodName)) ∈ lw_all := lw_g (lw_at lw_m7 43 rfl) rfl
theorem q1575 : (Jvm.Cond.code ({ cls := "HeadReckons$FromRight", name := "kind", desc := "()I" } : Jvm.MethodName) prog_14_method_2_code (1 : Nat) (Option.some Jvm.ClassFile.FieldType.int)) ∈ lw_all := lw_g (lw_at lw_m7 44 rfl) rfl
theorem q1586 : (Jvm.Cond.instanceMethod ({ cls := "HeadReckons$FromRight", name := "isUnder", desc := "(I)Z" } : Jvm.MethodName)) ∈ lw_all := lw_g (lw_at lw_m7 55 rfl) rfl
theorem q1587 : (Jvm.Cond.code ({ cls := "HeadReckons$FromRight", name := "isUnder", desc := "(I)Z" } : Jvm.MethodName) prog_14_method_3_code (2 : Nat) (Option.some Jvm.ClassFile.FieldType.boolean)) ∈ lw_all := lw_g (lw_at lw_m7 56 rfl) rfl
theorem q1588 : (Jvm.Cond.methodLink "HeadReckons$FromRight" (13 : Nat) ({ cls := "HeadReckons$Way", name := "isUnder", desc := "(I)Z" } : Jvm.MethodName)) ∈ lw_all := lw_g (lw_at lw_m7 57 rfl) rfl
theorem q1590 : (Jvm.Cond.selects "HeadReckons$FromRight" ({ cls := "HeadReckons$Way", name := "isUnder", desc := "(I)Z" } : Jvm.MethodName) ({ cls := "HeadReckons$FromRight", name := "isUnder", desc := "(I)Z" } : Jvm.MethodName)) ∈ lw_all := lw_g (lw_at lw_m7 59 rfl) rfl
theorem q2223 : (Jvm.Cond.selects "HeadReckons$FromRight" ({ cls := "HeadReckons$Way", name := "costs", desc := "(I)I" } : Jvm.MethodName) ({ cls := "HeadReckons$Way", name := "costs", desc := "(I)I" } : Jvm.MethodName)) ∈ lw_all := lw_g (lw_at lw_m9 212 rfl) rfl
theorem q2239 : (Jvm.Cond.castable "HeadReckons$FromRight" "HeadReckons$Way") ∈ lw_tbl := lw_at lw_m9 228 rfl
theorem q2242 : (Jvm.Cond.castable "HeadReckons$FromRight" "HeadReckons$Held") ∈ lw_tbl := lw_at lw_m9 231 rfl
theorem in_X19 : ∀ w ∈ wsX190, w ∈ lw_all := lw_in wsX190 [1158, 1159, 1156] (by decide +kernel) (by decide +kernel)

/-! HeadReckons$Crosswise -/
set_option maxRecDepth 100000
def RX20 : String := "HeadReckons$Crosswise"
def TX20 : u_T := fun k => match k with
  | 0 => ("HeadReckons$Way", "number", "I", true)
  | 1 => ("HeadReckons$Way", "this$0", "LHeadReckons;", true)
  | 2 => ("HeadReckons$FromRight", "this$0", "LHeadReckons;", true)
  | _ => ("HeadReckons$Crosswise", "this$0", "LHeadReckons;", true)
def tyX20 : Nat → FieldType := fun k => match k with
  | 0 => .int
  | 1 => .object "HeadReckons"
  | 2 => .object "HeadReckons"
  | _ => .object "HeadReckons"
abbrev wsX200 : List Cond := u_ws RX20 TX20 4
-- two fields of one name: no nmX20
theorem tyX20_ok : ∀ k, k < 4 → parseFieldDescriptor (TX20 k).2.2.1 = some (tyX20 k) := by decide +kernel
abbrev cX20_init : ByteArray := prog_10_method_1_code
def yX20_init : MethodName := ⟨RX20, "<init>", "(LHeadReckons;I)V"⟩
def dkwX20_init_0 : List UInt8 := [42, 43, 181, 0, 1, 42, 43, 28, 183, 0, 7, 177]
abbrev dktX20_init_0 : List UInt8 := dkwX20_init_0 ++ []
theorem dksX20_init_0 : cX20_init.data.toList.drop 0 = dktX20_init_0 := by decide +kernel
theorem dX20_init_0 : decode cX20_init 0 = .ok (.aload_n 0, 1) := dk_42 (dk_at dksX20_init_0 0 rfl rfl)
theorem dX20_init_1 : decode cX20_init 1 = .ok (.aload_n 1, 1) := dk_43 (dk_at dksX20_init_0 1 rfl rfl)
theorem dX20_init_2 : decode cX20_init 2 = .ok (.putfield 1, 3) := dk_181 0 1 (dk_at dksX20_init_0 2 rfl rfl)
theorem dX20_init_5 : decode cX20_init 5 = .ok (.aload_n 0, 1) := dk_42 (dk_at dksX20_init_0 5 rfl rfl)
theorem dX20_init_6 : decode cX20_init 6 = .ok (.aload_n 1, 1) := dk_43 (dk_at dksX20_init_0 6 rfl rfl)
theorem dX20_init_7 : decode cX20_init 7 = .ok (.iload_n 2, 1) := dk_28 (dk_at dksX20_init_0 7 rfl rfl)
theorem dX20_init_8 : decode cX20_init 8 = .ok (.invokespecial 7, 3) := dk_183 0 7 (dk_at dksX20_init_0 8 rfl rfl)
theorem dX20_init_11 : decode cX20_init 11 = .ok (.return_, 1) := dk_177 (dk_at dksX20_init_0 11 rfl rfl)
abbrev cX20_slips : ByteArray := prog_10_method_3_code
def yX20_slips : MethodName := ⟨RX20, "slips", "(I)I"⟩
def dkwX20_slips_0 : List UInt8 := [42, 180, 0, 1, 16, 40, 182, 0, 13, 42, 27, 183, 0, 19, 6, 104, 172]
abbrev dktX20_slips_0 : List UInt8 := dkwX20_slips_0 ++ []
theorem dksX20_slips_0 : cX20_slips.data.toList.drop 0 = dktX20_slips_0 := by decide +kernel
theorem dX20_slips_0 : decode cX20_slips 0 = .ok (.aload_n 0, 1) := dk_42 (dk_at dksX20_slips_0 0 rfl rfl)
theorem dX20_slips_1 : decode cX20_slips 1 = .ok (.getfield 1, 3) := dk_180 0 1 (dk_at dksX20_slips_0 1 rfl rfl)
theorem dX20_slips_4 : decode cX20_slips 4 = .ok (.bipush 40, 2) := dk_16 40 (dk_at dksX20_slips_0 4 rfl rfl)
theorem dX20_slips_6 : decode cX20_slips 6 = .ok (.invokevirtual 13, 3) := dk_182 0 13 (dk_at dksX20_slips_0 6 rfl rfl)
theorem dX20_slips_9 : decode cX20_slips 9 = .ok (.aload_n 0, 1) := dk_42 (dk_at dksX20_slips_0 9 rfl rfl)
theorem dX20_slips_10 : decode cX20_slips 10 = .ok (.iload_n 1, 1) := dk_27 (dk_at dksX20_slips_0 10 rfl rfl)
theorem dX20_slips_11 : decode cX20_slips 11 = .ok (.invokespecial 19, 3) := dk_183 0 19 (dk_at dksX20_slips_0 11 rfl rfl)
theorem dX20_slips_14 : decode cX20_slips 14 = .ok (.iconst 3, 1) := dk_6 (dk_at dksX20_slips_0 14 rfl rfl)
theorem dX20_slips_15 : decode cX20_slips 15 = .ok (.imul, 1) := dk_104 (dk_at dksX20_slips_0 15 rfl rfl)
theorem dX20_slips_16 : decode cX20_slips 16 = .ok (.ireturn, 1) := dk_172 (dk_at dksX20_slips_0 16 rfl rfl)
abbrev cX20_kind : ByteArray := prog_10_method_2_code
def yX20_kind : MethodName := ⟨RX20, "kind", "()I"⟩
theorem dX20_kind_0 : decode cX20_kind 0 = .ok (.iconst 3, 1) := by decide +kernel
theorem dX20_kind_1 : decode cX20_kind 1 = .ok (.ireturn, 1) := by decide +kernel
theorem q125 : (Jvm.Cond.initialized "HeadReckons$Crosswise") ∈ lw_all := lw_g (lw_at lw_m1 34 rfl) rfl
theorem q1162 : (Jvm.Cond.instantiable "HeadReckons$Crosswise" (4 : Nat)) ∈ lw_all := lw_g (lw_at lw_m5 111 rfl) rfl
theorem q1164 : (Jvm.Cond.instanceMethod ({ cls := "HeadReckons$Crosswise", name := "<init>", desc := "(LHeadReckons;I)V" } : Jvm.MethodName)) ∈ lw_all := lw_g (lw_at lw_m5 113 rfl) rfl
theorem q1165 : (Jvm.Cond.code ({ cls := "HeadReckons$Crosswise", name := "<init>", desc := "(LHeadReckons;I)V" } : Jvm.MethodName) prog_10_method_1_code (3 : Nat) (Option.none : Option Jvm.ClassFile.FieldType)) ∈ lw_all := lw_g (lw_at lw_m5 114 rfl) rfl
theorem q1166 : (Jvm.Cond.methodLink "HeadReckons$Crosswise" (7 : Nat) ({ cls := "HeadReckons$FromRight", name := "<init>", desc := "(LHeadReckons;I)V" } : Jvm.MethodName)) ∈ lw_all := lw_g (lw_at lw_m5 115 rfl) rfl
theorem q1167 : (Jvm.Cond.fieldLink "HeadReckons$Crosswise" (1 : Nat) "HeadReckons$Crosswise" "this$0" "LHeadReckons;") ∈ lw_all := lw_g (lw_at lw_m5 116 rfl) rfl
theorem q1168 : (Jvm.Cond.laysFinal "HeadReckons$Crosswise" "HeadReckons$Crosswise" "this$0" "LHeadReckons;") ∈ lw_all := lw_g (lw_at lw_m5 117 rfl) rfl
theorem q1169 : (Jvm.Cond.soleField "HeadReckons$Crosswise" "this$0") ∈ lw_all := lw_g (lw_at lw_m5 118 rfl) rfl
theorem q1170 : (Jvm.Cond.laysFinal "HeadReckons$Crosswise" "HeadReckons$FromRight" "this$0" "LHeadReckons;") ∈ lw_all := lw_g (lw_at lw_m5 119 rfl) rfl
theorem q1171 : (Jvm.Cond.laysFinal "HeadReckons$Crosswise" "HeadReckons$Way" "number" "I") ∈ lw_all := lw_g (lw_at lw_m5 120 rfl) rfl
theorem q1172 : (Jvm.Cond.laysFinal "HeadReckons$Crosswise" "HeadReckons$Way" "this$0" "LHeadReckons;") ∈ lw_all := lw_g (lw_at lw_m5 121 rfl) rfl
theorem q1173 : (Jvm.Cond.superclass "HeadReckons$Crosswise" "HeadReckons$FromRight") ∈ lw_all := lw_g (lw_at lw_m5 122 rfl) rfl
theorem q1266 : (Jvm.Cond.castable "HeadReckons$Crosswise" "HeadReckons$Costs") ∈ lw_tbl := lw_at lw_m5 215 rfl
theorem q1267 : (Jvm.Cond.selects "HeadReckons$Crosswise" ({ cls := "HeadReckons$Costs", name := "costs", desc := "(I)I" } : Jvm.MethodName) ({ cls := "HeadReckons$Way", name := "costs", desc := "(I)I" } : Jvm.MethodName)) ∈ lw_all := lw_g (lw_at lw_m5 216 rfl) rfl
theorem q1268 : (Jvm.Cond.unhidden "HeadReckons$Crosswise" "costs" "(I)I") ∈ lw_tbl := lw_at lw_m5 217 rfl
theorem q1299 : (Jvm.Cond.selects "HeadReckons$Crosswise" ({ cls := "HeadReckons$Way", name := "keeps", desc := "(I)I" } : Jvm.MethodName) ({ cls := "HeadReckons$FromRight", name := "keeps", desc := "(I)I" } : Jvm.MethodName)) ∈ lw_all := lw_g (lw_at lw_m6 8 rfl) rfl
theorem q1333 : (Jvm.Cond.selects "HeadReckons$Crosswise" ({ cls := "HeadReckons$Way", name := "slips", desc := "(I)I" } : Jvm.MethodName) ({ cls := "HeadReckons$Crosswise", name := "slips", desc := "(I)I" } : Jvm.MethodName)) ∈ lw_all := lw_g (lw_at lw_m6 42 rfl) rfl
theorem q1334 : (Jvm.Cond.instanceMethod ({ cls := "HeadReckons$Crosswise", name := "slips", desc := "(I)I" } : Jvm.MethodName)) ∈ lw_all := lw_g (lw_at lw_m6 43 rfl) rfl
theorem q1335 : (Jvm.Cond.code ({ cls := "HeadReckons$Crosswise", name := "slips", desc := "(I)I" } : Jvm.MethodName) prog_10_method_3_code (2 : Nat) (Option.some Jvm.ClassFile.FieldType.int)) ∈ lw_all := lw_g (lw_at lw_m6 44 rfl) rfl
theorem q1336 : (Jvm.Cond.methodLinkNest "HeadReckons$Crosswise" (13 : Nat) ({ cls := "HeadReckons", name := "ran", desc := "(I)V" } : Jvm.MethodName) "HeadReckons") ∈ lw_tbl := lw_at lw_m6 45 rfl
theorem q1337 : (Jvm.Cond.methodLink "HeadReckons$Crosswise" (19 : Nat) ({ cls := "HeadReckons$FromRight", name := "slips", desc := "(I)I" } : Jvm.MethodName)) ∈ lw_all := lw_g (lw_at lw_m6 46 rfl) rfl
theorem q1353 : (Jvm.Cond.castable "HeadReckons$Crosswise" "HeadReckons$Tells") ∈ lw_tbl := lw_at lw_m6 62 rfl
theorem q1354 : (Jvm.Cond.selects "HeadReckons$Crosswise" ({ cls := "HeadReckons$Tells", name := "tells", desc := "(I)I" } : Jvm.MethodName) ({ cls := "HeadReckons$Way", name := "tells", desc := "(I)I" } : Jvm.MethodName)) ∈ lw_all := lw_g (lw_at lw_m6 63 rfl) rfl
theorem q1355 : (Jvm.Cond.unhidden "HeadReckons$Crosswise" "tells" "(I)I") ∈ lw_tbl := lw_at lw_m6 64 rfl
theorem q1567 : (Jvm.Cond.selects "HeadReckons$Crosswise" ({ cls := "HeadReckons$Way", name := "kind", desc := "()I" } : Jvm.MethodName) ({ cls := "HeadReckons$Crosswise", name := "kind", desc := "()I" } : Jvm.MethodName)) ∈ lw_all := lw_g (lw_at lw_m7 36 rfl) rfl
theorem q1568 : (Jvm.Cond.instanceMethod ({ cls := "HeadReckons$Crosswise", name := "kind", desc := "()I" } : Jvm.MethodName)) ∈ lw_all := lw_g (lw_at lw_m7 37 rfl) rfl
theorem q1569 : (Jvm.Cond.code ({ cls := "HeadReckons$Crosswise", name := "kind", desc := "()I" } : Jvm.MethodName) prog_10_method_2_code (1 : Nat) (Option.some Jvm.ClassFile.FieldType.int)) ∈ lw_all := lw_g (lw_at lw_m7 38 rfl) rfl
theorem q1585 : (Jvm.Cond.selects "HeadReckons$Crosswise" ({ cls := "HeadReckons$Way", name := "isUnder", desc := "(I)Z" } : Jvm.MethodName) ({ cls := "HeadReckons$FromRight", name := "isUnder", desc := "(I)Z" } : Jvm.MethodName)) ∈ lw_all := lw_g (lw_at lw_m7 54 rfl) rfl
theorem q2221 : (Jvm.Cond.selects "HeadReckons$Crosswise" ({ cls := "HeadReckons$Way", name := "costs", desc := "(I)I" } : Jvm.MethodName) ({ cls := "HeadReckons$Way", name := "costs", desc := "(I)I" } : Jvm.MethodName)) ∈ lw_all := lw_g (lw_at lw_m9 210 rfl) rfl
theorem q2237 : (Jvm.Cond.castable "HeadReckons$Crosswise" "HeadReckons$Way") ∈ lw_tbl := lw_at lw_m9 226 rfl
theorem q2243 : (Jvm.Cond.castable "HeadReckons$Crosswise" "HeadReckons$Held") ∈ lw_tbl := lw_at lw_m9 232 rfl
theorem in_X20 : ∀ w ∈ wsX200, w ∈ lw_all := lw_in wsX200 [1171, 1172, 1170, 1168] (by decide +kernel) (by decide +kernel)

/-! HeadReckons$BySquares -/
set_option maxRecDepth 100000
def RX21 : String := "HeadReckons$BySquares"
def TX21 : u_T := fun k => match k with
  | 0 => ("HeadReckons$Way", "number", "I", true)
  | 1 => ("HeadReckons$Way", "this$0", "LHeadReckons;", true)
  | _ => ("HeadReckons$BySquares", "this$0", "LHeadReckons;", true)
def tyX21 : Nat → FieldType := fun k => match k with
  | 0 => .int
  | 1 => .object "HeadReckons"
  | _ => .object "HeadReckons"
abbrev wsX210 : List Cond := u_ws RX21 TX21 3
-- two fields of one name: no nmX21
theorem tyX21_ok : ∀ k, k < 3 → parseFieldDescriptor (TX21 k).2.2.1 = some (tyX21 k) := by decide +kernel
abbrev cX21_init : ByteArray := prog_6_method_1_code
def yX21_init : MethodName := ⟨RX21, "<init>", "(LHeadReckons;I)V"⟩
def dkwX21_init_0 : List UInt8 := [42, 43, 181, 0, 1, 42, 43, 28, 183, 0, 7, 177]
abbrev dktX21_init_0 : List UInt8 := dkwX21_init_0 ++ []
theorem dksX21_init_0 : cX21_init.data.toList.drop 0 = dktX21_init_0 := by decide +kernel
theorem dX21_init_0 : decode cX21_init 0 = .ok (.aload_n 0, 1) := dk_42 (dk_at dksX21_init_0 0 rfl rfl)
theorem dX21_init_1 : decode cX21_init 1 = .ok (.aload_n 1, 1) := dk_43 (dk_at dksX21_init_0 1 rfl rfl)
theorem dX21_init_2 : decode cX21_init 2 = .ok (.putfield 1, 3) := dk_181 0 1 (dk_at dksX21_init_0 2 rfl rfl)
theorem dX21_init_5 : decode cX21_init 5 = .ok (.aload_n 0, 1) := dk_42 (dk_at dksX21_init_0 5 rfl rfl)
theorem dX21_init_6 : decode cX21_init 6 = .ok (.aload_n 1, 1) := dk_43 (dk_at dksX21_init_0 6 rfl rfl)
theorem dX21_init_7 : decode cX21_init 7 = .ok (.iload_n 2, 1) := dk_28 (dk_at dksX21_init_0 7 rfl rfl)
theorem dX21_init_8 : decode cX21_init 8 = .ok (.invokespecial 7, 3) := dk_183 0 7 (dk_at dksX21_init_0 8 rfl rfl)
theorem dX21_init_11 : decode cX21_init 11 = .ok (.return_, 1) := dk_177 (dk_at dksX21_init_0 11 rfl rfl)
abbrev cX21_tells : ByteArray := prog_6_method_3_code
def yX21_tells : MethodName := ⟨RX21, "tells", "(I)I"⟩
def dkwX21_tells_0 : List UInt8 := [42, 180, 0, 1, 16, 50, 182, 0, 13, 42, 27, 183, 0, 19, 8, 130, 172]
abbrev dktX21_tells_0 : List UInt8 := dkwX21_tells_0 ++ []
theorem dksX21_tells_0 : cX21_tells.data.toList.drop 0 = dktX21_tells_0 := by decide +kernel
theorem dX21_tells_0 : decode cX21_tells 0 = .ok (.aload_n 0, 1) := dk_42 (dk_at dksX21_tells_0 0 rfl rfl)
theorem dX21_tells_1 : decode cX21_tells 1 = .ok (.getfield 1, 3) := dk_180 0 1 (dk_at dksX21_tells_0 1 rfl rfl)
theorem dX21_tells_4 : decode cX21_tells 4 = .ok (.bipush 50, 2) := dk_16 50 (dk_at dksX21_tells_0 4 rfl rfl)
theorem dX21_tells_6 : decode cX21_tells 6 = .ok (.invokevirtual 13, 3) := dk_182 0 13 (dk_at dksX21_tells_0 6 rfl rfl)
theorem dX21_tells_9 : decode cX21_tells 9 = .ok (.aload_n 0, 1) := dk_42 (dk_at dksX21_tells_0 9 rfl rfl)
theorem dX21_tells_10 : decode cX21_tells 10 = .ok (.iload_n 1, 1) := dk_27 (dk_at dksX21_tells_0 10 rfl rfl)
theorem dX21_tells_11 : decode cX21_tells 11 = .ok (.invokespecial 19, 3) := dk_183 0 19 (dk_at dksX21_tells_0 11 rfl rfl)
theorem dX21_tells_14 : decode cX21_tells 14 = .ok (.iconst 5, 1) := dk_8 (dk_at dksX21_tells_0 14 rfl rfl)
theorem dX21_tells_15 : decode cX21_tells 15 = .ok (.ixor, 1) := dk_130 (dk_at dksX21_tells_0 15 rfl rfl)
theorem dX21_tells_16 : decode cX21_tells 16 = .ok (.ireturn, 1) := dk_172 (dk_at dksX21_tells_0 16 rfl rfl)
abbrev cX21_kind : ByteArray := prog_6_method_2_code
def yX21_kind : MethodName := ⟨RX21, "kind", "()I"⟩
theorem dX21_kind_0 : decode cX21_kind 0 = .ok (.iconst 4, 1) := by decide +kernel
theorem dX21_kind_1 : decode cX21_kind 1 = .ok (.ireturn, 1) := by decide +kernel
theorem q126 : (Jvm.Cond.initialized "HeadReckons$BySquares") ∈ lw_all := lw_g (lw_at lw_m1 35 rfl) rfl
theorem q1175 : (Jvm.Cond.instantiable "HeadReckons$BySquares" (3 : Nat)) ∈ lw_all := lw_g (lw_at lw_m5 124 rfl) rfl
theorem q1177 : (Jvm.Cond.instanceMethod ({ cls := "HeadReckons$BySquares", name := "<init>", desc := "(LHeadReckons;I)V" } : Jvm.MethodName)) ∈ lw_all := lw_g (lw_at lw_m5 126 rfl) rfl
theorem q1178 : (Jvm.Cond.code ({ cls := "HeadReckons$BySquares", name := "<init>", desc := "(LHeadReckons;I)V" } : Jvm.MethodName) prog_6_method_1_code (3 : Nat) (Option.none : Option Jvm.ClassFile.FieldType)) ∈ lw_all := lw_g (lw_at lw_m5 127 rfl) rfl
theorem q1179 : (Jvm.Cond.methodLink "HeadReckons$BySquares" (7 : Nat) ({ cls := "HeadReckons$Way", name := "<init>", desc := "(LHeadReckons;I)V" } : Jvm.MethodName)) ∈ lw_all := lw_g (lw_at lw_m5 128 rfl) rfl
theorem q1180 : (Jvm.Cond.fieldLink "HeadReckons$BySquares" (1 : Nat) "HeadReckons$BySquares" "this$0" "LHeadReckons;") ∈ lw_all := lw_g (lw_at lw_m5 129 rfl) rfl
theorem q1181 : (Jvm.Cond.laysFinal "HeadReckons$BySquares" "HeadReckons$BySquares" "this$0" "LHeadReckons;") ∈ lw_all := lw_g (lw_at lw_m5 130 rfl) rfl
theorem q1182 : (Jvm.Cond.soleField "HeadReckons$BySquares" "this$0") ∈ lw_all := lw_g (lw_at lw_m5 131 rfl) rfl
theorem q1183 : (Jvm.Cond.laysFinal "HeadReckons$BySquares" "HeadReckons$Way" "number" "I") ∈ lw_all := lw_g (lw_at lw_m5 132 rfl) rfl
theorem q1184 : (Jvm.Cond.laysFinal "HeadReckons$BySquares" "HeadReckons$Way" "this$0" "LHeadReckons;") ∈ lw_all := lw_g (lw_at lw_m5 133 rfl) rfl
theorem q1185 : (Jvm.Cond.superclass "HeadReckons$BySquares" "HeadReckons$Way") ∈ lw_all := lw_g (lw_at lw_m5 134 rfl) rfl
theorem q1263 : (Jvm.Cond.castable "HeadReckons$BySquares" "HeadReckons$Costs") ∈ lw_tbl := lw_at lw_m5 212 rfl
theorem q1264 : (Jvm.Cond.selects "HeadReckons$BySquares" ({ cls := "HeadReckons$Costs", name := "costs", desc := "(I)I" } : Jvm.MethodName) ({ cls := "HeadReckons$Way", name := "costs", desc := "(I)I" } : Jvm.MethodName)) ∈ lw_all := lw_g (lw_at lw_m5 213 rfl) rfl
theorem q1265 : (Jvm.Cond.unhidden "HeadReckons$BySquares" "costs" "(I)I") ∈ lw_tbl := lw_at lw_m5 214 rfl
theorem q1298 : (Jvm.Cond.selects "HeadReckons$BySquares" ({ cls := "HeadReckons$Way", name := "keeps", desc := "(I)I" } : Jvm.MethodName) ({ cls := "HeadReckons$Way", name := "keeps", desc := "(I)I" } : Jvm.MethodName)) ∈ lw_all := lw_g (lw_at lw_m6 7 rfl) rfl
theorem q1332 : (Jvm.Cond.selects "HeadReckons$BySquares" ({ cls := "HeadReckons$Way", name := "slips", desc := "(I)I" } : Jvm.MethodName) ({ cls := "HeadReckons$Way", name := "slips", desc := "(I)I" } : Jvm.MethodName)) ∈ lw_all := lw_g (lw_at lw_m6 41 rfl) rfl
theorem q1345 : (Jvm.Cond.castable "HeadReckons$BySquares" "HeadReckons$Tells") ∈ lw_tbl := lw_at lw_m6 54 rfl
theorem q1346 : (Jvm.Cond.selects "HeadReckons$BySquares" ({ cls := "HeadReckons$Tells", name := "tells", desc := "(I)I" } : Jvm.MethodName) ({ cls := "HeadReckons$BySquares", name := "tells", desc := "(I)I" } : Jvm.MethodName)) ∈ lw_all := lw_g (lw_at lw_m6 55 rfl) rfl
theorem q1347 : (Jvm.Cond.unhidden "HeadReckons$BySquares" "tells" "(I)I") ∈ lw_tbl := lw_at lw_m6 56 rfl
theorem q1348 : (Jvm.Cond.instanceMethod ({ cls := "HeadReckons$BySquares", name := "tells", desc := "(I)I" } : Jvm.MethodName)) ∈ lw_all := lw_g (lw_at lw_m6 57 rfl) rfl
theorem q1349 : (Jvm.Cond.publicMethod ({ cls := "HeadReckons$BySquares", name := "tells", desc := "(I)I" } : Jvm.MethodName)) ∈ lw_tbl := lw_at lw_m6 58 rfl
theorem q1350 : (Jvm.Cond.code ({ cls := "HeadReckons$BySquares", name := "tells", desc := "(I)I" } : Jvm.MethodName) prog_6_method_3_code (2 : Nat) (Option.some Jvm.ClassFile.FieldType.int)) ∈ lw_all := lw_g (lw_at lw_m6 59 rfl) rfl
theorem q1351 : (Jvm.Cond.methodLinkNest "HeadReckons$BySquares" (13 : Nat) ({ cls := "HeadReckons", name := "ran", desc := "(I)V" } : Jvm.MethodName) "HeadReckons") ∈ lw_tbl := lw_at lw_m6 60 rfl
theorem q1352 : (Jvm.Cond.methodLink "HeadReckons$BySquares" (19 : Nat) ({ cls := "HeadReckons$Way", name := "tells", desc := "(I)I" } : Jvm.MethodName)) ∈ lw_all := lw_g (lw_at lw_m6 61 rfl) rfl
theorem q1564 : (Jvm.Cond.selects "HeadReckons$BySquares" ({ cls := "HeadReckons$Way", name := "kind", desc := "()I" } : Jvm.MethodName) ({ cls := "HeadReckons$BySquares", name := "kind", desc := "()I" } : Jvm.MethodName)) ∈ lw_all := lw_g (lw_at lw_m7 33 rfl) rfl
theorem q1565 : (Jvm.Cond.instanceMethod ({ cls := "HeadReckons$BySquares", name := "kind", desc := "()I" } : Jvm.MethodName)) ∈ lw_all := lw_g (lw_at lw_m7 34 rfl) rfl
theorem q1566 : (Jvm.Cond.code ({ cls := "HeadReckons$BySquares", name := "kind", desc := "()I" } : Jvm.MethodName) prog_6_method_2_code (1 : Nat) (Option.some Jvm.ClassFile.FieldType.int)) ∈ lw_all := lw_g (lw_at lw_m7 35 rfl) rfl
theorem q1584 : (Jvm.Cond.selects "HeadReckons$BySquares" ({ cls := "HeadReckons$Way", name := "isUnder", desc := "(I)Z" } : Jvm.MethodName) ({ cls := "HeadReckons$Way", name := "isUnder", desc := "(I)Z" } : Jvm.MethodName)) ∈ lw_all := lw_g (lw_at lw_m7 53 rfl) rfl
theorem q2220 : (Jvm.Cond.selects "HeadReckons$BySquares" ({ cls := "HeadReckons$Way", name := "costs", desc := "(I)I" } : Jvm.MethodName) ({ cls := "HeadReckons$Way", name := "costs", desc := "(I)I" } : Jvm.MethodName)) ∈ lw_all := lw_g (lw_at lw_m9 209 rfl) rfl
theorem q2236 : (Jvm.Cond.castable "HeadReckons$BySquares" "HeadReckons$Way") ∈ lw_tbl := lw_at lw_m9 225 rfl
theorem q2244 : (Jvm.Cond.castable "HeadReckons$BySquares" "HeadReckons$Held") ∈ lw_tbl := lw_at lw_m9 233 rfl
theorem in_X21 : ∀ w ∈ wsX210, w ∈ lw_all := lw_in wsX210 [1183, 1184, 1181] (by decide +kernel) (by decide +kernel)

/-! HeadReckons$ByFactors -/
set_option maxRecDepth 100000
def RX22 : String := "HeadReckons$ByFactors"
def TX22 : u_T := fun k => match k with
  | 0 => ("HeadReckons$Way", "number", "I", true)
  | 1 => ("HeadReckons$Way", "this$0", "LHeadReckons;", true)
  | 2 => ("HeadReckons$FromLeft", "this$0", "LHeadReckons;", true)
  | _ => ("HeadReckons$ByFactors", "this$0", "LHeadReckons;", true)
def tyX22 : Nat → FieldType := fun k => match k with
  | 0 => .int
  | 1 => .object "HeadReckons"
  | 2 => .object "HeadReckons"
  | _ => .object "HeadReckons"
abbrev wsX220 : List Cond := u_ws RX22 TX22 4
-- two fields of one name: no nmX22
theorem tyX22_ok : ∀ k, k < 4 → parseFieldDescriptor (TX22 k).2.2.1 = some (tyX22 k) := by decide +kernel
abbrev cX22_init : ByteArray := prog_4_method_1_code
def yX22_init : MethodName := ⟨RX22, "<init>", "(LHeadReckons;I)V"⟩
def dkwX22_init_0 : List UInt8 := [42, 43, 181, 0, 1, 42, 43, 28, 183, 0, 7, 177]
abbrev dktX22_init_0 : List UInt8 := dkwX22_init_0 ++ []
theorem dksX22_init_0 : cX22_init.data.toList.drop 0 = dktX22_init_0 := by decide +kernel
theorem dX22_init_0 : decode cX22_init 0 = .ok (.aload_n 0, 1) := dk_42 (dk_at dksX22_init_0 0 rfl rfl)
theorem dX22_init_1 : decode cX22_init 1 = .ok (.aload_n 1, 1) := dk_43 (dk_at dksX22_init_0 1 rfl rfl)
theorem dX22_init_2 : decode cX22_init 2 = .ok (.putfield 1, 3) := dk_181 0 1 (dk_at dksX22_init_0 2 rfl rfl)
theorem dX22_init_5 : decode cX22_init 5 = .ok (.aload_n 0, 1) := dk_42 (dk_at dksX22_init_0 5 rfl rfl)
theorem dX22_init_6 : decode cX22_init 6 = .ok (.aload_n 1, 1) := dk_43 (dk_at dksX22_init_0 6 rfl rfl)
theorem dX22_init_7 : decode cX22_init 7 = .ok (.iload_n 2, 1) := dk_28 (dk_at dksX22_init_0 7 rfl rfl)
theorem dX22_init_8 : decode cX22_init 8 = .ok (.invokespecial 7, 3) := dk_183 0 7 (dk_at dksX22_init_0 8 rfl rfl)
theorem dX22_init_11 : decode cX22_init 11 = .ok (.return_, 1) := dk_177 (dk_at dksX22_init_0 11 rfl rfl)
abbrev cX22_costs : ByteArray := prog_4_method_3_code
def yX22_costs : MethodName := ⟨RX22, "costs", "(I)I"⟩
def dkwX22_costs_0 : List UInt8 := [42, 180, 0, 1, 16, 60, 182, 0, 13, 42, 27, 4, 96, 183, 0, 19, 172]
abbrev dktX22_costs_0 : List UInt8 := dkwX22_costs_0 ++ []
theorem dksX22_costs_0 : cX22_costs.data.toList.drop 0 = dktX22_costs_0 := by decide +kernel
theorem dX22_costs_0 : decode cX22_costs 0 = .ok (.aload_n 0, 1) := dk_42 (dk_at dksX22_costs_0 0 rfl rfl)
theorem dX22_costs_1 : decode cX22_costs 1 = .ok (.getfield 1, 3) := dk_180 0 1 (dk_at dksX22_costs_0 1 rfl rfl)
theorem dX22_costs_4 : decode cX22_costs 4 = .ok (.bipush 60, 2) := dk_16 60 (dk_at dksX22_costs_0 4 rfl rfl)
theorem dX22_costs_6 : decode cX22_costs 6 = .ok (.invokevirtual 13, 3) := dk_182 0 13 (dk_at dksX22_costs_0 6 rfl rfl)
theorem dX22_costs_9 : decode cX22_costs 9 = .ok (.aload_n 0, 1) := dk_42 (dk_at dksX22_costs_0 9 rfl rfl)
theorem dX22_costs_10 : decode cX22_costs 10 = .ok (.iload_n 1, 1) := dk_27 (dk_at dksX22_costs_0 10 rfl rfl)
theorem dX22_costs_11 : decode cX22_costs 11 = .ok (.iconst 1, 1) := dk_4 (dk_at dksX22_costs_0 11 rfl rfl)
theorem dX22_costs_12 : decode cX22_costs 12 = .ok (.iadd, 1) := dk_96 (dk_at dksX22_costs_0 12 rfl rfl)
theorem dX22_costs_13 : decode cX22_costs 13 = .ok (.invokespecial 19, 3) := dk_183 0 19 (dk_at dksX22_costs_0 13 rfl rfl)
theorem dX22_costs_16 : decode cX22_costs 16 = .ok (.ireturn, 1) := dk_172 (dk_at dksX22_costs_0 16 rfl rfl)
abbrev cX22_slips : ByteArray := prog_4_method_4_code
def yX22_slips : MethodName := ⟨RX22, "slips", "(I)I"⟩
def dkwX22_slips_0 : List UInt8 := [42, 180, 0, 1, 16, 61, 182, 0, 13, 42, 27, 183, 0, 23, 61, 28, 42, 5, 182, 0, 26, 96, 172]
abbrev dktX22_slips_0 : List UInt8 := dkwX22_slips_0 ++ []
theorem dksX22_slips_0 : cX22_slips.data.toList.drop 0 = dktX22_slips_0 := by decide +kernel
theorem dX22_slips_0 : decode cX22_slips 0 = .ok (.aload_n 0, 1) := dk_42 (dk_at dksX22_slips_0 0 rfl rfl)
theorem dX22_slips_1 : decode cX22_slips 1 = .ok (.getfield 1, 3) := dk_180 0 1 (dk_at dksX22_slips_0 1 rfl rfl)
theorem dX22_slips_4 : decode cX22_slips 4 = .ok (.bipush 61, 2) := dk_16 61 (dk_at dksX22_slips_0 4 rfl rfl)
theorem dX22_slips_6 : decode cX22_slips 6 = .ok (.invokevirtual 13, 3) := dk_182 0 13 (dk_at dksX22_slips_0 6 rfl rfl)
theorem dX22_slips_9 : decode cX22_slips 9 = .ok (.aload_n 0, 1) := dk_42 (dk_at dksX22_slips_0 9 rfl rfl)
theorem dX22_slips_10 : decode cX22_slips 10 = .ok (.iload_n 1, 1) := dk_27 (dk_at dksX22_slips_0 10 rfl rfl)
theorem dX22_slips_11 : decode cX22_slips 11 = .ok (.invokespecial 23, 3) := dk_183 0 23 (dk_at dksX22_slips_0 11 rfl rfl)
theorem dX22_slips_14 : decode cX22_slips 14 = .ok (.istore_n 2, 1) := dk_61 (dk_at dksX22_slips_0 14 rfl rfl)
theorem dX22_slips_15 : decode cX22_slips 15 = .ok (.iload_n 2, 1) := dk_28 (dk_at dksX22_slips_0 15 rfl rfl)
theorem dX22_slips_16 : decode cX22_slips 16 = .ok (.aload_n 0, 1) := dk_42 (dk_at dksX22_slips_0 16 rfl rfl)
theorem dX22_slips_17 : decode cX22_slips 17 = .ok (.iconst 2, 1) := dk_5 (dk_at dksX22_slips_0 17 rfl rfl)
theorem dX22_slips_18 : decode cX22_slips 18 = .ok (.invokevirtual 26, 3) := dk_182 0 26 (dk_at dksX22_slips_0 18 rfl rfl)
theorem dX22_slips_21 : decode cX22_slips 21 = .ok (.iadd, 1) := dk_96 (dk_at dksX22_slips_0 21 rfl rfl)
theorem dX22_slips_22 : decode cX22_slips 22 = .ok (.ireturn, 1) := dk_172 (dk_at dksX22_slips_0 22 rfl rfl)
abbrev cX22_kind : ByteArray := prog_4_method_2_code
def yX22_kind : MethodName := ⟨RX22, "kind", "()I"⟩
theorem dX22_kind_0 : decode cX22_kind 0 = .ok (.iconst 5, 1) := by decide +kernel
theorem dX22_kind_1 : decode cX22_kind 1 = .ok (.ireturn, 1) := by decide +kernel
theorem q127 : (Jvm.Cond.initialized "HeadReckons$ByFactors") ∈ lw_all := lw_g (lw_at lw_m1 36 rfl) rfl
theorem q1187 : (Jvm.Cond.instantiable "HeadReckons$ByFactors" (4 : Nat)) ∈ lw_all := lw_g (lw_at lw_m5 136 rfl) rfl
theorem q1189 : (Jvm.Cond.instanceMethod ({ cls := "HeadReckons$ByFactors", name := "<init>", desc := "(LHeadReckons;I)V" } : Jvm.MethodName)) ∈ lw_all := lw_g (lw_at lw_m5 138 rfl) rfl
theorem q1190 : (Jvm.Cond.code ({ cls := "HeadReckons$ByFactors", name := "<init>", desc := "(LHeadReckons;I)V" } : Jvm.MethodName) prog_4_method_1_code (3 : Nat) (Option.none : Option Jvm.ClassFile.FieldType)) ∈ lw_all := lw_g (lw_at lw_m5 139 rfl) rfl
theorem q1191 : (Jvm.Cond.methodLink "HeadReckons$ByFactors" (7 : Nat) ({ cls := "HeadReckons$FromLeft", name := "<init>", desc := "(LHeadReckons;I)V" } : Jvm.MethodName)) ∈ lw_all := lw_g (lw_at lw_m5 140 rfl) rfl
theorem q1192 : (Jvm.Cond.fieldLink "HeadReckons$ByFactors" (1 : Nat) "HeadReckons$ByFactors" "this$0" "LHeadReckons;") ∈ lw_all := lw_g (lw_at lw_m5 141 rfl) rfl
theorem q1193 : (Jvm.Cond.laysFinal "HeadReckons$ByFactors" "HeadReckons$ByFactors" "this$0" "LHeadReckons;") ∈ lw_all := lw_g (lw_at lw_m5 142 rfl) rfl
theorem q1194 : (Jvm.Cond.soleField "HeadReckons$ByFactors" "this$0") ∈ lw_all := lw_g (lw_at lw_m5 143 rfl) rfl
theorem q1195 : (Jvm.Cond.laysFinal "HeadReckons$ByFactors" "HeadReckons$FromLeft" "this$0" "LHeadReckons;") ∈ lw_all := lw_g (lw_at lw_m5 144 rfl) rfl
theorem q1196 : (Jvm.Cond.laysFinal "HeadReckons$ByFactors" "HeadReckons$Way" "number" "I") ∈ lw_all := lw_g (lw_at lw_m5 145 rfl) rfl
theorem q1197 : (Jvm.Cond.laysFinal "HeadReckons$ByFactors" "HeadReckons$Way" "this$0" "LHeadReckons;") ∈ lw_all := lw_g (lw_at lw_m5 146 rfl) rfl
theorem q1198 : (Jvm.Cond.superclass "HeadReckons$ByFactors" "HeadReckons$FromLeft") ∈ lw_all := lw_g (lw_at lw_m5 147 rfl) rfl
theorem q1241 : (Jvm.Cond.castable "HeadReckons$ByFactors" "HeadReckons$Costs") ∈ lw_tbl := lw_at lw_m5 190 rfl
theorem q1242 : (Jvm.Cond.selects "HeadReckons$ByFactors" ({ cls := "HeadReckons$Costs", name := "costs", desc := "(I)I" } : Jvm.MethodName) ({ cls := "HeadReckons$ByFactors", name := "costs", desc := "(I)I" } : Jvm.MethodName)) ∈ lw_all := lw_g (lw_at lw_m5 191 rfl) rfl
theorem q1243 : (Jvm.Cond.unhidden "HeadReckons$ByFactors" "costs" "(I)I") ∈ lw_tbl := lw_at lw_m5 192 rfl
theorem q1244 : (Jvm.Cond.instanceMethod ({ cls := "HeadReckons$ByFactors", name := "costs", desc := "(I)I" } : Jvm.MethodName)) ∈ lw_all := lw_g (lw_at lw_m5 193 rfl) rfl
theorem q1245 : (Jvm.Cond.publicMethod ({ cls := "HeadReckons$ByFactors", name := "costs", desc := "(I)I" } : Jvm.MethodName)) ∈ lw_tbl := lw_at lw_m5 194 rfl
theorem q1246 : (Jvm.Cond.code ({ cls := "HeadReckons$ByFactors", name := "costs", desc := "(I)I" } : Jvm.MethodName) prog_4_method_3_code (2 : Nat) (Option.some Jvm.ClassFile.FieldType.int)) ∈ lw_all := lw_g (lw_at lw_m5 195 rfl) rfl
theorem q1247 : (Jvm.Cond.methodLinkNest "HeadReckons$ByFactors" (13 : Nat) ({ cls := "HeadReckons", name := "ran", desc := "(I)V" } : Jvm.MethodName) "HeadReckons") ∈ lw_tbl := lw_at lw_m5 196 rfl
theorem q1251 : (Jvm.Cond.methodLink "HeadReckons$ByFactors" (19 : Nat) ({ cls := "HeadReckons$FromLeft", name := "costs", desc := "(I)I" } : Jvm.MethodName)) ∈ lw_all := lw_g (lw_at lw_m5 200 rfl) rfl
theorem q1286 : (Jvm.Cond.castable "HeadReckons$ByFactors" "HeadReckons$Tells") ∈ lw_tbl := lw_at lw_m5 235 rfl
theorem q1287 : (Jvm.Cond.selects "HeadReckons$ByFactors" ({ cls := "HeadReckons$Tells", name := "tells", desc := "(I)I" } : Jvm.MethodName) ({ cls := "HeadReckons$Way", name := "tells", desc := "(I)I" } : Jvm.MethodName)) ∈ lw_all := lw_g (lw_at lw_m5 236 rfl) rfl
theorem q1288 : (Jvm.Cond.unhidden "HeadReckons$ByFactors" "tells" "(I)I") ∈ lw_tbl := lw_at lw_m5 237 rfl
theorem q1296 : (Jvm.Cond.selects "HeadReckons$ByFactors" ({ cls := "HeadReckons$Way", name := "keeps", desc := "(I)I" } : Jvm.MethodName) ({ cls := "HeadReckons$Way", name := "keeps", desc := "(I)I" } : Jvm.MethodName)) ∈ lw_all := lw_g (lw_at lw_m6 5 rfl) rfl
theorem q1319 : (Jvm.Cond.selects "HeadReckons$ByFactors" ({ cls := "HeadReckons$Way", name := "slips", desc := "(I)I" } : Jvm.MethodName) ({ cls := "HeadReckons$ByFactors", name := "slips", desc := "(I)I" } : Jvm.MethodName)) ∈ lw_all := lw_g (lw_at lw_m6 28 rfl) rfl
theorem q1320 : (Jvm.Cond.instanceMethod ({ cls := "HeadReckons$ByFactors", name := "slips", desc := "(I)I" } : Jvm.MethodName)) ∈ lw_all := lw_g (lw_at lw_m6 29 rfl) rfl
theorem q1321 : (Jvm.Cond.code ({ cls := "HeadReckons$ByFactors", name := "slips", desc := "(I)I" } : Jvm.MethodName) prog_4_method_4_code (3 : Nat) (Option.some Jvm.ClassFile.FieldType.int)) ∈ lw_all := lw_g (lw_at lw_m6 30 rfl) rfl
theorem q1322 : (Jvm.Cond.methodLink "HeadReckons$ByFactors" (23 : Nat) ({ cls := "HeadReckons$FromLeft", name := "slips", desc := "(I)I" } : Jvm.MethodName)) ∈ lw_all := lw_g (lw_at lw_m6 31 rfl) rfl
theorem q1326 : (Jvm.Cond.methodLink "HeadReckons$ByFactors" (26 : Nat) ({ cls := "HeadReckons$ByFactors", name := "costs", desc := "(I)I" } : Jvm.MethodName)) ∈ lw_all := lw_g (lw_at lw_m6 35 rfl) rfl
theorem q1549 : (Jvm.Cond.selects "HeadReckons$ByFactors" ({ cls := "HeadReckons$Way", name := "isUnder", desc := "(I)Z" } : Jvm.MethodName) ({ cls := "HeadReckons$FromLeft", name := "isUnder", desc := "(I)Z" } : Jvm.MethodName)) ∈ lw_all := lw_g (lw_at lw_m7 18 rfl) rfl
theorem q1558 : (Jvm.Cond.selects "HeadReckons$ByFactors" ({ cls := "HeadReckons$Way", name := "kind", desc := "()I" } : Jvm.MethodName) ({ cls := "HeadReckons$ByFactors", name := "kind", desc := "()I" } : Jvm.MethodName)) ∈ lw_all := lw_g (lw_at lw_m7 27 rfl) rfl
theorem q1559 : (Jvm.Cond.instanceMethod ({ cls := "HeadReckons$ByFactors", name := "kind", desc := "()I" } : Jvm.MethodName)) ∈ lw_all := lw_g (lw_at lw_m7 28 rfl) rfl
theorem q1560 : (Jvm.Cond.code ({ cls := "HeadReckons$ByFactors", name := "kind", desc := "()I" } : Jvm.MethodName) prog_4_method_2_code (1 : Nat) (Option.some Jvm.ClassFile.FieldType.int)) ∈ lw_all := lw_g (lw_at lw_m7 29 rfl) rfl
theorem q2218 : (Jvm.Cond.selects "HeadReckons$ByFactors" ({ cls := "HeadReckons$Way", name := "costs", desc := "(I)I" } : Jvm.MethodName) ({ cls := "HeadReckons$ByFactors", name := "costs", desc := "(I)I" } : Jvm.MethodName)) ∈ lw_all := lw_g (lw_at lw_m9 207 rfl) rfl
theorem q2226 : (Jvm.Cond.selects "HeadReckons$ByFactors" ({ cls := "HeadReckons$ByFactors", name := "costs", desc := "(I)I" } : Jvm.MethodName) ({ cls := "HeadReckons$ByFactors", name := "costs", desc := "(I)I" } : Jvm.MethodName)) ∈ lw_all := lw_g (lw_at lw_m9 215 rfl) rfl
theorem q2234 : (Jvm.Cond.castable "HeadReckons$ByFactors" "HeadReckons$Way") ∈ lw_tbl := lw_at lw_m9 223 rfl
theorem q2245 : (Jvm.Cond.castable "HeadReckons$ByFactors" "HeadReckons$Held") ∈ lw_tbl := lw_at lw_m9 234 rfl
theorem in_X22 : ∀ w ∈ wsX220, w ∈ lw_all := lw_in wsX220 [1196, 1197, 1195, 1193] (by decide +kernel) (by decide +kernel)

/-! HeadReckons$ByHeart -/
set_option maxRecDepth 100000
def RX23 : String := "HeadReckons$ByHeart"
def TX23 : u_T := fun k => match k with
  | 0 => ("HeadReckons$Way", "number", "I", true)
  | 1 => ("HeadReckons$Way", "this$0", "LHeadReckons;", true)
  | _ => ("HeadReckons$ByHeart", "this$0", "LHeadReckons;", true)
def tyX23 : Nat → FieldType := fun k => match k with
  | 0 => .int
  | 1 => .object "HeadReckons"
  | _ => .object "HeadReckons"
abbrev wsX230 : List Cond := u_ws RX23 TX23 3
-- two fields of one name: no nmX23
theorem tyX23_ok : ∀ k, k < 3 → parseFieldDescriptor (TX23 k).2.2.1 = some (tyX23 k) := by decide +kernel
abbrev cX23_init : ByteArray := prog_5_method_1_code
def yX23_init : MethodName := ⟨RX23, "<init>", "(LHeadReckons;I)V"⟩
def dkwX23_init_0 : List UInt8 := [42, 43, 181, 0, 1, 42, 43, 28, 183, 0, 7, 177]
abbrev dktX23_init_0 : List UInt8 := dkwX23_init_0 ++ []
theorem dksX23_init_0 : cX23_init.data.toList.drop 0 = dktX23_init_0 := by decide +kernel
theorem dX23_init_0 : decode cX23_init 0 = .ok (.aload_n 0, 1) := dk_42 (dk_at dksX23_init_0 0 rfl rfl)
theorem dX23_init_1 : decode cX23_init 1 = .ok (.aload_n 1, 1) := dk_43 (dk_at dksX23_init_0 1 rfl rfl)
theorem dX23_init_2 : decode cX23_init 2 = .ok (.putfield 1, 3) := dk_181 0 1 (dk_at dksX23_init_0 2 rfl rfl)
theorem dX23_init_5 : decode cX23_init 5 = .ok (.aload_n 0, 1) := dk_42 (dk_at dksX23_init_0 5 rfl rfl)
theorem dX23_init_6 : decode cX23_init 6 = .ok (.aload_n 1, 1) := dk_43 (dk_at dksX23_init_0 6 rfl rfl)
theorem dX23_init_7 : decode cX23_init 7 = .ok (.iload_n 2, 1) := dk_28 (dk_at dksX23_init_0 7 rfl rfl)
theorem dX23_init_8 : decode cX23_init 8 = .ok (.invokespecial 7, 3) := dk_183 0 7 (dk_at dksX23_init_0 8 rfl rfl)
theorem dX23_init_11 : decode cX23_init 11 = .ok (.return_, 1) := dk_177 (dk_at dksX23_init_0 11 rfl rfl)
abbrev cX23_slips : ByteArray := prog_5_method_4_code
def yX23_slips : MethodName := ⟨RX23, "slips", "(I)I"⟩
def dkwX23_slips_0 : List UInt8 := [42, 180, 0, 1, 16, 70, 182, 0, 17, 42, 27, 183, 0, 23, 4, 100, 172]
abbrev dktX23_slips_0 : List UInt8 := dkwX23_slips_0 ++ []
theorem dksX23_slips_0 : cX23_slips.data.toList.drop 0 = dktX23_slips_0 := by decide +kernel
theorem dX23_slips_0 : decode cX23_slips 0 = .ok (.aload_n 0, 1) := dk_42 (dk_at dksX23_slips_0 0 rfl rfl)
theorem dX23_slips_1 : decode cX23_slips 1 = .ok (.getfield 1, 3) := dk_180 0 1 (dk_at dksX23_slips_0 1 rfl rfl)
theorem dX23_slips_4 : decode cX23_slips 4 = .ok (.bipush 70, 2) := dk_16 70 (dk_at dksX23_slips_0 4 rfl rfl)
theorem dX23_slips_6 : decode cX23_slips 6 = .ok (.invokevirtual 17, 3) := dk_182 0 17 (dk_at dksX23_slips_0 6 rfl rfl)
theorem dX23_slips_9 : decode cX23_slips 9 = .ok (.aload_n 0, 1) := dk_42 (dk_at dksX23_slips_0 9 rfl rfl)
theorem dX23_slips_10 : decode cX23_slips 10 = .ok (.iload_n 1, 1) := dk_27 (dk_at dksX23_slips_0 10 rfl rfl)
theorem dX23_slips_11 : decode cX23_slips 11 = .ok (.invokespecial 23, 3) := dk_183 0 23 (dk_at dksX23_slips_0 11 rfl rfl)
theorem dX23_slips_14 : decode cX23_slips 14 = .ok (.iconst 1, 1) := dk_4 (dk_at dksX23_slips_0 14 rfl rfl)
theorem dX23_slips_15 : decode cX23_slips 15 = .ok (.isub, 1) := dk_100 (dk_at dksX23_slips_0 15 rfl rfl)
theorem dX23_slips_16 : decode cX23_slips 16 = .ok (.ireturn, 1) := dk_172 (dk_at dksX23_slips_0 16 rfl rfl)
abbrev cX23_kind : ByteArray := prog_5_method_2_code
def yX23_kind : MethodName := ⟨RX23, "kind", "()I"⟩
theorem dX23_kind_0 : decode cX23_kind 0 = .ok (.bipush 6, 2) := by decide +kernel
theorem dX23_kind_2 : decode cX23_kind 2 = .ok (.ireturn, 1) := by decide +kernel
abbrev cX23_isUnder : ByteArray := prog_5_method_3_code
def yX23_isUnder : MethodName := ⟨RX23, "isUnder", "(I)Z"⟩
def dkwX23_isUnder_0 : List UInt8 := [27, 16, 6, 159, 0, 11, 42, 27, 183, 0, 13, 153, 0, 7, 4, 167, 0, 4, 3, 172]
abbrev dktX23_isUnder_0 : List UInt8 := dkwX23_isUnder_0 ++ []
theorem dksX23_isUnder_0 : cX23_isUnder.data.toList.drop 0 = dktX23_isUnder_0 := by decide +kernel
theorem dX23_isUnder_0 : decode cX23_isUnder 0 = .ok (.iload_n 1, 1) := dk_27 (dk_at dksX23_isUnder_0 0 rfl rfl)
theorem dX23_isUnder_1 : decode cX23_isUnder 1 = .ok (.bipush 6, 2) := dk_16 6 (dk_at dksX23_isUnder_0 1 rfl rfl)
theorem dX23_isUnder_3 : decode cX23_isUnder 3 = .ok (.if_icmp .eq 11, 3) := dk_159 0 11 (dk_at dksX23_isUnder_0 3 rfl rfl)
theorem dX23_isUnder_6 : decode cX23_isUnder 6 = .ok (.aload_n 0, 1) := dk_42 (dk_at dksX23_isUnder_0 6 rfl rfl)
theorem dX23_isUnder_7 : decode cX23_isUnder 7 = .ok (.iload_n 1, 1) := dk_27 (dk_at dksX23_isUnder_0 7 rfl rfl)
theorem dX23_isUnder_8 : decode cX23_isUnder 8 = .ok (.invokespecial 13, 3) := dk_183 0 13 (dk_at dksX23_isUnder_0 8 rfl rfl)
theorem dX23_isUnder_11 : decode cX23_isUnder 11 = .ok (.ifCond .eq 7, 3) := dk_153 0 7 (dk_at dksX23_isUnder_0 11 rfl rfl)
theorem dX23_isUnder_14 : decode cX23_isUnder 14 = .ok (.iconst 1, 1) := dk_4 (dk_at dksX23_isUnder_0 14 rfl rfl)
theorem dX23_isUnder_15 : decode cX23_isUnder 15 = .ok (.goto 4, 3) := dk_167 0 4 (dk_at dksX23_isUnder_0 15 rfl rfl)
theorem dX23_isUnder_18 : decode cX23_isUnder 18 = .ok (.iconst 0, 1) := dk_3 (dk_at dksX23_isUnder_0 18 rfl rfl)
theorem dX23_isUnder_19 : decode cX23_isUnder 19 = .ok (.ireturn, 1) := dk_172 (dk_at dksX23_isUnder_0 19 rfl rfl)
theorem q128 : (Jvm.Cond.initialized "HeadReckons$ByHeart") ∈ lw_all := lw_g (lw_at lw_m1 37 rfl) rfl
theorem q1200 : (Jvm.Cond.instantiable "HeadReckons$ByHeart" (3 : Nat)) ∈ lw_all := lw_g (lw_at lw_m5 149 rfl) rfl
theorem q1202 : (Jvm.Cond.instanceMethod ({ cls := "HeadReckons$ByHeart", name := "<init>", desc := "(LHeadReckons;I)V" } : Jvm.MethodName)) ∈ lw_all := lw_g (lw_at lw_m5 151 rfl) rfl
theorem q1203 : (Jvm.Cond.code ({ cls := "HeadReckons$ByHeart", name := "<init>", desc := "(LHeadReckons;I)V" } : Jvm.MethodName) prog_5_method_1_code (3 : Nat) (Option.none : Option Jvm.ClassFile.FieldType)) ∈ lw_all := lw_g (lw_at lw_m5 152 rfl) rfl
theorem q1204 : (Jvm.Cond.methodLink "HeadReckons$ByHeart" (7 : Nat) ({ cls := "HeadReckons$Way", name := "<init>", desc := "(LHeadReckons;I)V" } : Jvm.MethodName)) ∈ lw_all := lw_g (lw_at lw_m5 153 rfl) rfl
theorem q1205 : (Jvm.Cond.fieldLink "HeadReckons$ByHeart" (1 : Nat) "HeadReckons$ByHeart" "this$0" "LHeadReckons;") ∈ lw_all := lw_g (lw_at lw_m5 154 rfl) rfl
theorem q1206 : (Jvm.Cond.laysFinal "HeadReckons$ByHeart" "HeadReckons$ByHeart" "this$0" "LHeadReckons;") ∈ lw_all := lw_g (lw_at lw_m5 155 rfl) rfl
theorem q1207 : (Jvm.Cond.soleField "HeadReckons$ByHeart" "this$0") ∈ lw_all := lw_g (lw_at lw_m5 156 rfl) rfl
theorem q1208 : (Jvm.Cond.laysFinal "HeadReckons$ByHeart" "HeadReckons$Way" "number" "I") ∈ lw_all := lw_g (lw_at lw_m5 157 rfl) rfl
theorem q1209 : (Jvm.Cond.laysFinal "HeadReckons$ByHeart" "HeadReckons$Way" "this$0" "LHeadReckons;") ∈ lw_all := lw_g (lw_at lw_m5 158 rfl) rfl
theorem q1210 : (Jvm.Cond.superclass "HeadReckons$ByHeart" "HeadReckons$Way") ∈ lw_all := lw_g (lw_at lw_m5 159 rfl) rfl
theorem q1259 : (Jvm.Cond.castable "HeadReckons$ByHeart" "HeadReckons$Costs") ∈ lw_tbl := lw_at lw_m5 208 rfl
theorem q1260 : (Jvm.Cond.selects "HeadReckons$ByHeart" ({ cls := "HeadReckons$Costs", name := "costs", desc := "(I)I" } : Jvm.MethodName) ({ cls := "HeadReckons$Way", name := "costs", desc := "(I)I" } : Jvm.MethodName)) ∈ lw_all := lw_g (lw_at lw_m5 209 rfl) rfl
theorem q1261 : (Jvm.Cond.unhidden "HeadReckons$ByHeart" "costs" "(I)I") ∈ lw_tbl := lw_at lw_m5 210 rfl
theorem q1297 : (Jvm.Cond.selects "HeadReckons$ByHeart" ({ cls := "HeadReckons$Way", name := "keeps", desc := "(I)I" } : Jvm.MethodName) ({ cls := "HeadReckons$Way", name := "keeps", desc := "(I)I" } : Jvm.MethodName)) ∈ lw_all := lw_g (lw_at lw_m6 6 rfl) rfl
theorem q1313 : (Jvm.Cond.sameMethod "HeadReckons$ByHeart" "HeadReckons$Way" "keeps" "(I)I") ∈ lw_all := lw_g (lw_at lw_m6 22 rfl) rfl
theorem q1327 : (Jvm.Cond.selects "HeadReckons$ByHeart" ({ cls := "HeadReckons$Way", name := "slips", desc := "(I)I" } : Jvm.MethodName) ({ cls := "HeadReckons$ByHeart", name := "slips", desc := "(I)I" } : Jvm.MethodName)) ∈ lw_all := lw_g (lw_at lw_m6 36 rfl) rfl
theorem q1328 : (Jvm.Cond.instanceMethod ({ cls := "HeadReckons$ByHeart", name := "slips", desc := "(I)I" } : Jvm.MethodName)) ∈ lw_all := lw_g (lw_at lw_m6 37 rfl) rfl
theorem q1329 : (Jvm.Cond.code ({ cls := "HeadReckons$ByHeart", name := "slips", desc := "(I)I" } : Jvm.MethodName) prog_5_method_4_code (2 : Nat) (Option.some Jvm.ClassFile.FieldType.int)) ∈ lw_all := lw_g (lw_at lw_m6 38 rfl) rfl
theorem q1330 : (Jvm.Cond.methodLinkNest "HeadReckons$ByHeart" (17 : Nat) ({ cls := "HeadReckons", name := "ran", desc := "(I)V" } : Jvm.MethodName) "HeadReckons") ∈ lw_tbl := lw_at lw_m6 39 rfl
theorem q1331 : (Jvm.Cond.methodLink "HeadReckons$ByHeart" (23 : Nat) ({ cls := "HeadReckons$Way", name := "slips", desc := "(I)I" } : Jvm.MethodName)) ∈ lw_all := lw_g (lw_at lw_m6 40 rfl) rfl
theorem q1342 : (Jvm.Cond.castable "HeadReckons$ByHeart" "HeadReckons$Tells") ∈ lw_tbl := lw_at lw_m6 51 rfl
theorem q1343 : (Jvm.Cond.selects "HeadReckons$ByHeart" ({ cls := "HeadReckons$Tells", name := "tells", desc := "(I)I" } : Jvm.MethodName) ({ cls := "HeadReckons$Way", name := "tells", desc := "(I)I" } : Jvm.MethodName)) ∈ lw_all := lw_g (lw_at lw_m6 52 rfl) rfl
theorem q1344 : (Jvm.Cond.unhidden "HeadReckons$ByHeart" "tells" "(I)I") ∈ lw_tbl := lw_at lw_m6 53 rfl
theorem q1369 : (Jvm.Cond.sameMethod "HeadReckons$ByHeart" "HeadReckons$Way" "tells" "(I)I") ∈ lw_all := lw_g (lw_at lw_m6 78 rfl) rfl
theorem q1373 : (Jvm.Cond.declares ({ cls := "HeadReckons$ByHeart", name := "slips", desc := "(I)I" } : Jvm.MethodName)) ∈ lw_tbl := lw_at lw_m6 82 rfl
theorem q1561 : (Jvm.Cond.selects "HeadReckons$ByHeart" ({ cls := "HeadReckons$Way", name := "kind", desc := "()I" } : Jvm.MethodName) ({ cls := "HeadReckons$ByHeart", name := "kind", desc := "()I" } : Jvm.MethodName)) ∈ lw_all := lw_g (lw_at lw_m7 30 rfl) rfl
theorem q1562 : (Jvm.Cond.instanceMethod ({ cls := "HeadReckons$ByHeart", name := "kind", desc := "()I" } : Jvm.MethodName)) ∈ lw_all := lw_g (lw_at lw_m7 31 rfl) rfl
theorem q1563 : (Jvm.Cond.code ({ cls := "HeadReckons$ByHeart", name := "kind", desc := "()I" } : Jvm.MethodName) prog_5_method_2_code (1 : Nat) (Option.some Jvm.ClassFile.FieldType.int)) ∈ lw_all := lw_g (lw_at lw_m7 32 rfl) rfl
theorem q1580 : (Jvm.Cond.selects "HeadReckons$ByHeart" ({ cls := "HeadReckons$Way", name := "isUnder", desc := "(I)Z" } : Jvm.MethodName) ({ cls := "HeadReckons$ByHeart", name := "isUnder", desc := "(I)Z" } : Jvm.MethodName)) ∈ lw_all := lw_g (lw_at lw_m7 49 rfl) rfl
theorem q1581 : (Jvm.Cond.instanceMethod ({ cls := "HeadReckons$ByHeart", name := "isUnder", desc := "(I)Z" } : Jvm.MethodName)) ∈ lw_all := lw_g (lw_at lw_m7 50 rfl) rfl
theorem q1582 : (Jvm.Cond.code ({ cls := "HeadReckons$ByHeart", name := "isUnder", desc := "(I)Z" } : Jvm.MethodName) prog_5_method_3_code (2 : Nat) (Option.some Jvm.ClassFile.FieldType.boolean)) ∈ lw_all := lw_g (lw_at lw_m7 51 rfl) rfl
theorem q1583 : (Jvm.Cond.methodLink "HeadReckons$ByHeart" (13 : Nat) ({ cls := "HeadReckons$Way", name := "isUnder", desc := "(I)Z" } : Jvm.MethodName)) ∈ lw_all := lw_g (lw_at lw_m7 52 rfl) rfl
theorem q2219 : (Jvm.Cond.selects "HeadReckons$ByHeart" ({ cls := "HeadReckons$Way", name := "costs", desc := "(I)I" } : Jvm.MethodName) ({ cls := "HeadReckons$Way", name := "costs", desc := "(I)I" } : Jvm.MethodName)) ∈ lw_all := lw_g (lw_at lw_m9 208 rfl) rfl
theorem q2235 : (Jvm.Cond.castable "HeadReckons$ByHeart" "HeadReckons$Way") ∈ lw_tbl := lw_at lw_m9 224 rfl
theorem q2246 : (Jvm.Cond.castable "HeadReckons$ByHeart" "HeadReckons$Held") ∈ lw_tbl := lw_at lw_m9 235 rfl
theorem in_X23 : ∀ w ∈ wsX230, w ∈ lw_all := lw_in wsX230 [1208, 1209, 1206] (by decide +kernel) (by decide +kernel)

/-! HeadReckons$Rooted -/
set_option maxRecDepth 100000
def RX24 : String := "HeadReckons$Rooted"
def TX24 : u_T := fun k => match k with
  | 0 => ("HeadReckons$Way", "number", "I", true)
  | 1 => ("HeadReckons$Way", "this$0", "LHeadReckons;", true)
  | 2 => ("HeadReckons$ByHeart", "this$0", "LHeadReckons;", true)
  | _ => ("HeadReckons$Rooted", "this$0", "LHeadReckons;", true)
def tyX24 : Nat → FieldType := fun k => match k with
  | 0 => .int
  | 1 => .object "HeadReckons"
  | 2 => .object "HeadReckons"
  | _ => .object "HeadReckons"
abbrev wsX240 : List Cond := u_ws RX24 TX24 4
-- two fields of one name: no nmX24
theorem tyX24_ok : ∀ k, k < 4 → parseFieldDescriptor (TX24 k).2.2.1 = some (tyX24 k) := by decide +kernel
abbrev cX24_init : ByteArray := prog_26_method_1_code
def yX24_init : MethodName := ⟨RX24, "<init>", "(LHeadReckons;I)V"⟩
def dkwX24_init_0 : List UInt8 := [42, 43, 181, 0, 1, 42, 43, 28, 183, 0, 7, 177]
abbrev dktX24_init_0 : List UInt8 := dkwX24_init_0 ++ []
theorem dksX24_init_0 : cX24_init.data.toList.drop 0 = dktX24_init_0 := by decide +kernel
theorem dX24_init_0 : decode cX24_init 0 = .ok (.aload_n 0, 1) := dk_42 (dk_at dksX24_init_0 0 rfl rfl)
theorem dX24_init_1 : decode cX24_init 1 = .ok (.aload_n 1, 1) := dk_43 (dk_at dksX24_init_0 1 rfl rfl)
theorem dX24_init_2 : decode cX24_init 2 = .ok (.putfield 1, 3) := dk_181 0 1 (dk_at dksX24_init_0 2 rfl rfl)
theorem dX24_init_5 : decode cX24_init 5 = .ok (.aload_n 0, 1) := dk_42 (dk_at dksX24_init_0 5 rfl rfl)
theorem dX24_init_6 : decode cX24_init 6 = .ok (.aload_n 1, 1) := dk_43 (dk_at dksX24_init_0 6 rfl rfl)
theorem dX24_init_7 : decode cX24_init 7 = .ok (.iload_n 2, 1) := dk_28 (dk_at dksX24_init_0 7 rfl rfl)
theorem dX24_init_8 : decode cX24_init 8 = .ok (.invokespecial 7, 3) := dk_183 0 7 (dk_at dksX24_init_0 8 rfl rfl)
theorem dX24_init_11 : decode cX24_init 11 = .ok (.return_, 1) := dk_177 (dk_at dksX24_init_0 11 rfl rfl)
abbrev cX24_keeps : ByteArray := prog_26_method_3_code
def yX24_keeps : MethodName := ⟨RX24, "keeps", "(I)I"⟩
def dkwX24_keeps_0 : List UInt8 := [42, 180, 0, 1, 16, 80, 182, 0, 13, 42, 27, 183, 0, 19, 5, 104, 172]
abbrev dktX24_keeps_0 : List UInt8 := dkwX24_keeps_0 ++ []
theorem dksX24_keeps_0 : cX24_keeps.data.toList.drop 0 = dktX24_keeps_0 := by decide +kernel
theorem dX24_keeps_0 : decode cX24_keeps 0 = .ok (.aload_n 0, 1) := dk_42 (dk_at dksX24_keeps_0 0 rfl rfl)
theorem dX24_keeps_1 : decode cX24_keeps 1 = .ok (.getfield 1, 3) := dk_180 0 1 (dk_at dksX24_keeps_0 1 rfl rfl)
theorem dX24_keeps_4 : decode cX24_keeps 4 = .ok (.bipush 80, 2) := dk_16 80 (dk_at dksX24_keeps_0 4 rfl rfl)
theorem dX24_keeps_6 : decode cX24_keeps 6 = .ok (.invokevirtual 13, 3) := dk_182 0 13 (dk_at dksX24_keeps_0 6 rfl rfl)
theorem dX24_keeps_9 : decode cX24_keeps 9 = .ok (.aload_n 0, 1) := dk_42 (dk_at dksX24_keeps_0 9 rfl rfl)
theorem dX24_keeps_10 : decode cX24_keeps 10 = .ok (.iload_n 1, 1) := dk_27 (dk_at dksX24_keeps_0 10 rfl rfl)
theorem dX24_keeps_11 : decode cX24_keeps 11 = .ok (.invokespecial 19, 3) := dk_183 0 19 (dk_at dksX24_keeps_0 11 rfl rfl)
theorem dX24_keeps_14 : decode cX24_keeps 14 = .ok (.iconst 2, 1) := dk_5 (dk_at dksX24_keeps_0 14 rfl rfl)
theorem dX24_keeps_15 : decode cX24_keeps 15 = .ok (.imul, 1) := dk_104 (dk_at dksX24_keeps_0 15 rfl rfl)
theorem dX24_keeps_16 : decode cX24_keeps 16 = .ok (.ireturn, 1) := dk_172 (dk_at dksX24_keeps_0 16 rfl rfl)
abbrev cX24_tells : ByteArray := prog_26_method_4_code
def yX24_tells : MethodName := ⟨RX24, "tells", "(I)I"⟩
def dkwX24_tells_0 : List UInt8 := [42, 180, 0, 1, 16, 81, 182, 0, 13, 42, 27, 183, 0, 23, 61, 28, 42, 5, 182, 0, 26, 100, 172]
abbrev dktX24_tells_0 : List UInt8 := dkwX24_tells_0 ++ []
theorem dksX24_tells_0 : cX24_tells.data.toList.drop 0 = dktX24_tells_0 := by decide +kernel
theorem dX24_tells_0 : decode cX24_tells 0 = .ok (.aload_n 0, 1) := dk_42 (dk_at dksX24_tells_0 0 rfl rfl)
theorem dX24_tells_1 : decode cX24_tells 1 = .ok (.getfield 1, 3) := dk_180 0 1 (dk_at dksX24_tells_0 1 rfl rfl)
theorem dX24_tells_4 : decode cX24_tells 4 = .ok (.bipush 81, 2) := dk_16 81 (dk_at dksX24_tells_0 4 rfl rfl)
theorem dX24_tells_6 : decode cX24_tells 6 = .ok (.invokevirtual 13, 3) := dk_182 0 13 (dk_at dksX24_tells_0 6 rfl rfl)
theorem dX24_tells_9 : decode cX24_tells 9 = .ok (.aload_n 0, 1) := dk_42 (dk_at dksX24_tells_0 9 rfl rfl)
theorem dX24_tells_10 : decode cX24_tells 10 = .ok (.iload_n 1, 1) := dk_27 (dk_at dksX24_tells_0 10 rfl rfl)
theorem dX24_tells_11 : decode cX24_tells 11 = .ok (.invokespecial 23, 3) := dk_183 0 23 (dk_at dksX24_tells_0 11 rfl rfl)
theorem dX24_tells_14 : decode cX24_tells 14 = .ok (.istore_n 2, 1) := dk_61 (dk_at dksX24_tells_0 14 rfl rfl)
theorem dX24_tells_15 : decode cX24_tells 15 = .ok (.iload_n 2, 1) := dk_28 (dk_at dksX24_tells_0 15 rfl rfl)
theorem dX24_tells_16 : decode cX24_tells 16 = .ok (.aload_n 0, 1) := dk_42 (dk_at dksX24_tells_0 16 rfl rfl)
theorem dX24_tells_17 : decode cX24_tells 17 = .ok (.iconst 2, 1) := dk_5 (dk_at dksX24_tells_0 17 rfl rfl)
theorem dX24_tells_18 : decode cX24_tells 18 = .ok (.invokevirtual 26, 3) := dk_182 0 26 (dk_at dksX24_tells_0 18 rfl rfl)
theorem dX24_tells_21 : decode cX24_tells 21 = .ok (.isub, 1) := dk_100 (dk_at dksX24_tells_0 21 rfl rfl)
theorem dX24_tells_22 : decode cX24_tells 22 = .ok (.ireturn, 1) := dk_172 (dk_at dksX24_tells_0 22 rfl rfl)
abbrev cX24_kind : ByteArray := prog_26_method_2_code
def yX24_kind : MethodName := ⟨RX24, "kind", "()I"⟩
theorem dX24_kind_0 : decode cX24_kind 0 = .ok (.bipush 7, 2) := by decide +kernel
theorem dX24_kind_2 : decode cX24_kind 2 = .ok (.ireturn, 1) := by decide +kernel
theorem q129 : (Jvm.Cond.initialized "HeadReckons$Rooted") ∈ lw_all := lw_g (lw_at lw_m1 38 rfl) rfl
theorem q1212 : (Jvm.Cond.instantiable "HeadReckons$Rooted" (4 : Nat)) ∈ lw_all := lw_g (lw_at lw_m5 161 rfl) rfl
theorem q1214 : (Jvm.Cond.instanceMethod ({ cls := "HeadReckons$Rooted", name := "<init>", desc := "(LHeadReckons;I)V" } : Jvm.MethodName)) ∈ lw_all := lw_g (lw_at lw_m5 163 rfl) rfl
theorem q1215 : (Jvm.Cond.code ({ cls := "HeadReckons$Rooted", name := "<init>", desc := "(LHeadReckons;I)V" } : Jvm.MethodName) prog_26_method_1_code (3 : Nat) (Option.none : Option Jvm.ClassFile.FieldType)) ∈ lw_all := lw_g (lw_at lw_m5 164 rfl) rfl
theorem q1216 : (Jvm.Cond.methodLink "HeadReckons$Rooted" (7 : Nat) ({ cls := "HeadReckons$ByHeart", name := "<init>", desc := "(LHeadReckons;I)V" } : Jvm.MethodName)) ∈ lw_all := lw_g (lw_at lw_m5 165 rfl) rfl
theorem q1217 : (Jvm.Cond.fieldLink "HeadReckons$Rooted" (1 : Nat) "HeadReckons$Rooted" "this$0" "LHeadReckons;") ∈ lw_all := lw_g (lw_at lw_m5 166 rfl) rfl
theorem q1218 : (Jvm.Cond.laysFinal "HeadReckons$Rooted" "HeadReckons$Rooted" "this$0" "LHeadReckons;") ∈ lw_all := lw_g (lw_at lw_m5 167 rfl) rfl
theorem q1219 : (Jvm.Cond.soleField "HeadReckons$Rooted" "this$0") ∈ lw_all := lw_g (lw_at lw_m5 168 rfl) rfl
theorem q1220 : (Jvm.Cond.laysFinal "HeadReckons$Rooted" "HeadReckons$ByHeart" "this$0" "LHeadReckons;") ∈ lw_all := lw_g (lw_at lw_m5 169 rfl) rfl
theorem q1221 : (Jvm.Cond.laysFinal "HeadReckons$Rooted" "HeadReckons$Way" "number" "I") ∈ lw_all := lw_g (lw_at lw_m5 170 rfl) rfl
theorem q1222 : (Jvm.Cond.laysFinal "HeadReckons$Rooted" "HeadReckons$Way" "this$0" "LHeadReckons;") ∈ lw_all := lw_g (lw_at lw_m5 171 rfl) rfl
theorem q1223 : (Jvm.Cond.superclass "HeadReckons$Rooted" "HeadReckons$ByHeart") ∈ lw_all := lw_g (lw_at lw_m5 172 rfl) rfl
theorem q1276 : (Jvm.Cond.castable "HeadReckons$Rooted" "HeadReckons$Costs") ∈ lw_tbl := lw_at lw_m5 225 rfl
theorem q1277 : (Jvm.Cond.selects "HeadReckons$Rooted" ({ cls := "HeadReckons$Costs", name := "costs", desc := "(I)I" } : Jvm.MethodName) ({ cls := "HeadReckons$Way", name := "costs", desc := "(I)I" } : Jvm.MethodName)) ∈ lw_all := lw_g (lw_at lw_m5 226 rfl) rfl
theorem q1278 : (Jvm.Cond.unhidden "HeadReckons$Rooted" "costs" "(I)I") ∈ lw_tbl := lw_at lw_m5 227 rfl
theorem q1308 : (Jvm.Cond.selects "HeadReckons$Rooted" ({ cls := "HeadReckons$Way", name := "keeps", desc := "(I)I" } : Jvm.MethodName) ({ cls := "HeadReckons$Rooted", name := "keeps", desc := "(I)I" } : Jvm.MethodName)) ∈ lw_all := lw_g (lw_at lw_m6 17 rfl) rfl
theorem q1309 : (Jvm.Cond.instanceMethod ({ cls := "HeadReckons$Rooted", name := "keeps", desc := "(I)I" } : Jvm.MethodName)) ∈ lw_all := lw_g (lw_at lw_m6 18 rfl) rfl
theorem q1310 : (Jvm.Cond.code ({ cls := "HeadReckons$Rooted", name := "keeps", desc := "(I)I" } : Jvm.MethodName) prog_26_method_3_code (2 : Nat) (Option.some Jvm.ClassFile.FieldType.int)) ∈ lw_all := lw_g (lw_at lw_m6 19 rfl) rfl
theorem q1311 : (Jvm.Cond.methodLinkNest "HeadReckons$Rooted" (13 : Nat) ({ cls := "HeadReckons", name := "ran", desc := "(I)V" } : Jvm.MethodName) "HeadReckons") ∈ lw_tbl := lw_at lw_m6 20 rfl
theorem q1312 : (Jvm.Cond.methodLink "HeadReckons$Rooted" (19 : Nat) ({ cls := "HeadReckons$ByHeart", name := "keeps", desc := "(I)I" } : Jvm.MethodName)) ∈ lw_all := lw_g (lw_at lw_m6 21 rfl) rfl
theorem q1341 : (Jvm.Cond.selects "HeadReckons$Rooted" ({ cls := "HeadReckons$Way", name := "slips", desc := "(I)I" } : Jvm.MethodName) ({ cls := "HeadReckons$ByHeart", name := "slips", desc := "(I)I" } : Jvm.MethodName)) ∈ lw_all := lw_g (lw_at lw_m6 50 rfl) rfl
theorem q1362 : (Jvm.Cond.castable "HeadReckons$Rooted" "HeadReckons$Tells") ∈ lw_tbl := lw_at lw_m6 71 rfl
theorem q1363 : (Jvm.Cond.selects "HeadReckons$Rooted" ({ cls := "HeadReckons$Tells", name := "tells", desc := "(I)I" } : Jvm.MethodName) ({ cls := "HeadReckons$Rooted", name := "tells", desc := "(I)I" } : Jvm.MethodName)) ∈ lw_all := lw_g (lw_at lw_m6 72 rfl) rfl
theorem q1364 : (Jvm.Cond.unhidden "HeadReckons$Rooted" "tells" "(I)I") ∈ lw_tbl := lw_at lw_m6 73 rfl
theorem q1365 : (Jvm.Cond.instanceMethod ({ cls := "HeadReckons$Rooted", name := "tells", desc := "(I)I" } : Jvm.MethodName)) ∈ lw_all := lw_g (lw_at lw_m6 74 rfl) rfl
theorem q1366 : (Jvm.Cond.publicMethod ({ cls := "HeadReckons$Rooted", name := "tells", desc := "(I)I" } : Jvm.MethodName)) ∈ lw_tbl := lw_at lw_m6 75 rfl
theorem q1367 : (Jvm.Cond.code ({ cls := "HeadReckons$Rooted", name := "tells", desc := "(I)I" } : Jvm.MethodName) prog_26_method_4_code (3 : Nat) (Option.some Jvm.ClassFile.FieldType.int)) ∈ lw_all := lw_g (lw_at lw_m6 76 rfl) rfl
theorem q1368 : (Jvm.Cond.methodLink "HeadReckons$Rooted" (23 : Nat) ({ cls := "HeadReckons$ByHeart", name := "tells", desc := "(I)I" } : Jvm.MethodName)) ∈ lw_all := lw_g (lw_at lw_m6 77 rfl) rfl
theorem q1371 : (Jvm.Cond.methodLink "HeadReckons$Rooted" (26 : Nat) ({ cls := "HeadReckons$Rooted", name := "slips", desc := "(I)I" } : Jvm.MethodName)) ∈ lw_all := lw_g (lw_at lw_m6 80 rfl) rfl
theorem q1372 : (Jvm.Cond.sameMethod "HeadReckons$Rooted" "HeadReckons$ByHeart" "slips" "(I)I") ∈ lw_all := lw_g (lw_at lw_m6 81 rfl) rfl
theorem q1374 : (Jvm.Cond.selects "HeadReckons$Rooted" ({ cls := "HeadReckons$Rooted", name := "slips", desc := "(I)I" } : Jvm.MethodName) ({ cls := "HeadReckons$ByHeart", name := "slips", desc := "(I)I" } : Jvm.MethodName)) ∈ lw_all := lw_g (lw_at lw_m6 83 rfl) rfl
theorem q1576 : (Jvm.Cond.selects "HeadReckons$Rooted" ({ cls := "HeadReckons$Way", name := "kind", desc := "()I" } : Jvm.MethodName) ({ cls := "HeadReckons$Rooted", name := "kind", desc := "()I" } : Jvm.MethodName)) ∈ lw_all := lw_g (lw_at lw_m7 45 rfl) rfl
theorem q1577 : (Jvm.Cond.instanceMethod ({ cls := "HeadReckons$Rooted", name := "kind", desc := "()I" } : Jvm.MethodName)) ∈ lw_all := lw_g (lw_at lw_m7 46 rfl) rfl
theorem q1578 : (Jvm.Cond.code ({ cls := "HeadReckons$Rooted", name := "kind", desc := "()I" } : Jvm.MethodName) prog_26_method_2_code (1 : Nat) (Option.some Jvm.ClassFile.FieldType.int)) ∈ lw_all := lw_g (lw_at lw_m7 47 rfl) rfl
theorem q1591 : (Jvm.Cond.selects "HeadReckons$Rooted" ({ cls := "HeadReckons$Way", name := "isUnder", desc := "(I)Z" } : Jvm.MethodName) ({ cls := "HeadReckons$ByHeart", name := "isUnder", desc := "(I)Z" } : Jvm.MethodName)) ∈ lw_all := lw_g (lw_at lw_m7 60 rfl) rfl
theorem q2224 : (Jvm.Cond.selects "HeadReckons$Rooted" ({ cls := "HeadReckons$Way", name := "costs", desc := "(I)I" } : Jvm.MethodName) ({ cls := "HeadReckons$Way", name := "costs", desc := "(I)I" } : Jvm.MethodName)) ∈ lw_all := lw_g (lw_at lw_m9 213 rfl) rfl
theorem q2240 : (Jvm.Cond.castable "HeadReckons$Rooted" "HeadReckons$Way") ∈ lw_tbl := lw_at lw_m9 229 rfl
theorem q2247 : (Jvm.Cond.castable "HeadReckons$Rooted" "HeadReckons$Held") ∈ lw_tbl := lw_at lw_m9 236 rfl
theorem in_X24 : ∀ w ∈ wsX240, w ∈ lw_all := lw_in wsX240 [1221, 1222, 1220, 1218] (by decide +kernel) (by decide +kernel)

/-! HeadReckons$Row -/
set_option maxRecDepth 100000
def RX25 : String := "HeadReckons$Row"
abbrev cX25_init : ByteArray := prog_27_method_1_code
def yX25_init : MethodName := ⟨RX25, "<init>", "()V"⟩
theorem dX25_init_0 : decode cX25_init 0 = .ok (.aload_n 0, 1) := by decide +kernel
theorem dX25_init_1 : decode cX25_init 1 = .ok (.invokespecial 1, 3) := by decide +kernel
theorem dX25_init_4 : decode cX25_init 4 = .ok (.return_, 1) := by decide +kernel
theorem q131 : (Jvm.Cond.initialized "HeadReckons$Row") ∈ lw_all := lw_g (lw_at lw_m1 40 rfl) rfl
theorem q1415 : (Jvm.Cond.instanceMethod ({ cls := "HeadReckons$Row", name := "<init>", desc := "()V" } : Jvm.MethodName)) ∈ lw_all := lw_g (lw_at lw_m6 124 rfl) rfl
theorem q1416 : (Jvm.Cond.code ({ cls := "HeadReckons$Row", name := "<init>", desc := "()V" } : Jvm.MethodName) prog_27_method_1_code (1 : Nat) (Option.none : Option Jvm.ClassFile.FieldType)) ∈ lw_all := lw_g (lw_at lw_m6 125 rfl) rfl
theorem q1417 : (Jvm.Cond.methodLinkNest "HeadReckons$Row" (1 : Nat) ({ cls := "HeadReckons$Held", name := "<init>", desc := "()V" } : Jvm.MethodName) "HeadReckons") ∈ lw_tbl := lw_at lw_m6 126 rfl
theorem q1469 : (Jvm.Cond.declares ({ cls := "HeadReckons$Row", name := "put", desc := "(IJ)Z" } : Jvm.MethodName)) ∈ lw_tbl := lw_at lw_m6 178 rfl
theorem q1470 : (Jvm.Cond.sameMethod "HeadReckons$Row" "HeadReckons$Row" "put" "(IJ)Z") ∈ lw_all := lw_g (lw_at lw_m6 179 rfl) rfl
theorem q1492 : (Jvm.Cond.declares ({ cls := "HeadReckons$Row", name := "at", desc := "(I)J" } : Jvm.MethodName)) ∈ lw_tbl := lw_at lw_m6 201 rfl
theorem q1493 : (Jvm.Cond.sameMethod "HeadReckons$Row" "HeadReckons$Row" "at" "(I)J") ∈ lw_all := lw_g (lw_at lw_m6 202 rfl) rfl
theorem q1512 : (Jvm.Cond.declares ({ cls := "HeadReckons$Row", name := "copy", desc := "(ILHeadReckons$Row;II)V" } : Jvm.MethodName)) ∈ lw_tbl := lw_at lw_m6 221 rfl
theorem q1513 : (Jvm.Cond.sameMethod "HeadReckons$Row" "HeadReckons$Row" "copy" "(ILHeadReckons$Row;II)V") ∈ lw_all := lw_g (lw_at lw_m6 222 rfl) rfl

/-! HeadReckons$ByteRow -/
set_option maxRecDepth 100000
def RX26 : String := "HeadReckons$ByteRow"
def TX26 : u_T := fun k => match k with
  | _ => ("HeadReckons$ByteRow", "items", "[B", true)
def tyX26 : Nat → FieldType := fun k => match k with
  | _ => .array .byte
abbrev wsX260 : List Cond := u_ws RX26 TX26 1
theorem nmX26 : ∀ a, a < 1 → ∀ b, b < 1 → a ≠ b → (TX26 a).2.1 ≠ (TX26 b).2.1 := by decide +kernel
theorem tyX26_ok : ∀ k, k < 1 → parseFieldDescriptor (TX26 k).2.2.1 = some (tyX26 k) := by decide +kernel
abbrev cX26_init : ByteArray := prog_7_method_1_code
def yX26_init : MethodName := ⟨RX26, "<init>", "(I)V"⟩
def dkwX26_init_0 : List UInt8 := [42, 183, 0, 1, 42, 27, 188, 8, 181, 0, 7, 177]
abbrev dktX26_init_0 : List UInt8 := dkwX26_init_0 ++ []
theorem dksX26_init_0 : cX26_init.data.toList.drop 0 = dktX26_init_0 := by decide +kernel
theorem dX26_init_0 : decode cX26_init 0 = .ok (.aload_n 0, 1) := dk_42 (dk_at dksX26_init_0 0 rfl rfl)
theorem dX26_init_1 : decode cX26_init 1 = .ok (.invokespecial 1, 3) := dk_183 0 1 (dk_at dksX26_init_0 1 rfl rfl)
theorem dX26_init_4 : decode cX26_init 4 = .ok (.aload_n 0, 1) := dk_42 (dk_at dksX26_init_0 4 rfl rfl)
theorem dX26_init_5 : decode cX26_init 5 = .ok (.iload_n 1, 1) := dk_27 (dk_at dksX26_init_0 5 rfl rfl)
theorem dX26_init_6 : decode cX26_init 6 = .ok (.newarray .byte, 2) := dk_188_8 (dk_at dksX26_init_0 6 rfl rfl)
theorem dX26_init_8 : decode cX26_init 8 = .ok (.putfield 7, 3) := dk_181 0 7 (dk_at dksX26_init_0 8 rfl rfl)
theorem dX26_init_11 : decode cX26_init 11 = .ok (.return_, 1) := dk_177 (dk_at dksX26_init_0 11 rfl rfl)
abbrev cX26_put : ByteArray := prog_7_method_5_code
def yX26_put : MethodName := ⟨RX26, "put", "(IJ)Z"⟩
def dkwX26_put_0 : List UInt8 := [42, 180, 0, 7, 27, 32, 136, 145, 84, 4, 172]
abbrev dktX26_put_0 : List UInt8 := dkwX26_put_0 ++ []
theorem dksX26_put_0 : cX26_put.data.toList.drop 0 = dktX26_put_0 := by decide +kernel
theorem dX26_put_0 : decode cX26_put 0 = .ok (.aload_n 0, 1) := dk_42 (dk_at dksX26_put_0 0 rfl rfl)
theorem dX26_put_1 : decode cX26_put 1 = .ok (.getfield 7, 3) := dk_180 0 7 (dk_at dksX26_put_0 1 rfl rfl)
theorem dX26_put_4 : decode cX26_put 4 = .ok (.iload_n 1, 1) := dk_27 (dk_at dksX26_put_0 4 rfl rfl)
theorem dX26_put_5 : decode cX26_put 5 = .ok (.lload_n 2, 1) := dk_32 (dk_at dksX26_put_0 5 rfl rfl)
theorem dX26_put_6 : decode cX26_put 6 = .ok (.l2i, 1) := dk_136 (dk_at dksX26_put_0 6 rfl rfl)
theorem dX26_put_7 : decode cX26_put 7 = .ok (.i2b, 1) := dk_145 (dk_at dksX26_put_0 7 rfl rfl)
theorem dX26_put_8 : decode cX26_put 8 = .ok (.bastore, 1) := dk_84 (dk_at dksX26_put_0 8 rfl rfl)
theorem dX26_put_9 : decode cX26_put 9 = .ok (.iconst 1, 1) := dk_4 (dk_at dksX26_put_0 9 rfl rfl)
theorem dX26_put_10 : decode cX26_put 10 = .ok (.ireturn, 1) := dk_172 (dk_at dksX26_put_0 10 rfl rfl)
abbrev cX26_at : ByteArray := prog_7_method_4_code
def yX26_at : MethodName := ⟨RX26, "at", "(I)J"⟩
def dkwX26_at_0 : List UInt8 := [42, 180, 0, 7, 27, 51, 133, 173]
abbrev dktX26_at_0 : List UInt8 := dkwX26_at_0 ++ []
theorem dksX26_at_0 : cX26_at.data.toList.drop 0 = dktX26_at_0 := by decide +kernel
theorem dX26_at_0 : decode cX26_at 0 = .ok (.aload_n 0, 1) := dk_42 (dk_at dksX26_at_0 0 rfl rfl)
theorem dX26_at_1 : decode cX26_at 1 = .ok (.getfield 7, 3) := dk_180 0 7 (dk_at dksX26_at_0 1 rfl rfl)
theorem dX26_at_4 : decode cX26_at 4 = .ok (.iload_n 1, 1) := dk_27 (dk_at dksX26_at_0 4 rfl rfl)
theorem dX26_at_5 : decode cX26_at 5 = .ok (.baload, 1) := dk_51 (dk_at dksX26_at_0 5 rfl rfl)
theorem dX26_at_6 : decode cX26_at 6 = .ok (.i2l, 1) := dk_133 (dk_at dksX26_at_0 6 rfl rfl)
theorem dX26_at_7 : decode cX26_at 7 = .ok (.lreturn, 1) := dk_173 (dk_at dksX26_at_0 7 rfl rfl)
abbrev cX26_copy : ByteArray := prog_7_method_6_code
def yX26_copy : MethodName := ⟨RX26, "copy", "(ILHeadReckons$Row;II)V"⟩
def dkwX26_copy_0 : List UInt8 := [42, 180, 0, 7, 27, 44, 192, 0, 8, 180, 0, 7, 29, 21, 4, 184, 0, 13, 177]
abbrev dktX26_copy_0 : List UInt8 := dkwX26_copy_0 ++ []
theorem dksX26_copy_0 : cX26_copy.data.toList.drop 0 = dktX26_copy_0 := by decide +kernel
theorem dX26_copy_0 : decode cX26_copy 0 = .ok (.aload_n 0, 1) := dk_42 (dk_at dksX26_copy_0 0 rfl rfl)
theorem dX26_copy_1 : decode cX26_copy 1 = .ok (.getfield 7, 3) := dk_180 0 7 (dk_at dksX26_copy_0 1 rfl rfl)
theorem dX26_copy_4 : decode cX26_copy 4 = .ok (.iload_n 1, 1) := dk_27 (dk_at dksX26_copy_0 4 rfl rfl)
theorem dX26_copy_5 : decode cX26_copy 5 = .ok (.aload_n 2, 1) := dk_44 (dk_at dksX26_copy_0 5 rfl rfl)
theorem dX26_copy_6 : decode cX26_copy 6 = .ok (.checkcast 8, 3) := dk_192 0 8 (dk_at dksX26_copy_0 6 rfl rfl)
theorem dX26_copy_9 : decode cX26_copy 9 = .ok (.getfield 7, 3) := dk_180 0 7 (dk_at dksX26_copy_0 9 rfl rfl)
theorem dX26_copy_12 : decode cX26_copy 12 = .ok (.iload_n 3, 1) := dk_29 (dk_at dksX26_copy_0 12 rfl rfl)
theorem dX26_copy_13 : decode cX26_copy 13 = .ok (.iload 4, 2) := dk_21 4 (dk_at dksX26_copy_0 13 rfl rfl)
theorem dX26_copy_15 : decode cX26_copy 15 = .ok (.invokestatic 13, 3) := dk_184 0 13 (dk_at dksX26_copy_0 15 rfl rfl)
theorem dX26_copy_18 : decode cX26_copy 18 = .ok (.return_, 1) := dk_177 (dk_at dksX26_copy_0 18 rfl rfl)
theorem q132 : (Jvm.Cond.initialized "HeadReckons$ByteRow") ∈ lw_all := lw_g (lw_at lw_m1 41 rfl) rfl
theorem q1410 : (Jvm.Cond.instantiable "HeadReckons$ByteRow" (1 : Nat)) ∈ lw_all := lw_g (lw_at lw_m6 119 rfl) rfl
theorem q1412 : (Jvm.Cond.instanceMethod ({ cls := "HeadReckons$ByteRow", name := "<init>", desc := "(I)V" } : Jvm.MethodName)) ∈ lw_all := lw_g (lw_at lw_m6 121 rfl) rfl
theorem q1413 : (Jvm.Cond.code ({ cls := "HeadReckons$ByteRow", name := "<init>", desc := "(I)V" } : Jvm.MethodName) prog_7_method_1_code (2 : Nat) (Option.none : Option Jvm.ClassFile.FieldType)) ∈ lw_all := lw_g (lw_at lw_m6 122 rfl) rfl
theorem q1414 : (Jvm.Cond.methodLinkNest "HeadReckons$ByteRow" (1 : Nat) ({ cls := "HeadReckons$Row", name := "<init>", desc := "()V" } : Jvm.MethodName) "HeadReckons") ∈ lw_tbl := lw_at lw_m6 123 rfl
theorem q1418 : (Jvm.Cond.fieldLink "HeadReckons$ByteRow" (7 : Nat) "HeadReckons$ByteRow" "items" "[B") ∈ lw_all := lw_g (lw_at lw_m6 127 rfl) rfl
theorem q1419 : (Jvm.Cond.laysFinal "HeadReckons$ByteRow" "HeadReckons$ByteRow" "items" "[B") ∈ lw_all := lw_g (lw_at lw_m6 128 rfl) rfl
theorem q1420 : (Jvm.Cond.soleField "HeadReckons$ByteRow" "items") ∈ lw_all := lw_g (lw_at lw_m6 129 rfl) rfl
theorem q1421 : (Jvm.Cond.superclass "HeadReckons$ByteRow" "HeadReckons$Row") ∈ lw_all := lw_g (lw_at lw_m6 130 rfl) rfl
theorem q1474 : (Jvm.Cond.selects "HeadReckons$ByteRow" ({ cls := "HeadReckons$Row", name := "put", desc := "(IJ)Z" } : Jvm.MethodName) ({ cls := "HeadReckons$ByteRow", name := "put", desc := "(IJ)Z" } : Jvm.MethodName)) ∈ lw_all := lw_g (lw_at lw_m6 183 rfl) rfl
theorem q1475 : (Jvm.Cond.instanceMethod ({ cls := "HeadReckons$ByteRow", name := "put", desc := "(IJ)Z" } : Jvm.MethodName)) ∈ lw_all := lw_g (lw_at lw_m6 184 rfl) rfl
theorem q1476 : (Jvm.Cond.code ({ cls := "HeadReckons$ByteRow", name := "put", desc := "(IJ)Z" } : Jvm.MethodName) prog_7_method_5_code (4 : Nat) (Option.some Jvm.ClassFile.FieldType.boolean)) ∈ lw_all := lw_g (lw_at lw_m6 185 rfl) rfl
theorem q1497 : (Jvm.Cond.selects "HeadReckons$ByteRow" ({ cls := "HeadReckons$Row", name := "at", desc := "(I)J" } : Jvm.MethodName) ({ cls := "HeadReckons$ByteRow", name := "at", desc := "(I)J" } : Jvm.MethodName)) ∈ lw_all := lw_g (lw_at lw_m6 206 rfl) rfl
theorem q1498 : (Jvm.Cond.instanceMethod ({ cls := "HeadReckons$ByteRow", name := "at", desc := "(I)J" } : Jvm.MethodName)) ∈ lw_all := lw_g (lw_at lw_m6 207 rfl) rfl
theorem q1499 : (Jvm.Cond.code ({ cls := "HeadReckons$ByteRow", name := "at", desc := "(I)J" } : Jvm.MethodName) prog_7_method_4_code (2 : Nat) (Option.some Jvm.ClassFile.FieldType.long)) ∈ lw_all := lw_g (lw_at lw_m6 208 rfl) rfl
theorem q1521 : (Jvm.Cond.selects "HeadReckons$ByteRow" ({ cls := "HeadReckons$Row", name := "copy", desc := "(ILHeadReckons$Row;II)V" } : Jvm.MethodName) ({ cls := "HeadReckons$ByteRow", name := "copy", desc := "(ILHeadReckons$Row;II)V" } : Jvm.MethodName)) ∈ lw_all := lw_g (lw_at lw_m6 230 rfl) rfl
theorem q1522 : (Jvm.Cond.instanceMethod ({ cls := "HeadReckons$ByteRow", name := "copy", desc := "(ILHeadReckons$Row;II)V" } : Jvm.MethodName)) ∈ lw_all := lw_g (lw_at lw_m6 231 rfl) rfl
theorem q1523 : (Jvm.Cond.code ({ cls := "HeadReckons$ByteRow", name := "copy", desc := "(ILHeadReckons$Row;II)V" } : Jvm.MethodName) prog_7_method_6_code (5 : Nat) (Option.none : Option Jvm.ClassFile.FieldType)) ∈ lw_all := lw_g (lw_at lw_m6 232 rfl) rfl
theorem q1524 : (Jvm.Cond.classLink "HeadReckons$ByteRow" (8 : Nat) "HeadReckons$ByteRow") ∈ lw_all := lw_g (lw_at lw_m6 233 rfl) rfl
theorem q1525 : (Jvm.Cond.methodLink "HeadReckons$ByteRow" (13 : Nat) ({ cls := "java/lang/System", name := "arraycopy", desc := "(Ljava/lang/Object;ILjava/lang/Object;II)V" } : Jvm.MethodName)) ∈ lw_all := lw_g (lw_at lw_m6 234 rfl) rfl
theorem q2230 : (Jvm.Cond.castable "HeadReckons$ByteRow" "HeadReckons$Row") ∈ lw_tbl := lw_at lw_m9 219 rfl
theorem q2249 : (Jvm.Cond.castable "HeadReckons$ByteRow" "HeadReckons$Held") ∈ lw_tbl := lw_at lw_m9 238 rfl
theorem in_X26 : ∀ w ∈ wsX260, w ∈ lw_all := lw_in wsX260 [1419] (by decide +kernel) (by decide +kernel)

/-! HeadReckons$ShortRow -/
set_option maxRecDepth 100000
def RX27 : String := "HeadReckons$ShortRow"
def TX27 : u_T := fun k => match k with
  | _ => ("HeadReckons$ShortRow", "items", "[S", true)
def tyX27 : Nat → FieldType := fun k => match k with
  | _ => .array .short
abbrev wsX270 : List Cond := u_ws RX27 TX27 1
theorem nmX27 : ∀ a, a < 1 → ∀ b, b < 1 → a ≠ b → (TX27 a).2.1 ≠ (TX27 b).2.1 := by decide +kernel
theorem tyX27_ok : ∀ k, k < 1 → parseFieldDescriptor (TX27 k).2.2.1 = some (tyX27 k) := by decide +kernel
abbrev cX27_init : ByteArray := prog_29_method_1_code
def yX27_init : MethodName := ⟨RX27, "<init>", "(I)V"⟩
def dkwX27_init_0 : List UInt8 := [42, 183, 0, 1, 42, 27, 188, 9, 181, 0, 7, 177]
abbrev dktX27_init_0 : List UInt8 := dkwX27_init_0 ++ []
theorem dksX27_init_0 : cX27_init.data.toList.drop 0 = dktX27_init_0 := by decide +kernel
theorem dX27_init_0 : decode cX27_init 0 = .ok (.aload_n 0, 1) := dk_42 (dk_at dksX27_init_0 0 rfl rfl)
theorem dX27_init_1 : decode cX27_init 1 = .ok (.invokespecial 1, 3) := dk_183 0 1 (dk_at dksX27_init_0 1 rfl rfl)
theorem dX27_init_4 : decode cX27_init 4 = .ok (.aload_n 0, 1) := dk_42 (dk_at dksX27_init_0 4 rfl rfl)
theorem dX27_init_5 : decode cX27_init 5 = .ok (.iload_n 1, 1) := dk_27 (dk_at dksX27_init_0 5 rfl rfl)
theorem dX27_init_6 : decode cX27_init 6 = .ok (.newarray .short, 2) := dk_188_9 (dk_at dksX27_init_0 6 rfl rfl)
theorem dX27_init_8 : decode cX27_init 8 = .ok (.putfield 7, 3) := dk_181 0 7 (dk_at dksX27_init_0 8 rfl rfl)
theorem dX27_init_11 : decode cX27_init 11 = .ok (.return_, 1) := dk_177 (dk_at dksX27_init_0 11 rfl rfl)
abbrev cX27_put : ByteArray := prog_29_method_5_code
def yX27_put : MethodName := ⟨RX27, "put", "(IJ)Z"⟩
def dkwX27_put_0 : List UInt8 := [42, 180, 0, 7, 27, 32, 136, 147, 86, 4, 172]
abbrev dktX27_put_0 : List UInt8 := dkwX27_put_0 ++ []
theorem dksX27_put_0 : cX27_put.data.toList.drop 0 = dktX27_put_0 := by decide +kernel
theorem dX27_put_0 : decode cX27_put 0 = .ok (.aload_n 0, 1) := dk_42 (dk_at dksX27_put_0 0 rfl rfl)
theorem dX27_put_1 : decode cX27_put 1 = .ok (.getfield 7, 3) := dk_180 0 7 (dk_at dksX27_put_0 1 rfl rfl)
theorem dX27_put_4 : decode cX27_put 4 = .ok (.iload_n 1, 1) := dk_27 (dk_at dksX27_put_0 4 rfl rfl)
theorem dX27_put_5 : decode cX27_put 5 = .ok (.lload_n 2, 1) := dk_32 (dk_at dksX27_put_0 5 rfl rfl)
theorem dX27_put_6 : decode cX27_put 6 = .ok (.l2i, 1) := dk_136 (dk_at dksX27_put_0 6 rfl rfl)
theorem dX27_put_7 : decode cX27_put 7 = .ok (.i2s, 1) := dk_147 (dk_at dksX27_put_0 7 rfl rfl)
theorem dX27_put_8 : decode cX27_put 8 = .ok (.sastore, 1) := dk_86 (dk_at dksX27_put_0 8 rfl rfl)
theorem dX27_put_9 : decode cX27_put 9 = .ok (.iconst 1, 1) := dk_4 (dk_at dksX27_put_0 9 rfl rfl)
theorem dX27_put_10 : decode cX27_put 10 = .ok (.ireturn, 1) := dk_172 (dk_at dksX27_put_0 10 rfl rfl)
abbrev cX27_at : ByteArray := prog_29_method_4_code
def yX27_at : MethodName := ⟨RX27, "at", "(I)J"⟩
def dkwX27_at_0 : List UInt8 := [42, 180, 0, 7, 27, 53, 133, 173]
abbrev dktX27_at_0 : List UInt8 := dkwX27_at_0 ++ []
theorem dksX27_at_0 : cX27_at.data.toList.drop 0 = dktX27_at_0 := by decide +kernel
theorem dX27_at_0 : decode cX27_at 0 = .ok (.aload_n 0, 1) := dk_42 (dk_at dksX27_at_0 0 rfl rfl)
theorem dX27_at_1 : decode cX27_at 1 = .ok (.getfield 7, 3) := dk_180 0 7 (dk_at dksX27_at_0 1 rfl rfl)
theorem dX27_at_4 : decode cX27_at 4 = .ok (.iload_n 1, 1) := dk_27 (dk_at dksX27_at_0 4 rfl rfl)
theorem dX27_at_5 : decode cX27_at 5 = .ok (.saload, 1) := dk_53 (dk_at dksX27_at_0 5 rfl rfl)
theorem dX27_at_6 : decode cX27_at 6 = .ok (.i2l, 1) := dk_133 (dk_at dksX27_at_0 6 rfl rfl)
theorem dX27_at_7 : decode cX27_at 7 = .ok (.lreturn, 1) := dk_173 (dk_at dksX27_at_0 7 rfl rfl)
abbrev cX27_copy : ByteArray := prog_29_method_6_code
def yX27_copy : MethodName := ⟨RX27, "copy", "(ILHeadReckons$Row;II)V"⟩
def dkwX27_copy_0 : List UInt8 := [42, 180, 0, 7, 27, 44, 192, 0, 8, 180, 0, 7, 29, 21, 4, 184, 0, 13, 177]
abbrev dktX27_copy_0 : List UInt8 := dkwX27_copy_0 ++ []
theorem dksX27_copy_0 : cX27_copy.data.toList.drop 0 = dktX27_copy_0 := by decide +kernel
theorem dX27_copy_0 : decode cX27_copy 0 = .ok (.aload_n 0, 1) := dk_42 (dk_at dksX27_copy_0 0 rfl rfl)
theorem dX27_copy_1 : decode cX27_copy 1 = .ok (.getfield 7, 3) := dk_180 0 7 (dk_at dksX27_copy_0 1 rfl rfl)
theorem dX27_copy_4 : decode cX27_copy 4 = .ok (.iload_n 1, 1) := dk_27 (dk_at dksX27_copy_0 4 rfl rfl)
theorem dX27_copy_5 : decode cX27_copy 5 = .ok (.aload_n 2, 1) := dk_44 (dk_at dksX27_copy_0 5 rfl rfl)
theorem dX27_copy_6 : decode cX27_copy 6 = .ok (.checkcast 8, 3) := dk_192 0 8 (dk_at dksX27_copy_0 6 rfl rfl)
theorem dX27_copy_9 : decode cX27_copy 9 = .ok (.getfield 7, 3) := dk_180 0 7 (dk_at dksX27_copy_0 9 rfl rfl)
theorem dX27_copy_12 : decode cX27_copy 12 = .ok (.iload_n 3, 1) := dk_29 (dk_at dksX27_copy_0 12 rfl rfl)
theorem dX27_copy_13 : decode cX27_copy 13 = .ok (.iload 4, 2) := dk_21 4 (dk_at dksX27_copy_0 13 rfl rfl)
theorem dX27_copy_15 : decode cX27_copy 15 = .ok (.invokestatic 13, 3) := dk_184 0 13 (dk_at dksX27_copy_0 15 rfl rfl)
theorem dX27_copy_18 : decode cX27_copy 18 = .ok (.return_, 1) := dk_177 (dk_at dksX27_copy_0 18 rfl rfl)
theorem q133 : (Jvm.Cond.initialized "HeadReckons$ShortRow") ∈ lw_all := lw_g (lw_at lw_m1 42 rfl) rfl
theorem q1423 : (Jvm.Cond.instantiable "HeadReckons$ShortRow" (1 : Nat)) ∈ lw_all := lw_g (lw_at lw_m6 132 rfl) rfl
theorem q1425 : (Jvm.Cond.instanceMethod ({ cls := "HeadReckons$ShortRow", name := "<init>", desc := "(I)V" } : Jvm.MethodName)) ∈ lw_all := lw_g (lw_at lw_m6 134 rfl) rfl
theorem q1426 : (Jvm.Cond.code ({ cls := "HeadReckons$ShortRow", name := "<init>", desc := "(I)V" } : Jvm.MethodName) prog_29_method_1_code (2 : Nat) (Option.none : Option Jvm.ClassFile.FieldType)) ∈ lw_all := lw_g (lw_at lw_m6 135 rfl) rfl
theorem q1427 : (Jvm.Cond.methodLinkNest "HeadReckons$ShortRow" (1 : Nat) ({ cls := "HeadReckons$Row", name := "<init>", desc := "()V" } : Jvm.MethodName) "HeadReckons") ∈ lw_tbl := lw_at lw_m6 136 rfl
theorem q1428 : (Jvm.Cond.fieldLink "HeadReckons$ShortRow" (7 : Nat) "HeadReckons$ShortRow" "items" "[S") ∈ lw_all := lw_g (lw_at lw_m6 137 rfl) rfl
theorem q1429 : (Jvm.Cond.laysFinal "HeadReckons$ShortRow" "HeadReckons$ShortRow" "items" "[S") ∈ lw_all := lw_g (lw_at lw_m6 138 rfl) rfl
theorem q1430 : (Jvm.Cond.soleField "HeadReckons$ShortRow" "items") ∈ lw_all := lw_g (lw_at lw_m6 139 rfl) rfl
theorem q1431 : (Jvm.Cond.superclass "HeadReckons$ShortRow" "HeadReckons$Row") ∈ lw_all := lw_g (lw_at lw_m6 140 rfl) rfl
theorem q1483 : (Jvm.Cond.selects "HeadReckons$ShortRow" ({ cls := "HeadReckons$Row", name := "put", desc := "(IJ)Z" } : Jvm.MethodName) ({ cls := "HeadReckons$ShortRow", name := "put", desc := "(IJ)Z" } : Jvm.MethodName)) ∈ lw_all := lw_g (lw_at lw_m6 192 rfl) rfl
theorem q1484 : (Jvm.Cond.instanceMethod ({ cls := "HeadReckons$ShortRow", name := "put", desc := "(IJ)Z" } : Jvm.MethodName)) ∈ lw_all := lw_g (lw_at lw_m6 193 rfl) rfl
theorem q1485 : (Jvm.Cond.code ({ cls := "HeadReckons$ShortRow", name := "put", desc := "(IJ)Z" } : Jvm.MethodName) prog_29_method_5_code (4 : Nat) (Option.some Jvm.ClassFile.FieldType.boolean)) ∈ lw_all := lw_g (lw_at lw_m6 194 rfl) rfl
theorem q1504 : (Jvm.Cond.selects "HeadReckons$ShortRow" ({ cls := "HeadReckons$Row", name := "at", desc := "(I)J" } : Jvm.MethodName) ({ cls := "HeadReckons$ShortRow", name := "at", desc := "(I)J" } : Jvm.MethodName)) ∈ lw_all := lw_g (lw_at lw_m6 213 rfl) rfl
theorem q1505 : (Jvm.Cond.instanceMethod ({ cls := "HeadReckons$ShortRow", name := "at", desc := "(I)J" } : Jvm.MethodName)) ∈ lw_all := lw_g (lw_at lw_m6 214 rfl) rfl
theorem q1506 : (Jvm.Cond.code ({ cls := "HeadReckons$ShortRow", name := "at", desc := "(I)J" } : Jvm.MethodName) prog_29_method_4_code (2 : Nat) (Option.some Jvm.ClassFile.FieldType.long)) ∈ lw_all := lw_g (lw_at lw_m6 215 rfl) rfl
theorem q1536 : (Jvm.Cond.selects "HeadReckons$ShortRow" ({ cls := "HeadReckons$Row", name := "copy", desc := "(ILHeadReckons$Row;II)V" } : Jvm.MethodName) ({ cls := "HeadReckons$ShortRow", name := "copy", desc := "(ILHeadReckons$Row;II)V" } : Jvm.MethodName)) ∈ lw_all := lw_g (lw_at lw_m7 5 rfl) rfl
theorem q1537 : (Jvm.Cond.instanceMethod ({ cls := "HeadReckons$ShortRow", name := "copy", desc := "(ILHeadReckons$Row;II)V" } : Jvm.MethodName)) ∈ lw_all := lw_g (lw_at lw_m7 6 rfl) rfl
theorem q1538 : (Jvm.Cond.code ({ cls := "HeadReckons$ShortRow", name := "copy", desc := "(ILHeadReckons$Row;II)V" } : Jvm.MethodName) prog_29_method_6_code (5 : Nat) (Option.none : Option Jvm.ClassFile.FieldType)) ∈ lw_all := lw_g (lw_at lw_m7 7 rfl) rfl
theorem q1539 : (Jvm.Cond.classLink "HeadReckons$ShortRow" (8 : Nat) "HeadReckons$ShortRow") ∈ lw_all := lw_g (lw_at lw_m7 8 rfl) rfl
theorem q1540 : (Jvm.Cond.methodLink "HeadReckons$ShortRow" (13 : Nat) ({ cls := "java/lang/System", name := "arraycopy", desc := "(Ljava/lang/Object;ILjava/lang/Object;II)V" } : Jvm.MethodName)) ∈ lw_all := lw_g (lw_at lw_m7 9 rfl) rfl
theorem q2233 : (Jvm.Cond.castable "HeadReckons$ShortRow" "HeadReckons$Row") ∈ lw_tbl := lw_at lw_m9 222 rfl
theorem q2250 : (Jvm.Cond.castable "HeadReckons$ShortRow" "HeadReckons$Held") ∈ lw_tbl := lw_at lw_m9 239 rfl
theorem in_X27 : ∀ w ∈ wsX270, w ∈ lw_all := lw_in wsX270 [1429] (by decide +kernel) (by decide +kernel)

/-! HeadReckons$IntRow -/
set_option maxRecDepth 100000
def RX28 : String := "HeadReckons$IntRow"
def TX28 : u_T := fun k => match k with
  | _ => ("HeadReckons$IntRow", "items", "[I", true)
def tyX28 : Nat → FieldType := fun k => match k with
  | _ => .array .int
abbrev wsX280 : List Cond := u_ws RX28 TX28 1
theorem nmX28 : ∀ a, a < 1 → ∀ b, b < 1 → a ≠ b → (TX28 a).2.1 ≠ (TX28 b).2.1 := by decide +kernel
theorem tyX28_ok : ∀ k, k < 1 → parseFieldDescriptor (TX28 k).2.2.1 = some (tyX28 k) := by decide +kernel
abbrev cX28_at : ByteArray := prog_17_method_4_code
def yX28_at : MethodName := ⟨RX28, "at", "(I)J"⟩
def dkwX28_at_0 : List UInt8 := [42, 180, 0, 7, 27, 46, 133, 173]
abbrev dktX28_at_0 : List UInt8 := dkwX28_at_0 ++ []
theorem dksX28_at_0 : cX28_at.data.toList.drop 0 = dktX28_at_0 := by decide +kernel
theorem dX28_at_0 : decode cX28_at 0 = .ok (.aload_n 0, 1) := dk_42 (dk_at dksX28_at_0 0 rfl rfl)
theorem dX28_at_1 : decode cX28_at 1 = .ok (.getfield 7, 3) := dk_180 0 7 (dk_at dksX28_at_0 1 rfl rfl)
theorem dX28_at_4 : decode cX28_at 4 = .ok (.iload_n 1, 1) := dk_27 (dk_at dksX28_at_0 4 rfl rfl)
theorem dX28_at_5 : decode cX28_at 5 = .ok (.iaload, 1) := dk_46 (dk_at dksX28_at_0 5 rfl rfl)
theorem dX28_at_6 : decode cX28_at 6 = .ok (.i2l, 1) := dk_133 (dk_at dksX28_at_0 6 rfl rfl)
theorem dX28_at_7 : decode cX28_at 7 = .ok (.lreturn, 1) := dk_173 (dk_at dksX28_at_0 7 rfl rfl)
abbrev cX28_init : ByteArray := prog_17_method_1_code
def yX28_init : MethodName := ⟨RX28, "<init>", "(I)V"⟩
def dkwX28_init_0 : List UInt8 := [42, 183, 0, 1, 42, 27, 188, 10, 181, 0, 7, 177]
abbrev dktX28_init_0 : List UInt8 := dkwX28_init_0 ++ []
theorem dksX28_init_0 : cX28_init.data.toList.drop 0 = dktX28_init_0 := by decide +kernel
theorem dX28_init_0 : decode cX28_init 0 = .ok (.aload_n 0, 1) := dk_42 (dk_at dksX28_init_0 0 rfl rfl)
theorem dX28_init_1 : decode cX28_init 1 = .ok (.invokespecial 1, 3) := dk_183 0 1 (dk_at dksX28_init_0 1 rfl rfl)
theorem dX28_init_4 : decode cX28_init 4 = .ok (.aload_n 0, 1) := dk_42 (dk_at dksX28_init_0 4 rfl rfl)
theorem dX28_init_5 : decode cX28_init 5 = .ok (.iload_n 1, 1) := dk_27 (dk_at dksX28_init_0 5 rfl rfl)
theorem dX28_init_6 : decode cX28_init 6 = .ok (.newarray .int, 2) := dk_188_10 (dk_at dksX28_init_0 6 rfl rfl)
theorem dX28_init_8 : decode cX28_init 8 = .ok (.putfield 7, 3) := dk_181 0 7 (dk_at dksX28_init_0 8 rfl rfl)
theorem dX28_init_11 : decode cX28_init 11 = .ok (.return_, 1) := dk_177 (dk_at dksX28_init_0 11 rfl rfl)
abbrev cX28_put : ByteArray := prog_17_method_5_code
def yX28_put : MethodName := ⟨RX28, "put", "(IJ)Z"⟩
def dkwX28_put_0 : List UInt8 := [42, 180, 0, 7, 27, 32, 136, 79, 4, 172]
abbrev dktX28_put_0 : List UInt8 := dkwX28_put_0 ++ []
theorem dksX28_put_0 : cX28_put.data.toList.drop 0 = dktX28_put_0 := by decide +kernel
theorem dX28_put_0 : decode cX28_put 0 = .ok (.aload_n 0, 1) := dk_42 (dk_at dksX28_put_0 0 rfl rfl)
theorem dX28_put_1 : decode cX28_put 1 = .ok (.getfield 7, 3) := dk_180 0 7 (dk_at dksX28_put_0 1 rfl rfl)
theorem dX28_put_4 : decode cX28_put 4 = .ok (.iload_n 1, 1) := dk_27 (dk_at dksX28_put_0 4 rfl rfl)
theorem dX28_put_5 : decode cX28_put 5 = .ok (.lload_n 2, 1) := dk_32 (dk_at dksX28_put_0 5 rfl rfl)
theorem dX28_put_6 : decode cX28_put 6 = .ok (.l2i, 1) := dk_136 (dk_at dksX28_put_0 6 rfl rfl)
theorem dX28_put_7 : decode cX28_put 7 = .ok (.iastore, 1) := dk_79 (dk_at dksX28_put_0 7 rfl rfl)
theorem dX28_put_8 : decode cX28_put 8 = .ok (.iconst 1, 1) := dk_4 (dk_at dksX28_put_0 8 rfl rfl)
theorem dX28_put_9 : decode cX28_put 9 = .ok (.ireturn, 1) := dk_172 (dk_at dksX28_put_0 9 rfl rfl)
abbrev cX28_copy : ByteArray := prog_17_method_6_code
def yX28_copy : MethodName := ⟨RX28, "copy", "(ILHeadReckons$Row;II)V"⟩
def dkwX28_copy_0 : List UInt8 := [42, 180, 0, 7, 27, 44, 192, 0, 8, 180, 0, 7, 29, 21, 4, 184, 0, 13, 177]
abbrev dktX28_copy_0 : List UInt8 := dkwX28_copy_0 ++ []
theorem dksX28_copy_0 : cX28_copy.data.toList.drop 0 = dktX28_copy_0 := by decide +kernel
theorem dX28_copy_0 : decode cX28_copy 0 = .ok (.aload_n 0, 1) := dk_42 (dk_at dksX28_copy_0 0 rfl rfl)
theorem dX28_copy_1 : decode cX28_copy 1 = .ok (.getfield 7, 3) := dk_180 0 7 (dk_at dksX28_copy_0 1 rfl rfl)
theorem dX28_copy_4 : decode cX28_copy 4 = .ok (.iload_n 1, 1) := dk_27 (dk_at dksX28_copy_0 4 rfl rfl)
theorem dX28_copy_5 : decode cX28_copy 5 = .ok (.aload_n 2, 1) := dk_44 (dk_at dksX28_copy_0 5 rfl rfl)
theorem dX28_copy_6 : decode cX28_copy 6 = .ok (.checkcast 8, 3) := dk_192 0 8 (dk_at dksX28_copy_0 6 rfl rfl)
theorem dX28_copy_9 : decode cX28_copy 9 = .ok (.getfield 7, 3) := dk_180 0 7 (dk_at dksX28_copy_0 9 rfl rfl)
theorem dX28_copy_12 : decode cX28_copy 12 = .ok (.iload_n 3, 1) := dk_29 (dk_at dksX28_copy_0 12 rfl rfl)
theorem dX28_copy_13 : decode cX28_copy 13 = .ok (.iload 4, 2) := dk_21 4 (dk_at dksX28_copy_0 13 rfl rfl)
theorem dX28_copy_15 : decode cX28_copy 15 = .ok (.invokestatic 13, 3) := dk_184 0 13 (dk_at dksX28_copy_0 15 rfl rfl)
theorem dX28_copy_18 : decode cX28_copy 18 = .ok (.return_, 1) := dk_177 (dk_at dksX28_copy_0 18 rfl rfl)
theorem q134 : (Jvm.Cond.initialized "HeadReckons$IntRow") ∈ lw_all := lw_g (lw_at lw_m1 43 rfl) rfl
theorem q957 : (Jvm.Cond.instanceMethod ({ cls := "HeadReckons$IntRow", name := "at", desc := "(I)J" } : Jvm.MethodName)) ∈ lw_all := lw_g (lw_at lw_m4 146 rfl) rfl
theorem q958 : (Jvm.Cond.selects "HeadReckons$IntRow" ({ cls := "HeadReckons$IntRow", name := "at", desc := "(I)J" } : Jvm.MethodName) ({ cls := "HeadReckons$IntRow", name := "at", desc := "(I)J" } : Jvm.MethodName)) ∈ lw_all := lw_g (lw_at lw_m4 147 rfl) rfl
theorem q959 : (Jvm.Cond.code ({ cls := "HeadReckons$IntRow", name := "at", desc := "(I)J" } : Jvm.MethodName) prog_17_method_4_code (2 : Nat) (Option.some Jvm.ClassFile.FieldType.long)) ∈ lw_all := lw_g (lw_at lw_m4 148 rfl) rfl
theorem q1433 : (Jvm.Cond.instantiable "HeadReckons$IntRow" (1 : Nat)) ∈ lw_all := lw_g (lw_at lw_m6 142 rfl) rfl
theorem q1435 : (Jvm.Cond.instanceMethod ({ cls := "HeadReckons$IntRow", name := "<init>", desc := "(I)V" } : Jvm.MethodName)) ∈ lw_all := lw_g (lw_at lw_m6 144 rfl) rfl
theorem q1436 : (Jvm.Cond.code ({ cls := "HeadReckons$IntRow", name := "<init>", desc := "(I)V" } : Jvm.MethodName) prog_17_method_1_code (2 : Nat) (Option.none : Option Jvm.ClassFile.FieldType)) ∈ lw_all := lw_g (lw_at lw_m6 145 rfl) rfl
theorem q1437 : (Jvm.Cond.methodLinkNest "HeadReckons$IntRow" (1 : Nat) ({ cls := "HeadReckons$Row", name := "<init>", desc := "()V" } : Jvm.MethodName) "HeadReckons") ∈ lw_tbl := lw_at lw_m6 146 rfl
theorem q1438 : (Jvm.Cond.fieldLink "HeadReckons$IntRow" (7 : Nat) "HeadReckons$IntRow" "items" "[I") ∈ lw_all := lw_g (lw_at lw_m6 147 rfl) rfl
theorem q1439 : (Jvm.Cond.laysFinal "HeadReckons$IntRow" "HeadReckons$IntRow" "items" "[I") ∈ lw_all := lw_g (lw_at lw_m6 148 rfl) rfl
theorem q1440 : (Jvm.Cond.soleField "HeadReckons$IntRow" "items") ∈ lw_all := lw_g (lw_at lw_m6 149 rfl) rfl
theorem q1441 : (Jvm.Cond.superclass "HeadReckons$IntRow" "HeadReckons$Row") ∈ lw_all := lw_g (lw_at lw_m6 150 rfl) rfl
theorem q1477 : (Jvm.Cond.selects "HeadReckons$IntRow" ({ cls := "HeadReckons$Row", name := "put", desc := "(IJ)Z" } : Jvm.MethodName) ({ cls := "HeadReckons$IntRow", name := "put", desc := "(IJ)Z" } : Jvm.MethodName)) ∈ lw_all := lw_g (lw_at lw_m6 186 rfl) rfl
theorem q1478 : (Jvm.Cond.instanceMethod ({ cls := "HeadReckons$IntRow", name := "put", desc := "(IJ)Z" } : Jvm.MethodName)) ∈ lw_all := lw_g (lw_at lw_m6 187 rfl) rfl
theorem q1479 : (Jvm.Cond.code ({ cls := "HeadReckons$IntRow", name := "put", desc := "(IJ)Z" } : Jvm.MethodName) prog_17_method_5_code (4 : Nat) (Option.some Jvm.ClassFile.FieldType.boolean)) ∈ lw_all := lw_g (lw_at lw_m6 188 rfl) rfl
theorem q1500 : (Jvm.Cond.selects "HeadReckons$IntRow" ({ cls := "HeadReckons$Row", name := "at", desc := "(I)J" } : Jvm.MethodName) ({ cls := "HeadReckons$IntRow", name := "at", desc := "(I)J" } : Jvm.MethodName)) ∈ lw_all := lw_g (lw_at lw_m6 209 rfl) rfl
theorem q1526 : (Jvm.Cond.selects "HeadReckons$IntRow" ({ cls := "HeadReckons$Row", name := "copy", desc := "(ILHeadReckons$Row;II)V" } : Jvm.MethodName) ({ cls := "HeadReckons$IntRow", name := "copy", desc := "(ILHeadReckons$Row;II)V" } : Jvm.MethodName)) ∈ lw_all := lw_g (lw_at lw_m6 235 rfl) rfl
theorem q1527 : (Jvm.Cond.instanceMethod ({ cls := "HeadReckons$IntRow", name := "copy", desc := "(ILHeadReckons$Row;II)V" } : Jvm.MethodName)) ∈ lw_all := lw_g (lw_at lw_m6 236 rfl) rfl
theorem q1528 : (Jvm.Cond.code ({ cls := "HeadReckons$IntRow", name := "copy", desc := "(ILHeadReckons$Row;II)V" } : Jvm.MethodName) prog_17_method_6_code (5 : Nat) (Option.none : Option Jvm.ClassFile.FieldType)) ∈ lw_all := lw_g (lw_at lw_m6 237 rfl) rfl
theorem q1529 : (Jvm.Cond.classLink "HeadReckons$IntRow" (8 : Nat) "HeadReckons$IntRow") ∈ lw_all := lw_g (lw_at lw_m6 238 rfl) rfl
theorem q1530 : (Jvm.Cond.methodLink "HeadReckons$IntRow" (13 : Nat) ({ cls := "java/lang/System", name := "arraycopy", desc := "(Ljava/lang/Object;ILjava/lang/Object;II)V" } : Jvm.MethodName)) ∈ lw_all := lw_g (lw_at lw_m6 239 rfl) rfl
theorem q2231 : (Jvm.Cond.castable "HeadReckons$IntRow" "HeadReckons$Row") ∈ lw_tbl := lw_at lw_m9 220 rfl
theorem q2251 : (Jvm.Cond.castable "HeadReckons$IntRow" "HeadReckons$Held") ∈ lw_tbl := lw_at lw_m10 0 rfl
theorem in_X28 : ∀ w ∈ wsX280, w ∈ lw_all := lw_in wsX280 [1439] (by decide +kernel) (by decide +kernel)

/-! HeadReckons$LongRow -/
set_option maxRecDepth 100000
def RX29 : String := "HeadReckons$LongRow"
def TX29 : u_T := fun k => match k with
  | _ => ("HeadReckons$LongRow", "items", "[J", true)
def tyX29 : Nat → FieldType := fun k => match k with
  | _ => .array .long
abbrev wsX290 : List Cond := u_ws RX29 TX29 1
theorem nmX29 : ∀ a, a < 1 → ∀ b, b < 1 → a ≠ b → (TX29 a).2.1 ≠ (TX29 b).2.1 := by decide +kernel
theorem tyX29_ok : ∀ k, k < 1 → parseFieldDescriptor (TX29 k).2.2.1 = some (tyX29 k) := by decide +kernel
abbrev cX29_init : ByteArray := prog_21_method_1_code
def yX29_init : MethodName := ⟨RX29, "<init>", "(I)V"⟩
def dkwX29_init_0 : List UInt8 := [42, 183, 0, 1, 42, 27, 188, 11, 181, 0, 7, 177]
abbrev dktX29_init_0 : List UInt8 := dkwX29_init_0 ++ []
theorem dksX29_init_0 : cX29_init.data.toList.drop 0 = dktX29_init_0 := by decide +kernel
theorem dX29_init_0 : decode cX29_init 0 = .ok (.aload_n 0, 1) := dk_42 (dk_at dksX29_init_0 0 rfl rfl)
theorem dX29_init_1 : decode cX29_init 1 = .ok (.invokespecial 1, 3) := dk_183 0 1 (dk_at dksX29_init_0 1 rfl rfl)
theorem dX29_init_4 : decode cX29_init 4 = .ok (.aload_n 0, 1) := dk_42 (dk_at dksX29_init_0 4 rfl rfl)
theorem dX29_init_5 : decode cX29_init 5 = .ok (.iload_n 1, 1) := dk_27 (dk_at dksX29_init_0 5 rfl rfl)
theorem dX29_init_6 : decode cX29_init 6 = .ok (.newarray .long, 2) := dk_188_11 (dk_at dksX29_init_0 6 rfl rfl)
theorem dX29_init_8 : decode cX29_init 8 = .ok (.putfield 7, 3) := dk_181 0 7 (dk_at dksX29_init_0 8 rfl rfl)
theorem dX29_init_11 : decode cX29_init 11 = .ok (.return_, 1) := dk_177 (dk_at dksX29_init_0 11 rfl rfl)
abbrev cX29_put : ByteArray := prog_21_method_5_code
def yX29_put : MethodName := ⟨RX29, "put", "(IJ)Z"⟩
def dkwX29_put_0 : List UInt8 := [42, 180, 0, 7, 27, 32, 80, 4, 172]
abbrev dktX29_put_0 : List UInt8 := dkwX29_put_0 ++ []
theorem dksX29_put_0 : cX29_put.data.toList.drop 0 = dktX29_put_0 := by decide +kernel
theorem dX29_put_0 : decode cX29_put 0 = .ok (.aload_n 0, 1) := dk_42 (dk_at dksX29_put_0 0 rfl rfl)
theorem dX29_put_1 : decode cX29_put 1 = .ok (.getfield 7, 3) := dk_180 0 7 (dk_at dksX29_put_0 1 rfl rfl)
theorem dX29_put_4 : decode cX29_put 4 = .ok (.iload_n 1, 1) := dk_27 (dk_at dksX29_put_0 4 rfl rfl)
theorem dX29_put_5 : decode cX29_put 5 = .ok (.lload_n 2, 1) := dk_32 (dk_at dksX29_put_0 5 rfl rfl)
theorem dX29_put_6 : decode cX29_put 6 = .ok (.lastore, 1) := dk_80 (dk_at dksX29_put_0 6 rfl rfl)
theorem dX29_put_7 : decode cX29_put 7 = .ok (.iconst 1, 1) := dk_4 (dk_at dksX29_put_0 7 rfl rfl)
theorem dX29_put_8 : decode cX29_put 8 = .ok (.ireturn, 1) := dk_172 (dk_at dksX29_put_0 8 rfl rfl)
abbrev cX29_at : ByteArray := prog_21_method_4_code
def yX29_at : MethodName := ⟨RX29, "at", "(I)J"⟩
def dkwX29_at_0 : List UInt8 := [42, 180, 0, 7, 27, 47, 173]
abbrev dktX29_at_0 : List UInt8 := dkwX29_at_0 ++ []
theorem dksX29_at_0 : cX29_at.data.toList.drop 0 = dktX29_at_0 := by decide +kernel
theorem dX29_at_0 : decode cX29_at 0 = .ok (.aload_n 0, 1) := dk_42 (dk_at dksX29_at_0 0 rfl rfl)
theorem dX29_at_1 : decode cX29_at 1 = .ok (.getfield 7, 3) := dk_180 0 7 (dk_at dksX29_at_0 1 rfl rfl)
theorem dX29_at_4 : decode cX29_at 4 = .ok (.iload_n 1, 1) := dk_27 (dk_at dksX29_at_0 4 rfl rfl)
theorem dX29_at_5 : decode cX29_at 5 = .ok (.laload, 1) := dk_47 (dk_at dksX29_at_0 5 rfl rfl)
theorem dX29_at_6 : decode cX29_at 6 = .ok (.lreturn, 1) := dk_173 (dk_at dksX29_at_0 6 rfl rfl)
abbrev cX29_copy : ByteArray := prog_21_method_6_code
def yX29_copy : MethodName := ⟨RX29, "copy", "(ILHeadReckons$Row;II)V"⟩
def dkwX29_copy_0 : List UInt8 := [42, 180, 0, 7, 27, 44, 192, 0, 8, 180, 0, 7, 29, 21, 4, 184, 0, 13, 177]
abbrev dktX29_copy_0 : List UInt8 := dkwX29_copy_0 ++ []
theorem dksX29_copy_0 : cX29_copy.data.toList.drop 0 = dktX29_copy_0 := by decide +kernel
theorem dX29_copy_0 : decode cX29_copy 0 = .ok (.aload_n 0, 1) := dk_42 (dk_at dksX29_copy_0 0 rfl rfl)
theorem dX29_copy_1 : decode cX29_copy 1 = .ok (.getfield 7, 3) := dk_180 0 7 (dk_at dksX29_copy_0 1 rfl rfl)
theorem dX29_copy_4 : decode cX29_copy 4 = .ok (.iload_n 1, 1) := dk_27 (dk_at dksX29_copy_0 4 rfl rfl)
theorem dX29_copy_5 : decode cX29_copy 5 = .ok (.aload_n 2, 1) := dk_44 (dk_at dksX29_copy_0 5 rfl rfl)
theorem dX29_copy_6 : decode cX29_copy 6 = .ok (.checkcast 8, 3) := dk_192 0 8 (dk_at dksX29_copy_0 6 rfl rfl)
theorem dX29_copy_9 : decode cX29_copy 9 = .ok (.getfield 7, 3) := dk_180 0 7 (dk_at dksX29_copy_0 9 rfl rfl)
theorem dX29_copy_12 : decode cX29_copy 12 = .ok (.iload_n 3, 1) := dk_29 (dk_at dksX29_copy_0 12 rfl rfl)
theorem dX29_copy_13 : decode cX29_copy 13 = .ok (.iload 4, 2) := dk_21 4 (dk_at dksX29_copy_0 13 rfl rfl)
theorem dX29_copy_15 : decode cX29_copy 15 = .ok (.invokestatic 13, 3) := dk_184 0 13 (dk_at dksX29_copy_0 15 rfl rfl)
theorem dX29_copy_18 : decode cX29_copy 18 = .ok (.return_, 1) := dk_177 (dk_at dksX29_copy_0 18 rfl rfl)
theorem q135 : (Jvm.Cond.initialized "HeadReckons$LongRow") ∈ lw_all := lw_g (lw_at lw_m1 44 rfl) rfl
theorem q1443 : (Jvm.Cond.instantiable "HeadReckons$LongRow" (1 : Nat)) ∈ lw_all := lw_g (lw_at lw_m6 152 rfl) rfl
theorem q1445 : (Jvm.Cond.instanceMethod ({ cls := "HeadReckons$LongRow", name := "<init>", desc := "(I)V" } : Jvm.MethodName)) ∈ lw_all := lw_g (lw_at lw_m6 154 rfl) rfl
theorem q1446 : (Jvm.Cond.code ({ cls := "HeadReckons$LongRow", name := "<init>", desc := "(I)V" } : Jvm.MethodName) prog_21_method_1_code (2 : Nat) (Option.none : Option Jvm.ClassFile.FieldType)) ∈ lw_all := lw_g (lw_at lw_m6 155 rfl) rfl
theorem q1447 : (Jvm.Cond.methodLinkNest "HeadReckons$LongRow" (1 : Nat) ({ cls := "HeadReckons$Row", name := "<init>", desc := "()V" } : Jvm.MethodName) "HeadReckons") ∈ lw_tbl := lw_at lw_m6 156 rfl
theorem q1448 : (Jvm.Cond.fieldLink "HeadReckons$LongRow" (7 : Nat) "HeadReckons$LongRow" "items" "[J") ∈ lw_all := lw_g (lw_at lw_m6 157 rfl) rfl
theorem q1449 : (Jvm.Cond.laysFinal "HeadReckons$LongRow" "HeadReckons$LongRow" "items" "[J") ∈ lw_all := lw_g (lw_at lw_m6 158 rfl) rfl
theorem q1450 : (Jvm.Cond.soleField "HeadReckons$LongRow" "items") ∈ lw_all := lw_g (lw_at lw_m6 159 rfl) rfl
theorem q1451 : (Jvm.Cond.superclass "HeadReckons$LongRow" "HeadReckons$Row") ∈ lw_all := lw_g (lw_at lw_m6 160 rfl) rfl
theorem q1480 : (Jvm.Cond.selects "HeadReckons$LongRow" ({ cls := "HeadReckons$Row", name := "put", desc := "(IJ)Z" } : Jvm.MethodName) ({ cls := "HeadReckons$LongRow", name := "put", desc := "(IJ)Z" } : Jvm.MethodName)) ∈ lw_all := lw_g (lw_at lw_m6 189 rfl) rfl
theorem q1481 : (Jvm.Cond.instanceMethod ({ cls := "HeadReckons$LongRow", name := "put", desc := "(IJ)Z" } : Jvm.MethodName)) ∈ lw_all := lw_g (lw_at lw_m6 190 rfl) rfl
theorem q1482 : (Jvm.Cond.code ({ cls := "HeadReckons$LongRow", name := "put", desc := "(IJ)Z" } : Jvm.MethodName) prog_21_method_5_code (4 : Nat) (Option.some Jvm.ClassFile.FieldType.boolean)) ∈ lw_all := lw_g (lw_at lw_m6 191 rfl) rfl
theorem q1501 : (Jvm.Cond.selects "HeadReckons$LongRow" ({ cls := "HeadReckons$Row", name := "at", desc := "(I)J" } : Jvm.MethodName) ({ cls := "HeadReckons$LongRow", name := "at", desc := "(I)J" } : Jvm.MethodName)) ∈ lw_all := lw_g (lw_at lw_m6 210 rfl) rfl
theorem q1502 : (Jvm.Cond.instanceMethod ({ cls := "HeadReckons$LongRow", name := "at", desc := "(I)J" } : Jvm.MethodName)) ∈ lw_all := lw_g (lw_at lw_m6 211 rfl) rfl
theorem q1503 : (Jvm.Cond.code ({ cls := "HeadReckons$LongRow", name := "at", desc := "(I)J" } : Jvm.MethodName) prog_21_method_4_code (2 : Nat) (Option.some Jvm.ClassFile.FieldType.long)) ∈ lw_all := lw_g (lw_at lw_m6 212 rfl) rfl
theorem q1531 : (Jvm.Cond.selects "HeadReckons$LongRow" ({ cls := "HeadReckons$Row", name := "copy", desc := "(ILHeadReckons$Row;II)V" } : Jvm.MethodName) ({ cls := "HeadReckons$LongRow", name := "copy", desc := "(ILHeadReckons$Row;II)V" } : Jvm.MethodName)) ∈ lw_all := lw_g (lw_at lw_m7 0 rfl) rfl
theorem q1532 : (Jvm.Cond.instanceMethod ({ cls := "HeadReckons$LongRow", name := "copy", desc := "(ILHeadReckons$Row;II)V" } : Jvm.MethodName)) ∈ lw_all := lw_g (lw_at lw_m7 1 rfl) rfl
theorem q1533 : (Jvm.Cond.code ({ cls := "HeadReckons$LongRow", name := "copy", desc := "(ILHeadReckons$Row;II)V" } : Jvm.MethodName) prog_21_method_6_code (5 : Nat) (Option.none : Option Jvm.ClassFile.FieldType)) ∈ lw_all := lw_g (lw_at lw_m7 2 rfl) rfl
theorem q1534 : (Jvm.Cond.classLink "HeadReckons$LongRow" (8 : Nat) "HeadReckons$LongRow") ∈ lw_all := lw_g (lw_at lw_m7 3 rfl) rfl
theorem q1535 : (Jvm.Cond.methodLink "HeadReckons$LongRow" (13 : Nat) ({ cls := "java/lang/System", name := "arraycopy", desc := "(Ljava/lang/Object;ILjava/lang/Object;II)V" } : Jvm.MethodName)) ∈ lw_all := lw_g (lw_at lw_m7 4 rfl) rfl
theorem q2232 : (Jvm.Cond.castable "HeadReckons$LongRow" "HeadReckons$Row") ∈ lw_tbl := lw_at lw_m9 221 rfl
theorem q2252 : (Jvm.Cond.castable "HeadReckons$LongRow" "HeadReckons$Held") ∈ lw_tbl := lw_at lw_m10 1 rfl
theorem in_X29 : ∀ w ∈ wsX290, w ∈ lw_all := lw_in wsX290 [1449] (by decide +kernel) (by decide +kernel)

/-! HeadReckons$BooleanRow -/
set_option maxRecDepth 100000
def RX30 : String := "HeadReckons$BooleanRow"
def TX30 : u_T := fun k => match k with
  | _ => ("HeadReckons$BooleanRow", "items", "[Z", true)
def tyX30 : Nat → FieldType := fun k => match k with
  | _ => .array .boolean
abbrev wsX300 : List Cond := u_ws RX30 TX30 1
theorem nmX30 : ∀ a, a < 1 → ∀ b, b < 1 → a ≠ b → (TX30 a).2.1 ≠ (TX30 b).2.1 := by decide +kernel
theorem tyX30_ok : ∀ k, k < 1 → parseFieldDescriptor (TX30 k).2.2.1 = some (tyX30 k) := by decide +kernel
abbrev cX30_init : ByteArray := prog_3_method_1_code
def yX30_init : MethodName := ⟨RX30, "<init>", "(I)V"⟩
def dkwX30_init_0 : List UInt8 := [42, 183, 0, 1, 42, 27, 188, 4, 181, 0, 7, 177]
abbrev dktX30_init_0 : List UInt8 := dkwX30_init_0 ++ []
theorem dksX30_init_0 : cX30_init.data.toList.drop 0 = dktX30_init_0 := by decide +kernel
theorem dX30_init_0 : decode cX30_init 0 = .ok (.aload_n 0, 1) := dk_42 (dk_at dksX30_init_0 0 rfl rfl)
theorem dX30_init_1 : decode cX30_init 1 = .ok (.invokespecial 1, 3) := dk_183 0 1 (dk_at dksX30_init_0 1 rfl rfl)
theorem dX30_init_4 : decode cX30_init 4 = .ok (.aload_n 0, 1) := dk_42 (dk_at dksX30_init_0 4 rfl rfl)
theorem dX30_init_5 : decode cX30_init 5 = .ok (.iload_n 1, 1) := dk_27 (dk_at dksX30_init_0 5 rfl rfl)
theorem dX30_init_6 : decode cX30_init 6 = .ok (.newarray .boolean, 2) := dk_188_4 (dk_at dksX30_init_0 6 rfl rfl)
theorem dX30_init_8 : decode cX30_init 8 = .ok (.putfield 7, 3) := dk_181 0 7 (dk_at dksX30_init_0 8 rfl rfl)
theorem dX30_init_11 : decode cX30_init 11 = .ok (.return_, 1) := dk_177 (dk_at dksX30_init_0 11 rfl rfl)
abbrev cX30_put : ByteArray := prog_3_method_5_code
def yX30_put : MethodName := ⟨RX30, "put", "(IJ)Z"⟩
def dkwX30_put_0 : List UInt8 := [42, 180, 0, 7, 27, 32, 9, 148, 153, 0, 7, 4, 167, 0, 4, 3, 84, 4, 172]
abbrev dktX30_put_0 : List UInt8 := dkwX30_put_0 ++ []
theorem dksX30_put_0 : cX30_put.data.toList.drop 0 = dktX30_put_0 := by decide +kernel
theorem dX30_put_0 : decode cX30_put 0 = .ok (.aload_n 0, 1) := dk_42 (dk_at dksX30_put_0 0 rfl rfl)
theorem dX30_put_1 : decode cX30_put 1 = .ok (.getfield 7, 3) := dk_180 0 7 (dk_at dksX30_put_0 1 rfl rfl)
theorem dX30_put_4 : decode cX30_put 4 = .ok (.iload_n 1, 1) := dk_27 (dk_at dksX30_put_0 4 rfl rfl)
theorem dX30_put_5 : decode cX30_put 5 = .ok (.lload_n 2, 1) := dk_32 (dk_at dksX30_put_0 5 rfl rfl)
theorem dX30_put_6 : decode cX30_put 6 = .ok (.lconst 0, 1) := dk_9 (dk_at dksX30_put_0 6 rfl rfl)
theorem dX30_put_7 : decode cX30_put 7 = .ok (.lcmp, 1) := dk_148 (dk_at dksX30_put_0 7 rfl rfl)
theorem dX30_put_8 : decode cX30_put 8 = .ok (.ifCond .eq 7, 3) := dk_153 0 7 (dk_at dksX30_put_0 8 rfl rfl)
theorem dX30_put_11 : decode cX30_put 11 = .ok (.iconst 1, 1) := dk_4 (dk_at dksX30_put_0 11 rfl rfl)
theorem dX30_put_12 : decode cX30_put 12 = .ok (.goto 4, 3) := dk_167 0 4 (dk_at dksX30_put_0 12 rfl rfl)
theorem dX30_put_15 : decode cX30_put 15 = .ok (.iconst 0, 1) := dk_3 (dk_at dksX30_put_0 15 rfl rfl)
theorem dX30_put_16 : decode cX30_put 16 = .ok (.bastore, 1) := dk_84 (dk_at dksX30_put_0 16 rfl rfl)
theorem dX30_put_17 : decode cX30_put 17 = .ok (.iconst 1, 1) := dk_4 (dk_at dksX30_put_0 17 rfl rfl)
theorem dX30_put_18 : decode cX30_put 18 = .ok (.ireturn, 1) := dk_172 (dk_at dksX30_put_0 18 rfl rfl)
abbrev cX30_at : ByteArray := prog_3_method_4_code
def yX30_at : MethodName := ⟨RX30, "at", "(I)J"⟩
def dkwX30_at_0 : List UInt8 := [42, 180, 0, 7, 27, 51, 153, 0, 7, 10, 167, 0, 4, 9, 173]
abbrev dktX30_at_0 : List UInt8 := dkwX30_at_0 ++ []
theorem dksX30_at_0 : cX30_at.data.toList.drop 0 = dktX30_at_0 := by decide +kernel
theorem dX30_at_0 : decode cX30_at 0 = .ok (.aload_n 0, 1) := dk_42 (dk_at dksX30_at_0 0 rfl rfl)
theorem dX30_at_1 : decode cX30_at 1 = .ok (.getfield 7, 3) := dk_180 0 7 (dk_at dksX30_at_0 1 rfl rfl)
theorem dX30_at_4 : decode cX30_at 4 = .ok (.iload_n 1, 1) := dk_27 (dk_at dksX30_at_0 4 rfl rfl)
theorem dX30_at_5 : decode cX30_at 5 = .ok (.baload, 1) := dk_51 (dk_at dksX30_at_0 5 rfl rfl)
theorem dX30_at_6 : decode cX30_at 6 = .ok (.ifCond .eq 7, 3) := dk_153 0 7 (dk_at dksX30_at_0 6 rfl rfl)
theorem dX30_at_9 : decode cX30_at 9 = .ok (.lconst 1, 1) := dk_10 (dk_at dksX30_at_0 9 rfl rfl)
theorem dX30_at_10 : decode cX30_at 10 = .ok (.goto 4, 3) := dk_167 0 4 (dk_at dksX30_at_0 10 rfl rfl)
theorem dX30_at_13 : decode cX30_at 13 = .ok (.lconst 0, 1) := dk_9 (dk_at dksX30_at_0 13 rfl rfl)
theorem dX30_at_14 : decode cX30_at 14 = .ok (.lreturn, 1) := dk_173 (dk_at dksX30_at_0 14 rfl rfl)
abbrev cX30_copy : ByteArray := prog_3_method_6_code
def yX30_copy : MethodName := ⟨RX30, "copy", "(ILHeadReckons$Row;II)V"⟩
def dkwX30_copy_0 : List UInt8 := [42, 180, 0, 7, 27, 44, 192, 0, 8, 180, 0, 7, 29, 21, 4, 184, 0, 13, 177]
abbrev dktX30_copy_0 : List UInt8 := dkwX30_copy_0 ++ []
theorem dksX30_copy_0 : cX30_copy.data.toList.drop 0 = dktX30_copy_0 := by decide +kernel
theorem dX30_copy_0 : decode cX30_copy 0 = .ok (.aload_n 0, 1) := dk_42 (dk_at dksX30_copy_0 0 rfl rfl)
theorem dX30_copy_1 : decode cX30_copy 1 = .ok (.getfield 7, 3) := dk_180 0 7 (dk_at dksX30_copy_0 1 rfl rfl)
theorem dX30_copy_4 : decode cX30_copy 4 = .ok (.iload_n 1, 1) := dk_27 (dk_at dksX30_copy_0 4 rfl rfl)
theorem dX30_copy_5 : decode cX30_copy 5 = .ok (.aload_n 2, 1) := dk_44 (dk_at dksX30_copy_0 5 rfl rfl)
theorem dX30_copy_6 : decode cX30_copy 6 = .ok (.checkcast 8, 3) := dk_192 0 8 (dk_at dksX30_copy_0 6 rfl rfl)
theorem dX30_copy_9 : decode cX30_copy 9 = .ok (.getfield 7, 3) := dk_180 0 7 (dk_at dksX30_copy_0 9 rfl rfl)
theorem dX30_copy_12 : decode cX30_copy 12 = .ok (.iload_n 3, 1) := dk_29 (dk_at dksX30_copy_0 12 rfl rfl)
theorem dX30_copy_13 : decode cX30_copy 13 = .ok (.iload 4, 2) := dk_21 4 (dk_at dksX30_copy_0 13 rfl rfl)
theorem dX30_copy_15 : decode cX30_copy 15 = .ok (.invokestatic 13, 3) := dk_184 0 13 (dk_at dksX30_copy_0 15 rfl rfl)
theorem dX30_copy_18 : decode cX30_copy 18 = .ok (.return_, 1) := dk_177 (dk_at dksX30_copy_0 18 rfl rfl)
theorem q136 : (Jvm.Cond.initialized "HeadReckons$BooleanRow") ∈ lw_all := lw_g (lw_at lw_m1 45 rfl) rfl
theorem q1453 : (Jvm.Cond.instantiable "HeadReckons$BooleanRow" (1 : Nat)) ∈ lw_all := lw_g (lw_at lw_m6 162 rfl) rfl
theorem q1455 : (Jvm.Cond.instanceMethod ({ cls := "HeadReckons$BooleanRow", name := "<init>", desc := "(I)V" } : Jvm.MethodName)) ∈ lw_all := lw_g (lw_at lw_m6 164 rfl) rfl
theorem q1456 : (Jvm.Cond.code ({ cls := "HeadReckons$BooleanRow", name := "<init>", desc := "(I)V" } : Jvm.MethodName) prog_3_method_1_code (2 : Nat) (Option.none : Option Jvm.ClassFile.FieldType)) ∈ lw_all := lw_g (lw_at lw_m6 165 rfl) rfl
theorem q1457 : (Jvm.Cond.methodLinkNest "HeadReckons$BooleanRow" (1 : Nat) ({ cls := "HeadReckons$Row", name := "<init>", desc := "()V" } : Jvm.MethodName) "HeadReckons") ∈ lw_tbl := lw_at lw_m6 166 rfl
theorem q1458 : (Jvm.Cond.fieldLink "HeadReckons$BooleanRow" (7 : Nat) "HeadReckons$BooleanRow" "items" "[Z") ∈ lw_all := lw_g (lw_at lw_m6 167 rfl) rfl
theorem q1459 : (Jvm.Cond.laysFinal "HeadReckons$BooleanRow" "HeadReckons$BooleanRow" "items" "[Z") ∈ lw_all := lw_g (lw_at lw_m6 168 rfl) rfl
theorem q1460 : (Jvm.Cond.soleField "HeadReckons$BooleanRow" "items") ∈ lw_all := lw_g (lw_at lw_m6 169 rfl) rfl
theorem q1461 : (Jvm.Cond.superclass "HeadReckons$BooleanRow" "HeadReckons$Row") ∈ lw_all := lw_g (lw_at lw_m6 170 rfl) rfl
theorem q1471 : (Jvm.Cond.selects "HeadReckons$BooleanRow" ({ cls := "HeadReckons$Row", name := "put", desc := "(IJ)Z" } : Jvm.MethodName) ({ cls := "HeadReckons$BooleanRow", name := "put", desc := "(IJ)Z" } : Jvm.MethodName)) ∈ lw_all := lw_g (lw_at lw_m6 180 rfl) rfl
theorem q1472 : (Jvm.Cond.instanceMethod ({ cls := "HeadReckons$BooleanRow", name := "put", desc := "(IJ)Z" } : Jvm.MethodName)) ∈ lw_all := lw_g (lw_at lw_m6 181 rfl) rfl
theorem q1473 : (Jvm.Cond.code ({ cls := "HeadReckons$BooleanRow", name := "put", desc := "(IJ)Z" } : Jvm.MethodName) prog_3_method_5_code (4 : Nat) (Option.some Jvm.ClassFile.FieldType.boolean)) ∈ lw_all := lw_g (lw_at lw_m6 182 rfl) rfl
theorem q1494 : (Jvm.Cond.selects "HeadReckons$BooleanRow" ({ cls := "HeadReckons$Row", name := "at", desc := "(I)J" } : Jvm.MethodName) ({ cls := "HeadReckons$BooleanRow", name := "at", desc := "(I)J" } : Jvm.MethodName)) ∈ lw_all := lw_g (lw_at lw_m6 203 rfl) rfl
theorem q1495 : (Jvm.Cond.instanceMethod ({ cls := "HeadReckons$BooleanRow", name := "at", desc := "(I)J" } : Jvm.MethodName)) ∈ lw_all := lw_g (lw_at lw_m6 204 rfl) rfl
theorem q1496 : (Jvm.Cond.code ({ cls := "HeadReckons$BooleanRow", name := "at", desc := "(I)J" } : Jvm.MethodName) prog_3_method_4_code (2 : Nat) (Option.some Jvm.ClassFile.FieldType.long)) ∈ lw_all := lw_g (lw_at lw_m6 205 rfl) rfl
theorem q1514 : (Jvm.Cond.selects "HeadReckons$BooleanRow" ({ cls := "HeadReckons$Row", name := "copy", desc := "(ILHeadReckons$Row;II)V" } : Jvm.MethodName) ({ cls := "HeadReckons$BooleanRow", name := "copy", desc := "(ILHeadReckons$Row;II)V" } : Jvm.MethodName)) ∈ lw_all := lw_g (lw_at lw_m6 223 rfl) rfl
theorem q1515 : (Jvm.Cond.instanceMethod ({ cls := "HeadReckons$BooleanRow", name := "copy", desc := "(ILHeadReckons$Row;II)V" } : Jvm.MethodName)) ∈ lw_all := lw_g (lw_at lw_m6 224 rfl) rfl
theorem q1516 : (Jvm.Cond.code ({ cls := "HeadReckons$BooleanRow", name := "copy", desc := "(ILHeadReckons$Row;II)V" } : Jvm.MethodName) prog_3_method_6_code (5 : Nat) (Option.none : Option Jvm.ClassFile.FieldType)) ∈ lw_all := lw_g (lw_at lw_m6 225 rfl) rfl
theorem q1517 : (Jvm.Cond.classLink "HeadReckons$BooleanRow" (8 : Nat) "HeadReckons$BooleanRow") ∈ lw_all := lw_g (lw_at lw_m6 226 rfl) rfl
theorem q1518 : (Jvm.Cond.methodLink "HeadReckons$BooleanRow" (13 : Nat) ({ cls := "java/lang/System", name := "arraycopy", desc := "(Ljava/lang/Object;ILjava/lang/Object;II)V" } : Jvm.MethodName)) ∈ lw_all := lw_g (lw_at lw_m6 227 rfl) rfl
theorem q2229 : (Jvm.Cond.castable "HeadReckons$BooleanRow" "HeadReckons$Row") ∈ lw_tbl := lw_at lw_m9 218 rfl
theorem q2253 : (Jvm.Cond.castable "HeadReckons$BooleanRow" "HeadReckons$Held") ∈ lw_tbl := lw_at lw_m10 2 rfl
theorem in_X30 : ∀ w ∈ wsX300, w ∈ lw_all := lw_in wsX300 [1459] (by decide +kernel) (by decide +kernel)

/-! HeadReckons -/
set_option maxRecDepth 100000
def RX0 : String := "HeadReckons"
def TX0 : u_T := fun k => match k with
  | 0 => ("HeadReckons", "tape", "[B", true)
  | 1 => ("HeadReckons", "taped", "I", false)
  | 2 => ("HeadReckons", "heads", "[LHeadReckons$Head;", true)
  | 3 => ("HeadReckons", "headMany", "I", false)
  | 4 => ("HeadReckons", "changes", "[LHeadReckons$Change;", true)
  | 5 => ("HeadReckons", "doneMany", "I", false)
  | 6 => ("HeadReckons", "undoneMany", "I", false)
  | 7 => ("HeadReckons", "law", "LHeadReckons$Line;", false)
  | 8 => ("HeadReckons", "facts", "LHeadReckons$Facts;", true)
  | 9 => ("HeadReckons", "acts", "LHeadReckons$Acts;", true)
  | 10 => ("HeadReckons", "seen", "[LHeadReckons$Seen;", true)
  | 11 => ("HeadReckons", "seenMany", "I", false)
  | 12 => ("HeadReckons", "told", "[I", true)
  | 13 => ("HeadReckons", "toldMany", "I", false)
  | 14 => ("HeadReckons", "pupil", "LHeadReckons$Head;", true)
  | 15 => ("HeadReckons", "bestOrder", "I", false)
  | 16 => ("HeadReckons", "bestSeconds", "I", false)
  | 17 => ("HeadReckons", "leastFirst", "J", false)
  | 18 => ("HeadReckons", "traces", "I", false)
  | 19 => ("HeadReckons", "traced", "[B", true)
  | 20 => ("HeadReckons", "bodies", "[LHeadReckons$Way;", true)
  | 21 => ("HeadReckons", "bodyMany", "I", false)
  | _ => ("HeadReckons", "shelves", "[LHeadReckons$Held;", true)
def tyX0 : Nat → FieldType := fun k => match k with
  | 0 => .array .byte
  | 1 => .int
  | 2 => .array (.object "HeadReckons$Head")
  | 3 => .int
  | 4 => .array (.object "HeadReckons$Change")
  | 5 => .int
  | 6 => .int
  | 7 => .object "HeadReckons$Line"
  | 8 => .object "HeadReckons$Facts"
  | 9 => .object "HeadReckons$Acts"
  | 10 => .array (.object "HeadReckons$Seen")
  | 11 => .int
  | 12 => .array .int
  | 13 => .int
  | 14 => .object "HeadReckons$Head"
  | 15 => .int
  | 16 => .int
  | 17 => .long
  | 18 => .int
  | 19 => .array .byte
  | 20 => .array (.object "HeadReckons$Way")
  | 21 => .int
  | _ => .array (.object "HeadReckons$Held")
abbrev wsX00 : List Cond := u_ws RX0 TX0 23
set_option maxRecDepth 100000 in
theorem nmX0 : ∀ a, a < 23 → ∀ b, b < 23 → a ≠ b → (TX0 a).2.1 ≠ (TX0 b).2.1 := by decide +kernel
set_option maxRecDepth 100000 in
theorem tyX0_ok : ∀ k, k < 23 → parseFieldDescriptor (TX0 k).2.2.1 = some (tyX0 k) := by decide +kernel
abbrev cX0_init : ByteArray := prog_1_method_1_code
def yX0_init : MethodName := ⟨RX0, "<init>", "()V"⟩
def dkwX0_init_4 : List UInt8 := [181, 0, 61, 42, 16, 6, 189, 0, 65, 181, 0, 67, 177]
abbrev dktX0_init_4 : List UInt8 := dkwX0_init_4 ++ []
def dkwX0_init_3 : List UInt8 := [187, 0, 13, 89, 183, 0, 51, 181, 0, 52, 42, 16, 24, 188, 8, 181, 0, 56, 42, 16, 50, 189, 0, 59]
abbrev dktX0_init_3 : List UInt8 := dkwX0_init_3 ++ dktX0_init_4
def dkwX0_init_2 : List UInt8 := [183, 0, 34, 181, 0, 37, 42, 16, 40, 189, 0, 41, 181, 0, 43, 42, 16, 8, 188, 10, 181, 0, 47, 42]
abbrev dktX0_init_2 : List UInt8 := dkwX0_init_2 ++ dktX0_init_3
def dkwX0_init_1 : List UInt8 := [189, 0, 19, 181, 0, 21, 42, 187, 0, 25, 89, 183, 0, 27, 181, 0, 28, 42, 187, 0, 32, 89, 42]
abbrev dktX0_init_1 : List UInt8 := dkwX0_init_1 ++ dktX0_init_2
def dkwX0_init_0 : List UInt8 := [42, 183, 0, 1, 42, 16, 120, 188, 8, 181, 0, 9, 42, 16, 6, 189, 0, 13, 181, 0, 15, 42, 16, 40]
abbrev dktX0_init_0 : List UInt8 := dkwX0_init_0 ++ dktX0_init_1
theorem dksX0_init_0 : cX0_init.data.toList.drop 0 = dktX0_init_0 := by decide +kernel
theorem dksX0_init_1 : cX0_init.data.toList.drop 24 = dktX0_init_1 := dk_seg dksX0_init_0 24 rfl rfl
theorem dksX0_init_2 : cX0_init.data.toList.drop 47 = dktX0_init_2 := dk_seg dksX0_init_1 23 rfl rfl
theorem dksX0_init_3 : cX0_init.data.toList.drop 71 = dktX0_init_3 := dk_seg dksX0_init_2 24 rfl rfl
theorem dksX0_init_4 : cX0_init.data.toList.drop 95 = dktX0_init_4 := dk_seg dksX0_init_3 24 rfl rfl
theorem dX0_init_0 : decode cX0_init 0 = .ok (.aload_n 0, 1) := dk_42 (dk_at dksX0_init_0 0 rfl rfl)
theorem dX0_init_1 : decode cX0_init 1 = .ok (.invokespecial 1, 3) := dk_183 0 1 (dk_at dksX0_init_0 1 rfl rfl)
theorem dX0_init_4 : decode cX0_init 4 = .ok (.aload_n 0, 1) := dk_42 (dk_at dksX0_init_0 4 rfl rfl)
theorem dX0_init_5 : decode cX0_init 5 = .ok (.bipush 120, 2) := dk_16 120 (dk_at dksX0_init_0 5 rfl rfl)
theorem dX0_init_7 : decode cX0_init 7 = .ok (.newarray .byte, 2) := dk_188_8 (dk_at dksX0_init_0 7 rfl rfl)
theorem dX0_init_9 : decode cX0_init 9 = .ok (.putfield 9, 3) := dk_181 0 9 (dk_at dksX0_init_0 9 rfl rfl)
theorem dX0_init_12 : decode cX0_init 12 = .ok (.aload_n 0, 1) := dk_42 (dk_at dksX0_init_0 12 rfl rfl)
theorem dX0_init_13 : decode cX0_init 13 = .ok (.bipush 6, 2) := dk_16 6 (dk_at dksX0_init_0 13 rfl rfl)
theorem dX0_init_15 : decode cX0_init 15 = .ok (.anewarray 13, 3) := dk_189 0 13 (dk_at dksX0_init_0 15 rfl rfl)
theorem dX0_init_18 : decode cX0_init 18 = .ok (.putfield 15, 3) := dk_181 0 15 (dk_at dksX0_init_0 18 rfl rfl)
theorem dX0_init_21 : decode cX0_init 21 = .ok (.aload_n 0, 1) := dk_42 (dk_at dksX0_init_0 21 rfl rfl)
theorem dX0_init_22 : decode cX0_init 22 = .ok (.bipush 40, 2) := dk_16 40 (dk_at dksX0_init_0 22 rfl rfl)
theorem dX0_init_24 : decode cX0_init 24 = .ok (.anewarray 19, 3) := dk_189 0 19 (dk_at dksX0_init_1 0 rfl rfl)
theorem dX0_init_27 : decode cX0_init 27 = .ok (.putfield 21, 3) := dk_181 0 21 (dk_at dksX0_init_1 3 rfl rfl)
theorem dX0_init_30 : decode cX0_init 30 = .ok (.aload_n 0, 1) := dk_42 (dk_at dksX0_init_1 6 rfl rfl)
theorem dX0_init_31 : decode cX0_init 31 = .ok (.new 25, 3) := dk_187 0 25 (dk_at dksX0_init_1 7 rfl rfl)
theorem dX0_init_34 : decode cX0_init 34 = .ok (.dup, 1) := dk_89 (dk_at dksX0_init_1 10 rfl rfl)
theorem dX0_init_35 : decode cX0_init 35 = .ok (.invokespecial 27, 3) := dk_183 0 27 (dk_at dksX0_init_1 11 rfl rfl)
theorem dX0_init_38 : decode cX0_init 38 = .ok (.putfield 28, 3) := dk_181 0 28 (dk_at dksX0_init_1 14 rfl rfl)
theorem dX0_init_41 : decode cX0_init 41 = .ok (.aload_n 0, 1) := dk_42 (dk_at dksX0_init_1 17 rfl rfl)
theorem dX0_init_42 : decode cX0_init 42 = .ok (.new 32, 3) := dk_187 0 32 (dk_at dksX0_init_1 18 rfl rfl)
theorem dX0_init_45 : decode cX0_init 45 = .ok (.dup, 1) := dk_89 (dk_at dksX0_init_1 21 rfl rfl)
theorem dX0_init_46 : decode cX0_init 46 = .ok (.aload_n 0, 1) := dk_42 (dk_at dksX0_init_1 22 rfl rfl)
theorem dX0_init_47 : decode cX0_init 47 = .ok (.invokespecial 34, 3) := dk_183 0 34 (dk_at dksX0_init_2 0 rfl rfl)
theorem dX0_init_50 : decode cX0_init 50 = .ok (.putfield 37, 3) := dk_181 0 37 (dk_at dksX0_init_2 3 rfl rfl)
theorem dX0_init_53 : decode cX0_init 53 = .ok (.aload_n 0, 1) := dk_42 (dk_at dksX0_init_2 6 rfl rfl)
theorem dX0_init_54 : decode cX0_init 54 = .ok (.bipush 40, 2) := dk_16 40 (dk_at dksX0_init_2 7 rfl rfl)
theorem dX0_init_56 : decode cX0_init 56 = .ok (.anewarray 41, 3) := dk_189 0 41 (dk_at dksX0_init_2 9 rfl rfl)
theorem dX0_init_59 : decode cX0_init 59 = .ok (.putfield 43, 3) := dk_181 0 43 (dk_at dksX0_init_2 12 rfl rfl)
theorem dX0_init_62 : decode cX0_init 62 = .ok (.aload_n 0, 1) := dk_42 (dk_at dksX0_init_2 15 rfl rfl)
theorem dX0_init_63 : decode cX0_init 63 = .ok (.bipush 8, 2) := dk_16 8 (dk_at dksX0_init_2 16 rfl rfl)
theorem dX0_init_65 : decode cX0_init 65 = .ok (.newarray .int, 2) := dk_188_10 (dk_at dksX0_init_2 18 rfl rfl)
theorem dX0_init_67 : decode cX0_init 67 = .ok (.putfield 47, 3) := dk_181 0 47 (dk_at dksX0_init_2 20 rfl rfl)
theorem dX0_init_70 : decode cX0_init 70 = .ok (.aload_n 0, 1) := dk_42 (dk_at dksX0_init_2 23 rfl rfl)
theorem dX0_init_71 : decode cX0_init 71 = .ok (.new 13, 3) := dk_187 0 13 (dk_at dksX0_init_3 0 rfl rfl)
theorem dX0_init_74 : decode cX0_init 74 = .ok (.dup, 1) := dk_89 (dk_at dksX0_init_3 3 rfl rfl)
theorem dX0_init_75 : decode cX0_init 75 = .ok (.invokespecial 51, 3) := dk_183 0 51 (dk_at dksX0_init_3 4 rfl rfl)
theorem dX0_init_78 : decode cX0_init 78 = .ok (.putfield 52, 3) := dk_181 0 52 (dk_at dksX0_init_3 7 rfl rfl)
theorem dX0_init_81 : decode cX0_init 81 = .ok (.aload_n 0, 1) := dk_42 (dk_at dksX0_init_3 10 rfl rfl)
theorem dX0_init_82 : decode cX0_init 82 = .ok (.bipush 24, 2) := dk_16 24 (dk_at dksX0_init_3 11 rfl rfl)
theorem dX0_init_84 : decode cX0_init 84 = .ok (.newarray .byte, 2) := dk_188_8 (dk_at dksX0_init_3 13 rfl rfl)
theorem dX0_init_86 : decode cX0_init 86 = .ok (.putfield 56, 3) := dk_181 0 56 (dk_at dksX0_init_3 15 rfl rfl)
theorem dX0_init_89 : decode cX0_init 89 = .ok (.aload_n 0, 1) := dk_42 (dk_at dksX0_init_3 18 rfl rfl)
theorem dX0_init_90 : decode cX0_init 90 = .ok (.bipush 50, 2) := dk_16 50 (dk_at dksX0_init_3 19 rfl rfl)
theorem dX0_init_92 : decode cX0_init 92 = .ok (.anewarray 59, 3) := dk_189 0 59 (dk_at dksX0_init_3 21 rfl rfl)
theorem dX0_init_95 : decode cX0_init 95 = .ok (.putfield 61, 3) := dk_181 0 61 (dk_at dksX0_init_4 0 rfl rfl)
theorem dX0_init_98 : decode cX0_init 98 = .ok (.aload_n 0, 1) := dk_42 (dk_at dksX0_init_4 3 rfl rfl)
theorem dX0_init_99 : decode cX0_init 99 = .ok (.bipush 6, 2) := dk_16 6 (dk_at dksX0_init_4 4 rfl rfl)
theorem dX0_init_101 : decode cX0_init 101 = .ok (.anewarray 65, 3) := dk_189 0 65 (dk_at dksX0_init_4 6 rfl rfl)
theorem dX0_init_104 : decode cX0_init 104 = .ok (.putfield 67, 3) := dk_181 0 67 (dk_at dksX0_init_4 9 rfl rfl)
theorem dX0_init_107 : decode cX0_init 107 = .ok (.return_, 1) := dk_177 (dk_at dksX0_init_4 12 rfl rfl)
abbrev cX0_feed : ByteArray := prog_1_method_5_code
def yX0_feed : MethodName := ⟨RX0, "feed", "(II)I"⟩
def dkwX0_feed_2 : List UInt8 := [42, 89, 180, 0, 77, 4, 96, 181, 0, 77, 132, 3, 1, 167, 255, 222, 42, 180, 0, 77, 172]
abbrev dktX0_feed_2 : List UInt8 := dkwX0_feed_2 ++ []
def dkwX0_feed_1 : List UInt8 := [172, 3, 62, 29, 27, 162, 0, 35, 42, 180, 0, 9, 42, 180, 0, 77, 28, 16, 8, 29, 104, 122, 145, 84]
abbrev dktX0_feed_1 : List UInt8 := dkwX0_feed_1 ++ dktX0_feed_2
def dkwX0_feed_0 : List UInt8 := [27, 4, 7, 184, 0, 73, 154, 0, 5, 2, 172, 42, 180, 0, 77, 27, 96, 16, 120, 164, 0, 6, 16, 253]
abbrev dktX0_feed_0 : List UInt8 := dkwX0_feed_0 ++ dktX0_feed_1
theorem dksX0_feed_0 : cX0_feed.data.toList.drop 0 = dktX0_feed_0 := by decide +kernel
theorem dksX0_feed_1 : cX0_feed.data.toList.drop 24 = dktX0_feed_1 := dk_seg dksX0_feed_0 24 rfl rfl
theorem dksX0_feed_2 : cX0_feed.data.toList.drop 48 = dktX0_feed_2 := dk_seg dksX0_feed_1 24 rfl rfl
theorem dX0_feed_0 : decode cX0_feed 0 = .ok (.iload_n 1, 1) := dk_27 (dk_at dksX0_feed_0 0 rfl rfl)
theorem dX0_feed_1 : decode cX0_feed 1 = .ok (.iconst 1, 1) := dk_4 (dk_at dksX0_feed_0 1 rfl rfl)
theorem dX0_feed_2 : decode cX0_feed 2 = .ok (.iconst 4, 1) := dk_7 (dk_at dksX0_feed_0 2 rfl rfl)
theorem dX0_feed_3 : decode cX0_feed 3 = .ok (.invokestatic 73, 3) := dk_184 0 73 (dk_at dksX0_feed_0 3 rfl rfl)
theorem dX0_feed_6 : decode cX0_feed 6 = .ok (.ifCond .ne 5, 3) := dk_154 0 5 (dk_at dksX0_feed_0 6 rfl rfl)
theorem dX0_feed_9 : decode cX0_feed 9 = .ok (.iconst (-1), 1) := dk_2 (dk_at dksX0_feed_0 9 rfl rfl)
theorem dX0_feed_10 : decode cX0_feed 10 = .ok (.ireturn, 1) := dk_172 (dk_at dksX0_feed_0 10 rfl rfl)
theorem dX0_feed_11 : decode cX0_feed 11 = .ok (.aload_n 0, 1) := dk_42 (dk_at dksX0_feed_0 11 rfl rfl)
theorem dX0_feed_12 : decode cX0_feed 12 = .ok (.getfield 77, 3) := dk_180 0 77 (dk_at dksX0_feed_0 12 rfl rfl)
theorem dX0_feed_15 : decode cX0_feed 15 = .ok (.iload_n 1, 1) := dk_27 (dk_at dksX0_feed_0 15 rfl rfl)
theorem dX0_feed_16 : decode cX0_feed 16 = .ok (.iadd, 1) := dk_96 (dk_at dksX0_feed_0 16 rfl rfl)
theorem dX0_feed_17 : decode cX0_feed 17 = .ok (.bipush 120, 2) := dk_16 120 (dk_at dksX0_feed_0 17 rfl rfl)
theorem dX0_feed_19 : decode cX0_feed 19 = .ok (.if_icmp .le 6, 3) := dk_164 0 6 (dk_at dksX0_feed_0 19 rfl rfl)
theorem dX0_feed_22 : decode cX0_feed 22 = .ok (.bipush (-3), 2) := dk_16 253 (dk_at dksX0_feed_0 22 rfl rfl)
theorem dX0_feed_24 : decode cX0_feed 24 = .ok (.ireturn, 1) := dk_172 (dk_at dksX0_feed_1 0 rfl rfl)
theorem dX0_feed_25 : decode cX0_feed 25 = .ok (.iconst 0, 1) := dk_3 (dk_at dksX0_feed_1 1 rfl rfl)
theorem dX0_feed_26 : decode cX0_feed 26 = .ok (.istore_n 3, 1) := dk_62 (dk_at dksX0_feed_1 2 rfl rfl)
theorem dX0_feed_27 : decode cX0_feed 27 = .ok (.iload_n 3, 1) := dk_29 (dk_at dksX0_feed_1 3 rfl rfl)
theorem dX0_feed_28 : decode cX0_feed 28 = .ok (.iload_n 1, 1) := dk_27 (dk_at dksX0_feed_1 4 rfl rfl)
theorem dX0_feed_29 : decode cX0_feed 29 = .ok (.if_icmp .ge 35, 3) := dk_162 0 35 (dk_at dksX0_feed_1 5 rfl rfl)
theorem dX0_feed_32 : decode cX0_feed 32 = .ok (.aload_n 0, 1) := dk_42 (dk_at dksX0_feed_1 8 rfl rfl)
theorem dX0_feed_33 : decode cX0_feed 33 = .ok (.getfield 9, 3) := dk_180 0 9 (dk_at dksX0_feed_1 9 rfl rfl)
theorem dX0_feed_36 : decode cX0_feed 36 = .ok (.aload_n 0, 1) := dk_42 (dk_at dksX0_feed_1 12 rfl rfl)
theorem dX0_feed_37 : decode cX0_feed 37 = .ok (.getfield 77, 3) := dk_180 0 77 (dk_at dksX0_feed_1 13 rfl rfl)
theorem dX0_feed_40 : decode cX0_feed 40 = .ok (.iload_n 2, 1) := dk_28 (dk_at dksX0_feed_1 16 rfl rfl)
theorem dX0_feed_41 : decode cX0_feed 41 = .ok (.bipush 8, 2) := dk_16 8 (dk_at dksX0_feed_1 17 rfl rfl)
theorem dX0_feed_43 : decode cX0_feed 43 = .ok (.iload_n 3, 1) := dk_29 (dk_at dksX0_feed_1 19 rfl rfl)
theorem dX0_feed_44 : decode cX0_feed 44 = .ok (.imul, 1) := dk_104 (dk_at dksX0_feed_1 20 rfl rfl)
theorem dX0_feed_45 : decode cX0_feed 45 = .ok (.ishr, 1) := dk_122 (dk_at dksX0_feed_1 21 rfl rfl)
theorem dX0_feed_46 : decode cX0_feed 46 = .ok (.i2b, 1) := dk_145 (dk_at dksX0_feed_1 22 rfl rfl)
theorem dX0_feed_47 : decode cX0_feed 47 = .ok (.bastore, 1) := dk_84 (dk_at dksX0_feed_1 23 rfl rfl)
theorem dX0_feed_48 : decode cX0_feed 48 = .ok (.aload_n 0, 1) := dk_42 (dk_at dksX0_feed_2 0 rfl rfl)
theorem dX0_feed_49 : decode cX0_feed 49 = .ok (.dup, 1) := dk_89 (dk_at dksX0_feed_2 1 rfl rfl)
theorem dX0_feed_50 : decode cX0_feed 50 = .ok (.getfield 77, 3) := dk_180 0 77 (dk_at dksX0_feed_2 2 rfl rfl)
theorem dX0_feed_53 : decode cX0_feed 53 = .ok (.iconst 1, 1) := dk_4 (dk_at dksX0_feed_2 5 rfl rfl)
theorem dX0_feed_54 : decode cX0_feed 54 = .ok (.iadd, 1) := dk_96 (dk_at dksX0_feed_2 6 rfl rfl)
theorem dX0_feed_55 : decode cX0_feed 55 = .ok (.putfield 77, 3) := dk_181 0 77 (dk_at dksX0_feed_2 7 rfl rfl)
theorem dX0_feed_58 : decode cX0_feed 58 = .ok (.iinc 3 1, 3) := dk_132 3 1 (dk_at dksX0_feed_2 10 rfl rfl)
theorem dX0_feed_61 : decode cX0_feed 61 = .ok (.goto (-34), 3) := dk_167 255 222 (dk_at dksX0_feed_2 13 rfl rfl)
theorem dX0_feed_64 : decode cX0_feed 64 = .ok (.aload_n 0, 1) := dk_42 (dk_at dksX0_feed_2 16 rfl rfl)
theorem dX0_feed_65 : decode cX0_feed 65 = .ok (.getfield 77, 3) := dk_180 0 77 (dk_at dksX0_feed_2 17 rfl rfl)
theorem dX0_feed_68 : decode cX0_feed 68 = .ok (.ireturn, 1) := dk_172 (dk_at dksX0_feed_2 20 rfl rfl)
abbrev cX0_in : ByteArray := prog_1_method_2_code
def yX0_in : MethodName := ⟨RX0, "in", "(III)Z"⟩
def dkwX0_in_0 : List UInt8 := [26, 27, 161, 0, 12, 26, 28, 163, 0, 7, 4, 167, 0, 4, 3, 172]
abbrev dktX0_in_0 : List UInt8 := dkwX0_in_0 ++ []
theorem dksX0_in_0 : cX0_in.data.toList.drop 0 = dktX0_in_0 := by decide +kernel
theorem dX0_in_0 : decode cX0_in 0 = .ok (.iload_n 0, 1) := dk_26 (dk_at dksX0_in_0 0 rfl rfl)
theorem dX0_in_1 : decode cX0_in 1 = .ok (.iload_n 1, 1) := dk_27 (dk_at dksX0_in_0 1 rfl rfl)
theorem dX0_in_2 : decode cX0_in 2 = .ok (.if_icmp .lt 12, 3) := dk_161 0 12 (dk_at dksX0_in_0 2 rfl rfl)
theorem dX0_in_5 : decode cX0_in 5 = .ok (.iload_n 0, 1) := dk_26 (dk_at dksX0_in_0 5 rfl rfl)
theorem dX0_in_6 : decode cX0_in 6 = .ok (.iload_n 2, 1) := dk_28 (dk_at dksX0_in_0 6 rfl rfl)
theorem dX0_in_7 : decode cX0_in 7 = .ok (.if_icmp .gt 7, 3) := dk_163 0 7 (dk_at dksX0_in_0 7 rfl rfl)
theorem dX0_in_10 : decode cX0_in 10 = .ok (.iconst 1, 1) := dk_4 (dk_at dksX0_in_0 10 rfl rfl)
theorem dX0_in_11 : decode cX0_in 11 = .ok (.goto 4, 3) := dk_167 0 4 (dk_at dksX0_in_0 11 rfl rfl)
theorem dX0_in_14 : decode cX0_in 14 = .ok (.iconst 0, 1) := dk_3 (dk_at dksX0_in_0 14 rfl rfl)
theorem dX0_in_15 : decode cX0_in 15 = .ok (.ireturn, 1) := dk_172 (dk_at dksX0_in_0 15 rfl rfl)
abbrev cX0_head : ByteArray := prog_1_method_8_code
def yX0_head : MethodName := ⟨RX0, "head", "()I"⟩
def dkwX0_head_11 : List UInt8 := [100, 172]
abbrev dktX0_head_11 : List UInt8 := dkwX0_head_11 ++ []
def dkwX0_head_10 : List UInt8 := [180, 0, 15, 42, 180, 0, 81, 43, 83, 42, 89, 180, 0, 81, 4, 96, 181, 0, 81, 42, 180, 0, 81, 4]
abbrev dktX0_head_10 : List UInt8 := dkwX0_head_10 ++ dktX0_head_11
def dkwX0_head_9 : List UInt8 := [180, 0, 77, 162, 0, 5, 29, 61, 42, 3, 181, 0, 77, 28, 155, 0, 8, 16, 156, 28, 100, 172, 42]
abbrev dktX0_head_9 : List UInt8 := dkwX0_head_9 ++ dktX0_head_10
def dkwX0_head_8 : List UInt8 := [21, 6, 61, 43, 180, 0, 88, 21, 4, 21, 7, 79, 132, 4, 1, 167, 255, 80, 28, 156, 0, 13, 29, 42]
abbrev dktX0_head_8 : List UInt8 := dkwX0_head_8 ++ dktX0_head_9
def dkwX0_head_7 : List UInt8 := [54, 7, 132, 3, 1, 167, 255, 204, 29, 21, 6, 159, 0, 13, 21, 4, 21, 7, 184, 0, 84, 154, 0, 6]
abbrev dktX0_head_7 : List UInt8 := dkwX0_head_7 ++ dktX0_head_8
def dkwX0_head_6 : List UInt8 := [16, 57, 184, 0, 73, 153, 0, 26, 16, 10, 21, 7, 104, 42, 180, 0, 9, 29, 51, 96, 16, 48, 100]
abbrev dktX0_head_6 : List UInt8 := dkwX0_head_6 ++ dktX0_head_7
def dkwX0_head_5 : List UInt8 := [29, 42, 180, 0, 77, 162, 0, 50, 29, 21, 6, 5, 96, 162, 0, 42, 42, 180, 0, 9, 29, 51, 16, 48]
abbrev dktX0_head_5 : List UInt8 := dkwX0_head_5 ++ dktX0_head_6
def dkwX0_head_4 : List UInt8 := [180, 0, 9, 29, 51, 21, 5, 159, 0, 8, 29, 61, 167, 0, 101, 132, 3, 1, 29, 54, 6, 3, 54, 7]
abbrev dktX0_head_4 : List UInt8 := dkwX0_head_4 ++ dktX0_head_5
def dkwX0_head_3 : List UInt8 := [6, 160, 0, 8, 16, 116, 167, 0, 5, 16, 99, 54, 5, 29, 42, 180, 0, 77, 162, 0, 14, 42]
abbrev dktX0_head_3 : List UInt8 := dkwX0_head_3 ++ dktX0_head_4
def dkwX0_head_2 : List UInt8 := [21, 4, 4, 160, 0, 8, 16, 97, 167, 0, 27, 21, 4, 5, 160, 0, 8, 16, 104, 167, 0, 16, 21, 4]
abbrev dktX0_head_2 : List UInt8 := dkwX0_head_2 ++ dktX0_head_3
def dkwX0_head_1 : List UInt8 := [3, 54, 4, 21, 4, 8, 162, 0, 176, 28, 156, 0, 172, 21, 4, 154, 0, 8, 16, 108, 167, 0, 38]
abbrev dktX0_head_1 : List UInt8 := dkwX0_head_1 ++ dktX0_head_2
def dkwX0_head_0 : List UInt8 := [42, 180, 0, 81, 16, 6, 160, 0, 6, 16, 253, 172, 187, 0, 13, 89, 183, 0, 51, 76, 2, 61, 3, 62]
abbrev dktX0_head_0 : List UInt8 := dkwX0_head_0 ++ dktX0_head_1
theorem dksX0_head_0 : cX0_head.data.toList.drop 0 = dktX0_head_0 := by decide +kernel
theorem dksX0_head_1 : cX0_head.data.toList.drop 24 = dktX0_head_1 := dk_seg dksX0_head_0 24 rfl rfl
theorem dksX0_head_2 : cX0_head.data.toList.drop 47 = dktX0_head_2 := dk_seg dksX0_head_1 23 rfl rfl
theorem dksX0_head_3 : cX0_head.data.toList.drop 71 = dktX0_head_3 := dk_seg dksX0_head_2 24 rfl rfl
theorem dksX0_head_4 : cX0_head.data.toList.drop 93 = dktX0_head_4 := dk_seg dksX0_head_3 22 rfl rfl
theorem dksX0_head_5 : cX0_head.data.toList.drop 117 = dktX0_head_5 := dk_seg dksX0_head_4 24 rfl rfl
theorem dksX0_head_6 : cX0_head.data.toList.drop 141 = dktX0_head_6 := dk_seg dksX0_head_5 24 rfl rfl
theorem dksX0_head_7 : cX0_head.data.toList.drop 164 = dktX0_head_7 := dk_seg dksX0_head_6 23 rfl rfl
theorem dksX0_head_8 : cX0_head.data.toList.drop 188 = dktX0_head_8 := dk_seg dksX0_head_7 24 rfl rfl
theorem dksX0_head_9 : cX0_head.data.toList.drop 212 = dktX0_head_9 := dk_seg dksX0_head_8 24 rfl rfl
theorem dksX0_head_10 : cX0_head.data.toList.drop 235 = dktX0_head_10 := dk_seg dksX0_head_9 23 rfl rfl
theorem dksX0_head_11 : cX0_head.data.toList.drop 259 = dktX0_head_11 := dk_seg dksX0_head_10 24 rfl rfl
theorem dX0_head_0 : decode cX0_head 0 = .ok (.aload_n 0, 1) := dk_42 (dk_at dksX0_head_0 0 rfl rfl)
theorem dX0_head_1 : decode cX0_head 1 = .ok (.getfield 81, 3) := dk_180 0 81 (dk_at dksX0_head_0 1 rfl rfl)
theorem dX0_head_4 : decode cX0_head 4 = .ok (.bipush 6, 2) := dk_16 6 (dk_at dksX0_head_0 4 rfl rfl)
theorem dX0_head_6 : decode cX0_head 6 = .ok (.if_icmp .ne 6, 3) := dk_160 0 6 (dk_at dksX0_head_0 6 rfl rfl)
theorem dX0_head_9 : decode cX0_head 9 = .ok (.bipush (-3), 2) := dk_16 253 (dk_at dksX0_head_0 9 rfl rfl)
theorem dX0_head_11 : decode cX0_head 11 = .ok (.ireturn, 1) := dk_172 (dk_at dksX0_head_0 11 rfl rfl)
theorem dX0_head_12 : decode cX0_head 12 = .ok (.new 13, 3) := dk_187 0 13 (dk_at dksX0_head_0 12 rfl rfl)
theorem dX0_head_15 : decode cX0_head 15 = .ok (.dup, 1) := dk_89 (dk_at dksX0_head_0 15 rfl rfl)
theorem dX0_head_16 : decode cX0_head 16 = .ok (.invokespecial 51, 3) := dk_183 0 51 (dk_at dksX0_head_0 16 rfl rfl)
theorem dX0_head_19 : decode cX0_head 19 = .ok (.astore_n 1, 1) := dk_76 (dk_at dksX0_head_0 19 rfl rfl)
theorem dX0_head_20 : decode cX0_head 20 = .ok (.iconst (-1), 1) := dk_2 (dk_at dksX0_head_0 20 rfl rfl)
theorem dX0_head_21 : decode cX0_head 21 = .ok (.istore_n 2, 1) := dk_61 (dk_at dksX0_head_0 21 rfl rfl)
theorem dX0_head_22 : decode cX0_head 22 = .ok (.iconst 0, 1) := dk_3 (dk_at dksX0_head_0 22 rfl rfl)
theorem dX0_head_23 : decode cX0_head 23 = .ok (.istore_n 3, 1) := dk_62 (dk_at dksX0_head_0 23 rfl rfl)
theorem dX0_head_24 : decode cX0_head 24 = .ok (.iconst 0, 1) := dk_3 (dk_at dksX0_head_1 0 rfl rfl)
theorem dX0_head_25 : decode cX0_head 25 = .ok (.istore 4, 2) := dk_54 4 (dk_at dksX0_head_1 1 rfl rfl)
theorem dX0_head_27 : decode cX0_head 27 = .ok (.iload 4, 2) := dk_21 4 (dk_at dksX0_head_1 3 rfl rfl)
theorem dX0_head_29 : decode cX0_head 29 = .ok (.iconst 5, 1) := dk_8 (dk_at dksX0_head_1 5 rfl rfl)
theorem dX0_head_30 : decode cX0_head 30 = .ok (.if_icmp .ge 176, 3) := dk_162 0 176 (dk_at dksX0_head_1 6 rfl rfl)
theorem dX0_head_33 : decode cX0_head 33 = .ok (.iload_n 2, 1) := dk_28 (dk_at dksX0_head_1 9 rfl rfl)
theorem dX0_head_34 : decode cX0_head 34 = .ok (.ifCond .ge 172, 3) := dk_156 0 172 (dk_at dksX0_head_1 10 rfl rfl)
theorem dX0_head_37 : decode cX0_head 37 = .ok (.iload 4, 2) := dk_21 4 (dk_at dksX0_head_1 13 rfl rfl)
theorem dX0_head_39 : decode cX0_head 39 = .ok (.ifCond .ne 8, 3) := dk_154 0 8 (dk_at dksX0_head_1 15 rfl rfl)
theorem dX0_head_42 : decode cX0_head 42 = .ok (.bipush 108, 2) := dk_16 108 (dk_at dksX0_head_1 18 rfl rfl)
theorem dX0_head_44 : decode cX0_head 44 = .ok (.goto 38, 3) := dk_167 0 38 (dk_at dksX0_head_1 20 rfl rfl)
theorem dX0_head_47 : decode cX0_head 47 = .ok (.iload 4, 2) := dk_21 4 (dk_at dksX0_head_2 0 rfl rfl)
theorem dX0_head_49 : decode cX0_head 49 = .ok (.iconst 1, 1) := dk_4 (dk_at dksX0_head_2 2 rfl rfl)
theorem dX0_head_50 : decode cX0_head 50 = .ok (.if_icmp .ne 8, 3) := dk_160 0 8 (dk_at dksX0_head_2 3 rfl rfl)
theorem dX0_head_53 : decode cX0_head 53 = .ok (.bipush 97, 2) := dk_16 97 (dk_at dksX0_head_2 6 rfl rfl)
theorem dX0_head_55 : decode cX0_head 55 = .ok (.goto 27, 3) := dk_167 0 27 (dk_at dksX0_head_2 8 rfl rfl)
theorem dX0_head_58 : decode cX0_head 58 = .ok (.iload 4, 2) := dk_21 4 (dk_at dksX0_head_2 11 rfl rfl)
theorem dX0_head_60 : decode cX0_head 60 = .ok (.iconst 2, 1) := dk_5 (dk_at dksX0_head_2 13 rfl rfl)
theorem dX0_head_61 : decode cX0_head 61 = .ok (.if_icmp .ne 8, 3) := dk_160 0 8 (dk_at dksX0_head_2 14 rfl rfl)
theorem dX0_head_64 : decode cX0_head 64 = .ok (.bipush 104, 2) := dk_16 104 (dk_at dksX0_head_2 17 rfl rfl)
theorem dX0_head_66 : decode cX0_head 66 = .ok (.goto 16, 3) := dk_167 0 16 (dk_at dksX0_head_2 19 rfl rfl)
theorem dX0_head_69 : decode cX0_head 69 = .ok (.iload 4, 2) := dk_21 4 (dk_at dksX0_head_2 22 rfl rfl)
theorem dX0_head_71 : decode cX0_head 71 = .ok (.iconst 3, 1) := dk_6 (dk_at dksX0_head_3 0 rfl rfl)
theorem dX0_head_72 : decode cX0_head 72 = .ok (.if_icmp .ne 8, 3) := dk_160 0 8 (dk_at dksX0_head_3 1 rfl rfl)
theorem dX0_head_75 : decode cX0_head 75 = .ok (.bipush 116, 2) := dk_16 116 (dk_at dksX0_head_3 4 rfl rfl)
theorem dX0_head_77 : decode cX0_head 77 = .ok (.goto 5, 3) := dk_167 0 5 (dk_at dksX0_head_3 6 rfl rfl)
theorem dX0_head_80 : decode cX0_head 80 = .ok (.bipush 99, 2) := dk_16 99 (dk_at dksX0_head_3 9 rfl rfl)
theorem dX0_head_82 : decode cX0_head 82 = .ok (.istore 5, 2) := dk_54 5 (dk_at dksX0_head_3 11 rfl rfl)
theorem dX0_head_84 : decode cX0_head 84 = .ok (.iload_n 3, 1) := dk_29 (dk_at dksX0_head_3 13 rfl rfl)
theorem dX0_head_85 : decode cX0_head 85 = .ok (.aload_n 0, 1) := dk_42 (dk_at dksX0_head_3 14 rfl rfl)
theorem dX0_head_86 : decode cX0_head 86 = .ok (.getfield 77, 3) := dk_180 0 77 (dk_at dksX0_head_3 15 rfl rfl)
theorem dX0_head_89 : decode cX0_head 89 = .ok (.if_icmp .ge 14, 3) := dk_162 0 14 (dk_at dksX0_head_3 18 rfl rfl)
theorem dX0_head_92 : decode cX0_head 92 = .ok (.aload_n 0, 1) := dk_42 (dk_at dksX0_head_3 21 rfl rfl)
theorem dX0_head_93 : decode cX0_head 93 = .ok (.getfield 9, 3) := dk_180 0 9 (dk_at dksX0_head_4 0 rfl rfl)
theorem dX0_head_96 : decode cX0_head 96 = .ok (.iload_n 3, 1) := dk_29 (dk_at dksX0_head_4 3 rfl rfl)
theorem dX0_head_97 : decode cX0_head 97 = .ok (.baload, 1) := dk_51 (dk_at dksX0_head_4 4 rfl rfl)
theorem dX0_head_98 : decode cX0_head 98 = .ok (.iload 5, 2) := dk_21 5 (dk_at dksX0_head_4 5 rfl rfl)
theorem dX0_head_100 : decode cX0_head 100 = .ok (.if_icmp .eq 8, 3) := dk_159 0 8 (dk_at dksX0_head_4 7 rfl rfl)
theorem dX0_head_103 : decode cX0_head 103 = .ok (.iload_n 3, 1) := dk_29 (dk_at dksX0_head_4 10 rfl rfl)
theorem dX0_head_104 : decode cX0_head 104 = .ok (.istore_n 2, 1) := dk_61 (dk_at dksX0_head_4 11 rfl rfl)
theorem dX0_head_105 : decode cX0_head 105 = .ok (.goto 101, 3) := dk_167 0 101 (dk_at dksX0_head_4 12 rfl rfl)
theorem dX0_head_108 : decode cX0_head 108 = .ok (.iinc 3 1, 3) := dk_132 3 1 (dk_at dksX0_head_4 15 rfl rfl)
theorem dX0_head_111 : decode cX0_head 111 = .ok (.iload_n 3, 1) := dk_29 (dk_at dksX0_head_4 18 rfl rfl)
theorem dX0_head_112 : decode cX0_head 112 = .ok (.istore 6, 2) := dk_54 6 (dk_at dksX0_head_4 19 rfl rfl)
theorem dX0_head_114 : decode cX0_head 114 = .ok (.iconst 0, 1) := dk_3 (dk_at dksX0_head_4 21 rfl rfl)
theorem dX0_head_115 : decode cX0_head 115 = .ok (.istore 7, 2) := dk_54 7 (dk_at dksX0_head_4 22 rfl rfl)
theorem dX0_head_117 : decode cX0_head 117 = .ok (.iload_n 3, 1) := dk_29 (dk_at dksX0_head_5 0 rfl rfl)
theorem dX0_head_118 : decode cX0_head 118 = .ok (.aload_n 0, 1) := dk_42 (dk_at dksX0_head_5 1 rfl rfl)
theorem dX0_head_119 : decode cX0_head 119 = .ok (.getfield 77, 3) := dk_180 0 77 (dk_at dksX0_head_5 2 rfl rfl)
theorem dX0_head_122 : decode cX0_head 122 = .ok (.if_icmp .ge 50, 3) := dk_162 0 50 (dk_at dksX0_head_5 5 rfl rfl)
theorem dX0_head_125 : decode cX0_head 125 = .ok (.iload_n 3, 1) := dk_29 (dk_at dksX0_head_5 8 rfl rfl)
theorem dX0_head_126 : decode cX0_head 126 = .ok (.iload 6, 2) := dk_21 6 (dk_at dksX0_head_5 9 rfl rfl)
theorem dX0_head_128 : decode cX0_head 128 = .ok (.iconst 2, 1) := dk_5 (dk_at dksX0_head_5 11 rfl rfl)
theorem dX0_head_129 : decode cX0_head 129 = .ok (.iadd, 1) := dk_96 (dk_at dksX0_head_5 12 rfl rfl)
theorem dX0_head_130 : decode cX0_head 130 = .ok (.if_icmp .ge 42, 3) := dk_162 0 42 (dk_at dksX0_head_5 13 rfl rfl)
theorem dX0_head_133 : decode cX0_head 133 = .ok (.aload_n 0, 1) := dk_42 (dk_at dksX0_head_5 16 rfl rfl)
theorem dX0_head_134 : decode cX0_head 134 = .ok (.getfield 9, 3) := dk_180 0 9 (dk_at dksX0_head_5 17 rfl rfl)
theorem dX0_head_137 : decode cX0_head 137 = .ok (.iload_n 3, 1) := dk_29 (dk_at dksX0_head_5 20 rfl rfl)
theorem dX0_head_138 : decode cX0_head 138 = .ok (.baload, 1) := dk_51 (dk_at dksX0_head_5 21 rfl rfl)
theorem dX0_head_139 : decode cX0_head 139 = .ok (.bipush 48, 2) := dk_16 48 (dk_at dksX0_head_5 22 rfl rfl)
theorem dX0_head_141 : decode cX0_head 141 = .ok (.bipush 57, 2) := dk_16 57 (dk_at dksX0_head_6 0 rfl rfl)
theorem dX0_head_143 : decode cX0_head 143 = .ok (.invokestatic 73, 3) := dk_184 0 73 (dk_at dksX0_head_6 2 rfl rfl)
theorem dX0_head_146 : decode cX0_head 146 = .ok (.ifCond .eq 26, 3) := dk_153 0 26 (dk_at dksX0_head_6 5 rfl rfl)
theorem dX0_head_149 : decode cX0_head 149 = .ok (.bipush 10, 2) := dk_16 10 (dk_at dksX0_head_6 8 rfl rfl)
theorem dX0_head_151 : decode cX0_head 151 = .ok (.iload 7, 2) := dk_21 7 (dk_at dksX0_head_6 10 rfl rfl)
theorem dX0_head_153 : decode cX0_head 153 = .ok (.imul, 1) := dk_104 (dk_at dksX0_head_6 12 rfl rfl)
theorem dX0_head_154 : decode cX0_head 154 = .ok (.aload_n 0, 1) := dk_42 (dk_at dksX0_head_6 13 rfl rfl)
theorem dX0_head_155 : decode cX0_head 155 = .ok (.getfield 9, 3) := dk_180 0 9 (dk_at dksX0_head_6 14 rfl rfl)
theorem dX0_head_158 : decode cX0_head 158 = .ok (.iload_n 3, 1) := dk_29 (dk_at dksX0_head_6 17 rfl rfl)
theorem dX0_head_159 : decode cX0_head 159 = .ok (.baload, 1) := dk_51 (dk_at dksX0_head_6 18 rfl rfl)
theorem dX0_head_160 : decode cX0_head 160 = .ok (.iadd, 1) := dk_96 (dk_at dksX0_head_6 19 rfl rfl)
theorem dX0_head_161 : decode cX0_head 161 = .ok (.bipush 48, 2) := dk_16 48 (dk_at dksX0_head_6 20 rfl rfl)
theorem dX0_head_163 : decode cX0_head 163 = .ok (.isub, 1) := dk_100 (dk_at dksX0_head_6 22 rfl rfl)
theorem dX0_head_164 : decode cX0_head 164 = .ok (.istore 7, 2) := dk_54 7 (dk_at dksX0_head_7 0 rfl rfl)
theorem dX0_head_166 : decode cX0_head 166 = .ok (.iinc 3 1, 3) := dk_132 3 1 (dk_at dksX0_head_7 2 rfl rfl)
theorem dX0_head_169 : decode cX0_head 169 = .ok (.goto (-52), 3) := dk_167 255 204 (dk_at dksX0_head_7 5 rfl rfl)
theorem dX0_head_172 : decode cX0_head 172 = .ok (.iload_n 3, 1) := dk_29 (dk_at dksX0_head_7 8 rfl rfl)
theorem dX0_head_173 : decode cX0_head 173 = .ok (.iload 6, 2) := dk_21 6 (dk_at dksX0_head_7 9 rfl rfl)
theorem dX0_head_175 : decode cX0_head 175 = .ok (.if_icmp .eq 13, 3) := dk_159 0 13 (dk_at dksX0_head_7 11 rfl rfl)
theorem dX0_head_178 : decode cX0_head 178 = .ok (.iload 4, 2) := dk_21 4 (dk_at dksX0_head_7 14 rfl rfl)
theorem dX0_head_180 : decode cX0_head 180 = .ok (.iload 7, 2) := dk_21 7 (dk_at dksX0_head_7 16 rfl rfl)
theorem dX0_head_182 : decode cX0_head 182 = .ok (.invokestatic 84, 3) := dk_184 0 84 (dk_at dksX0_head_7 18 rfl rfl)
theorem dX0_head_185 : decode cX0_head 185 = .ok (.ifCond .ne 6, 3) := dk_154 0 6 (dk_at dksX0_head_7 21 rfl rfl)
theorem dX0_head_188 : decode cX0_head 188 = .ok (.iload 6, 2) := dk_21 6 (dk_at dksX0_head_8 0 rfl rfl)
theorem dX0_head_190 : decode cX0_head 190 = .ok (.istore_n 2, 1) := dk_61 (dk_at dksX0_head_8 2 rfl rfl)
theorem dX0_head_191 : decode cX0_head 191 = .ok (.aload_n 1, 1) := dk_43 (dk_at dksX0_head_8 3 rfl rfl)
theorem dX0_head_192 : decode cX0_head 192 = .ok (.getfield 88, 3) := dk_180 0 88 (dk_at dksX0_head_8 4 rfl rfl)
theorem dX0_head_195 : decode cX0_head 195 = .ok (.iload 4, 2) := dk_21 4 (dk_at dksX0_head_8 7 rfl rfl)
theorem dX0_head_197 : decode cX0_head 197 = .ok (.iload 7, 2) := dk_21 7 (dk_at dksX0_head_8 9 rfl rfl)
theorem dX0_head_199 : decode cX0_head 199 = .ok (.iastore, 1) := dk_79 (dk_at dksX0_head_8 11 rfl rfl)
theorem dX0_head_200 : decode cX0_head 200 = .ok (.iinc 4 1, 3) := dk_132 4 1 (dk_at dksX0_head_8 12 rfl rfl)
theorem dX0_head_203 : decode cX0_head 203 = .ok (.goto (-176), 3) := dk_167 255 80 (dk_at dksX0_head_8 15 rfl rfl)
theorem dX0_head_206 : decode cX0_head 206 = .ok (.iload_n 2, 1) := dk_28 (dk_at dksX0_head_8 18 rfl rfl)
theorem dX0_head_207 : decode cX0_head 207 = .ok (.ifCond .ge 13, 3) := dk_156 0 13 (dk_at dksX0_head_8 19 rfl rfl)
theorem dX0_head_210 : decode cX0_head 210 = .ok (.iload_n 3, 1) := dk_29 (dk_at dksX0_head_8 22 rfl rfl)
theorem dX0_head_211 : decode cX0_head 211 = .ok (.aload_n 0, 1) := dk_42 (dk_at dksX0_head_8 23 rfl rfl)
theorem dX0_head_212 : decode cX0_head 212 = .ok (.getfield 77, 3) := dk_180 0 77 (dk_at dksX0_head_9 0 rfl rfl)
theorem dX0_head_215 : decode cX0_head 215 = .ok (.if_icmp .ge 5, 3) := dk_162 0 5 (dk_at dksX0_head_9 3 rfl rfl)
theorem dX0_head_218 : decode cX0_head 218 = .ok (.iload_n 3, 1) := dk_29 (dk_at dksX0_head_9 6 rfl rfl)
theorem dX0_head_219 : decode cX0_head 219 = .ok (.istore_n 2, 1) := dk_61 (dk_at dksX0_head_9 7 rfl rfl)
theorem dX0_head_220 : decode cX0_head 220 = .ok (.aload_n 0, 1) := dk_42 (dk_at dksX0_head_9 8 rfl rfl)
theorem dX0_head_221 : decode cX0_head 221 = .ok (.iconst 0, 1) := dk_3 (dk_at dksX0_head_9 9 rfl rfl)
theorem dX0_head_222 : decode cX0_head 222 = .ok (.putfield 77, 3) := dk_181 0 77 (dk_at dksX0_head_9 10 rfl rfl)
theorem dX0_head_225 : decode cX0_head 225 = .ok (.iload_n 2, 1) := dk_28 (dk_at dksX0_head_9 13 rfl rfl)
theorem dX0_head_226 : decode cX0_head 226 = .ok (.ifCond .lt 8, 3) := dk_155 0 8 (dk_at dksX0_head_9 14 rfl rfl)
theorem dX0_head_229 : decode cX0_head 229 = .ok (.bipush (-100), 2) := dk_16 156 (dk_at dksX0_head_9 17 rfl rfl)
theorem dX0_head_231 : decode cX0_head 231 = .ok (.iload_n 2, 1) := dk_28 (dk_at dksX0_head_9 19 rfl rfl)
theorem dX0_head_232 : decode cX0_head 232 = .ok (.isub, 1) := dk_100 (dk_at dksX0_head_9 20 rfl rfl)
theorem dX0_head_233 : decode cX0_head 233 = .ok (.ireturn, 1) := dk_172 (dk_at dksX0_head_9 21 rfl rfl)
theorem dX0_head_234 : decode cX0_head 234 = .ok (.aload_n 0, 1) := dk_42 (dk_at dksX0_head_9 22 rfl rfl)
theorem dX0_head_235 : decode cX0_head 235 = .ok (.getfield 15, 3) := dk_180 0 15 (dk_at dksX0_head_10 0 rfl rfl)
theorem dX0_head_238 : decode cX0_head 238 = .ok (.aload_n 0, 1) := dk_42 (dk_at dksX0_head_10 3 rfl rfl)
theorem dX0_head_239 : decode cX0_head 239 = .ok (.getfield 81, 3) := dk_180 0 81 (dk_at dksX0_head_10 4 rfl rfl)
theorem dX0_head_242 : decode cX0_head 242 = .ok (.aload_n 1, 1) := dk_43 (dk_at dksX0_head_10 7 rfl rfl)
theorem dX0_head_243 : decode cX0_head 243 = .ok (.aastore, 1) := dk_83 (dk_at dksX0_head_10 8 rfl rfl)
theorem dX0_head_244 : decode cX0_head 244 = .ok (.aload_n 0, 1) := dk_42 (dk_at dksX0_head_10 9 rfl rfl)
theorem dX0_head_245 : decode cX0_head 245 = .ok (.dup, 1) := dk_89 (dk_at dksX0_head_10 10 rfl rfl)
theorem dX0_head_246 : decode cX0_head 246 = .ok (.getfield 81, 3) := dk_180 0 81 (dk_at dksX0_head_10 11 rfl rfl)
theorem dX0_head_249 : decode cX0_head 249 = .ok (.iconst 1, 1) := dk_4 (dk_at dksX0_head_10 14 rfl rfl)
theorem dX0_head_250 : decode cX0_head 250 = .ok (.iadd, 1) := dk_96 (dk_at dksX0_head_10 15 rfl rfl)
theorem dX0_head_251 : decode cX0_head 251 = .ok (.putfield 81, 3) := dk_181 0 81 (dk_at dksX0_head_10 16 rfl rfl)
theorem dX0_head_254 : decode cX0_head 254 = .ok (.aload_n 0, 1) := dk_42 (dk_at dksX0_head_10 19 rfl rfl)
theorem dX0_head_255 : decode cX0_head 255 = .ok (.getfield 81, 3) := dk_180 0 81 (dk_at dksX0_head_10 20 rfl rfl)
theorem dX0_head_258 : decode cX0_head 258 = .ok (.iconst 1, 1) := dk_4 (dk_at dksX0_head_10 23 rfl rfl)
theorem dX0_head_259 : decode cX0_head 259 = .ok (.isub, 1) := dk_100 (dk_at dksX0_head_11 0 rfl rfl)
theorem dX0_head_260 : decode cX0_head 260 = .ok (.ireturn, 1) := dk_172 (dk_at dksX0_head_11 1 rfl rfl)
abbrev cX0_isTold : ByteArray := prog_1_method_7_code
def yX0_isTold : MethodName := ⟨RX0, "isTold", "(II)Z"⟩
def dkwX0_isTold_3 : List UInt8 := [172, 3, 172]
abbrev dktX0_isTold_3 : List UInt8 := dkwX0_isTold_3 ++ []
def dkwX0_isTold_2 : List UInt8 := [27, 3, 16, 99, 184, 0, 73, 172, 27, 16, 9, 16, 99, 184, 0, 73, 172, 27, 4, 16, 40, 184, 0, 73]
abbrev dktX0_isTold_2 : List UInt8 := dkwX0_isTold_2 ++ dktX0_isTold_3
def dkwX0_isTold_1 : List UInt8 := [170, 0, 0, 0, 0, 0, 60, 0, 0, 0, 0, 0, 0, 0, 4, 0, 0, 0, 35, 0, 0, 0, 35, 0, 0, 0, 35, 0, 0, 0, 43, 0, 0, 0, 52]
abbrev dktX0_isTold_1 : List UInt8 := dkwX0_isTold_1 ++ dktX0_isTold_2
def dkwX0_isTold_0 : List UInt8 := [26]
abbrev dktX0_isTold_0 : List UInt8 := dkwX0_isTold_0 ++ dktX0_isTold_1
theorem dksX0_isTold_0 : cX0_isTold.data.toList.drop 0 = dktX0_isTold_0 := by decide +kernel
theorem dksX0_isTold_1 : cX0_isTold.data.toList.drop 1 = dktX0_isTold_1 := dk_seg dksX0_isTold_0 1 rfl rfl
theorem dksX0_isTold_2 : cX0_isTold.data.toList.drop 36 = dktX0_isTold_2 := dk_seg dksX0_isTold_1 35 rfl rfl
theorem dksX0_isTold_3 : cX0_isTold.data.toList.drop 60 = dktX0_isTold_3 := dk_seg dksX0_isTold_2 24 rfl rfl
theorem dX0_isTold_0 : decode cX0_isTold 0 = .ok (.iload_n 0, 1) := dk_26 (dk_at dksX0_isTold_0 0 rfl rfl)
theorem dX0_isTold_1 : decode cX0_isTold 1 = .ok (.tableswitch 60 0 4 #[35, 35, 35, 43, 52], 35) := by decide +kernel
theorem dX0_isTold_36 : decode cX0_isTold 36 = .ok (.iload_n 1, 1) := dk_27 (dk_at dksX0_isTold_2 0 rfl rfl)
theorem dX0_isTold_37 : decode cX0_isTold 37 = .ok (.iconst 0, 1) := dk_3 (dk_at dksX0_isTold_2 1 rfl rfl)
theorem dX0_isTold_38 : decode cX0_isTold 38 = .ok (.bipush 99, 2) := dk_16 99 (dk_at dksX0_isTold_2 2 rfl rfl)
theorem dX0_isTold_40 : decode cX0_isTold 40 = .ok (.invokestatic 73, 3) := dk_184 0 73 (dk_at dksX0_isTold_2 4 rfl rfl)
theorem dX0_isTold_43 : decode cX0_isTold 43 = .ok (.ireturn, 1) := dk_172 (dk_at dksX0_isTold_2 7 rfl rfl)
theorem dX0_isTold_44 : decode cX0_isTold 44 = .ok (.iload_n 1, 1) := dk_27 (dk_at dksX0_isTold_2 8 rfl rfl)
theorem dX0_isTold_45 : decode cX0_isTold 45 = .ok (.bipush 9, 2) := dk_16 9 (dk_at dksX0_isTold_2 9 rfl rfl)
theorem dX0_isTold_47 : decode cX0_isTold 47 = .ok (.bipush 99, 2) := dk_16 99 (dk_at dksX0_isTold_2 11 rfl rfl)
theorem dX0_isTold_49 : decode cX0_isTold 49 = .ok (.invokestatic 73, 3) := dk_184 0 73 (dk_at dksX0_isTold_2 13 rfl rfl)
theorem dX0_isTold_52 : decode cX0_isTold 52 = .ok (.ireturn, 1) := dk_172 (dk_at dksX0_isTold_2 16 rfl rfl)
theorem dX0_isTold_53 : decode cX0_isTold 53 = .ok (.iload_n 1, 1) := dk_27 (dk_at dksX0_isTold_2 17 rfl rfl)
theorem dX0_isTold_54 : decode cX0_isTold 54 = .ok (.iconst 1, 1) := dk_4 (dk_at dksX0_isTold_2 18 rfl rfl)
theorem dX0_isTold_55 : decode cX0_isTold 55 = .ok (.bipush 40, 2) := dk_16 40 (dk_at dksX0_isTold_2 19 rfl rfl)
theorem dX0_isTold_57 : decode cX0_isTold 57 = .ok (.invokestatic 73, 3) := dk_184 0 73 (dk_at dksX0_isTold_2 21 rfl rfl)
theorem dX0_isTold_60 : decode cX0_isTold 60 = .ok (.ireturn, 1) := dk_172 (dk_at dksX0_isTold_3 0 rfl rfl)
theorem dX0_isTold_61 : decode cX0_isTold 61 = .ok (.iconst 0, 1) := dk_3 (dk_at dksX0_isTold_3 1 rfl rfl)
theorem dX0_isTold_62 : decode cX0_isTold 62 = .ok (.ireturn, 1) := dk_172 (dk_at dksX0_isTold_3 2 rfl rfl)
abbrev cX0_of : ByteArray := prog_1_method_9_code
def yX0_of : MethodName := ⟨RX0, "of", "(II)I"⟩
def dkwX0_of_2 : List UInt8 := [182, 0, 93, 167, 0, 4, 2, 172]
abbrev dktX0_of_2 : List UInt8 := dkwX0_of_2 ++ []
def dkwX0_of_1 : List UInt8 := [180, 0, 15, 27, 50, 180, 0, 88, 28, 46, 167, 0, 21, 28, 8, 160, 0, 15, 42, 180, 0, 15, 27, 50]
abbrev dktX0_of_1 : List UInt8 := dkwX0_of_1 ++ dktX0_of_2
def dkwX0_of_0 : List UInt8 := [42, 27, 182, 0, 89, 154, 0, 7, 2, 167, 0, 44, 28, 3, 7, 184, 0, 73, 153, 0, 17, 42]
abbrev dktX0_of_0 : List UInt8 := dkwX0_of_0 ++ dktX0_of_1
theorem dksX0_of_0 : cX0_of.data.toList.drop 0 = dktX0_of_0 := by decide +kernel
theorem dksX0_of_1 : cX0_of.data.toList.drop 22 = dktX0_of_1 := dk_seg dksX0_of_0 22 rfl rfl
theorem dksX0_of_2 : cX0_of.data.toList.drop 46 = dktX0_of_2 := dk_seg dksX0_of_1 24 rfl rfl
theorem dX0_of_0 : decode cX0_of 0 = .ok (.aload_n 0, 1) := dk_42 (dk_at dksX0_of_0 0 rfl rfl)
theorem dX0_of_1 : decode cX0_of 1 = .ok (.iload_n 1, 1) := dk_27 (dk_at dksX0_of_0 1 rfl rfl)
theorem dX0_of_2 : decode cX0_of 2 = .ok (.invokevirtual 89, 3) := dk_182 0 89 (dk_at dksX0_of_0 2 rfl rfl)
theorem dX0_of_5 : decode cX0_of 5 = .ok (.ifCond .ne 7, 3) := dk_154 0 7 (dk_at dksX0_of_0 5 rfl rfl)
theorem dX0_of_8 : decode cX0_of 8 = .ok (.iconst (-1), 1) := dk_2 (dk_at dksX0_of_0 8 rfl rfl)
theorem dX0_of_9 : decode cX0_of 9 = .ok (.goto 44, 3) := dk_167 0 44 (dk_at dksX0_of_0 9 rfl rfl)
theorem dX0_of_12 : decode cX0_of 12 = .ok (.iload_n 2, 1) := dk_28 (dk_at dksX0_of_0 12 rfl rfl)
theorem dX0_of_13 : decode cX0_of 13 = .ok (.iconst 0, 1) := dk_3 (dk_at dksX0_of_0 13 rfl rfl)
theorem dX0_of_14 : decode cX0_of 14 = .ok (.iconst 4, 1) := dk_7 (dk_at dksX0_of_0 14 rfl rfl)
theorem dX0_of_15 : decode cX0_of 15 = .ok (.invokestatic 73, 3) := dk_184 0 73 (dk_at dksX0_of_0 15 rfl rfl)
theorem dX0_of_18 : decode cX0_of 18 = .ok (.ifCond .eq 17, 3) := dk_153 0 17 (dk_at dksX0_of_0 18 rfl rfl)
theorem dX0_of_21 : decode cX0_of 21 = .ok (.aload_n 0, 1) := dk_42 (dk_at dksX0_of_0 21 rfl rfl)
theorem dX0_of_22 : decode cX0_of 22 = .ok (.getfield 15, 3) := dk_180 0 15 (dk_at dksX0_of_1 0 rfl rfl)
theorem dX0_of_25 : decode cX0_of 25 = .ok (.iload_n 1, 1) := dk_27 (dk_at dksX0_of_1 3 rfl rfl)
theorem dX0_of_26 : decode cX0_of 26 = .ok (.aaload, 1) := dk_50 (dk_at dksX0_of_1 4 rfl rfl)
theorem dX0_of_27 : decode cX0_of 27 = .ok (.getfield 88, 3) := dk_180 0 88 (dk_at dksX0_of_1 5 rfl rfl)
theorem dX0_of_30 : decode cX0_of 30 = .ok (.iload_n 2, 1) := dk_28 (dk_at dksX0_of_1 8 rfl rfl)
theorem dX0_of_31 : decode cX0_of 31 = .ok (.iaload, 1) := dk_46 (dk_at dksX0_of_1 9 rfl rfl)
theorem dX0_of_32 : decode cX0_of 32 = .ok (.goto 21, 3) := dk_167 0 21 (dk_at dksX0_of_1 10 rfl rfl)
theorem dX0_of_35 : decode cX0_of 35 = .ok (.iload_n 2, 1) := dk_28 (dk_at dksX0_of_1 13 rfl rfl)
theorem dX0_of_36 : decode cX0_of 36 = .ok (.iconst 5, 1) := dk_8 (dk_at dksX0_of_1 14 rfl rfl)
theorem dX0_of_37 : decode cX0_of 37 = .ok (.if_icmp .ne 15, 3) := dk_160 0 15 (dk_at dksX0_of_1 15 rfl rfl)
theorem dX0_of_40 : decode cX0_of 40 = .ok (.aload_n 0, 1) := dk_42 (dk_at dksX0_of_1 18 rfl rfl)
theorem dX0_of_41 : decode cX0_of 41 = .ok (.getfield 15, 3) := dk_180 0 15 (dk_at dksX0_of_1 19 rfl rfl)
theorem dX0_of_44 : decode cX0_of 44 = .ok (.iload_n 1, 1) := dk_27 (dk_at dksX0_of_1 22 rfl rfl)
theorem dX0_of_45 : decode cX0_of 45 = .ok (.aaload, 1) := dk_50 (dk_at dksX0_of_1 23 rfl rfl)
theorem dX0_of_46 : decode cX0_of 46 = .ok (.invokevirtual 93, 3) := dk_182 0 93 (dk_at dksX0_of_2 0 rfl rfl)
theorem dX0_of_49 : decode cX0_of 49 = .ok (.goto 4, 3) := dk_167 0 4 (dk_at dksX0_of_2 3 rfl rfl)
theorem dX0_of_52 : decode cX0_of 52 = .ok (.iconst (-1), 1) := dk_2 (dk_at dksX0_of_2 6 rfl rfl)
theorem dX0_of_53 : decode cX0_of 53 = .ok (.ireturn, 1) := dk_172 (dk_at dksX0_of_2 7 rfl rfl)
abbrev cX0_isHead : ByteArray := prog_1_method_6_code
def yX0_isHead : MethodName := ⟨RX0, "isHead", "(I)Z"⟩
def dkwX0_isHead_0 : List UInt8 := [27, 3, 42, 180, 0, 81, 4, 100, 184, 0, 73, 172]
abbrev dktX0_isHead_0 : List UInt8 := dkwX0_isHead_0 ++ []
theorem dksX0_isHead_0 : cX0_isHead.data.toList.drop 0 = dktX0_isHead_0 := by decide +kernel
theorem dX0_isHead_0 : decode cX0_isHead 0 = .ok (.iload_n 1, 1) := dk_27 (dk_at dksX0_isHead_0 0 rfl rfl)
theorem dX0_isHead_1 : decode cX0_isHead 1 = .ok (.iconst 0, 1) := dk_3 (dk_at dksX0_isHead_0 1 rfl rfl)
theorem dX0_isHead_2 : decode cX0_isHead 2 = .ok (.aload_n 0, 1) := dk_42 (dk_at dksX0_isHead_0 2 rfl rfl)
theorem dX0_isHead_3 : decode cX0_isHead 3 = .ok (.getfield 81, 3) := dk_180 0 81 (dk_at dksX0_isHead_0 3 rfl rfl)
theorem dX0_isHead_6 : decode cX0_isHead 6 = .ok (.iconst 1, 1) := dk_4 (dk_at dksX0_isHead_0 6 rfl rfl)
theorem dX0_isHead_7 : decode cX0_isHead 7 = .ok (.isub, 1) := dk_100 (dk_at dksX0_isHead_0 7 rfl rfl)
theorem dX0_isHead_8 : decode cX0_isHead 8 = .ok (.invokestatic 73, 3) := dk_184 0 73 (dk_at dksX0_isHead_0 8 rfl rfl)
theorem dX0_isHead_11 : decode cX0_isHead 11 = .ok (.ireturn, 1) := dk_172 (dk_at dksX0_isHead_0 11 rfl rfl)
abbrev cX0_turn : ByteArray := prog_1_method_10_code
def yX0_turn : MethodName := ⟨RX0, "turn", "(III)I"⟩
def dkwX0_turn_6 : List UInt8 := [79, 21, 5, 172]
abbrev dktX0_turn_6 : List UInt8 := dkwX0_turn_6 ++ []
def dkwX0_turn_5 : List UInt8 := [21, 5, 29, 183, 0, 103, 83, 42, 89, 180, 0, 100, 4, 96, 181, 0, 100, 25, 4, 180, 0, 88, 28, 29]
abbrev dktX0_turn_5 : List UInt8 := dkwX0_turn_5 ++ dktX0_turn_6
def dkwX0_turn_4 : List UInt8 := [180, 0, 100, 4, 100, 181, 0, 100, 42, 180, 0, 21, 42, 180, 0, 100, 187, 0, 19, 89, 25, 4, 28]
abbrev dktX0_turn_4 : List UInt8 := dkwX0_turn_4 ++ dktX0_turn_5
def dkwX0_turn_3 : List UInt8 := [180, 0, 21, 21, 6, 4, 100, 42, 180, 0, 21, 21, 6, 50, 83, 132, 6, 1, 167, 255, 230, 42, 89]
abbrev dktX0_turn_3 : List UInt8 := dkwX0_turn_3 ++ dktX0_turn_4
def dkwX0_turn_2 : List UInt8 := [181, 0, 97, 42, 180, 0, 100, 16, 40, 160, 0, 45, 4, 54, 6, 21, 6, 16, 40, 162, 0, 25, 42]
abbrev dktX0_turn_2 : List UInt8 := dkwX0_turn_2 ++ dktX0_turn_3
def dkwX0_turn_1 : List UInt8 := [58, 4, 25, 4, 180, 0, 88, 28, 46, 54, 5, 21, 5, 29, 160, 0, 6, 21, 5, 172, 42, 3]
abbrev dktX0_turn_1 : List UInt8 := dkwX0_turn_1 ++ dktX0_turn_2
def dkwX0_turn_0 : List UInt8 := [42, 27, 182, 0, 89, 153, 0, 11, 28, 29, 184, 0, 84, 154, 0, 5, 2, 172, 42, 180, 0, 15, 27, 50]
abbrev dktX0_turn_0 : List UInt8 := dkwX0_turn_0 ++ dktX0_turn_1
theorem dksX0_turn_0 : cX0_turn.data.toList.drop 0 = dktX0_turn_0 := by decide +kernel
theorem dksX0_turn_1 : cX0_turn.data.toList.drop 24 = dktX0_turn_1 := dk_seg dksX0_turn_0 24 rfl rfl
theorem dksX0_turn_2 : cX0_turn.data.toList.drop 46 = dktX0_turn_2 := dk_seg dksX0_turn_1 22 rfl rfl
theorem dksX0_turn_3 : cX0_turn.data.toList.drop 69 = dktX0_turn_3 := dk_seg dksX0_turn_2 23 rfl rfl
theorem dksX0_turn_4 : cX0_turn.data.toList.drop 92 = dktX0_turn_4 := dk_seg dksX0_turn_3 23 rfl rfl
theorem dksX0_turn_5 : cX0_turn.data.toList.drop 115 = dktX0_turn_5 := dk_seg dksX0_turn_4 23 rfl rfl
theorem dksX0_turn_6 : cX0_turn.data.toList.drop 139 = dktX0_turn_6 := dk_seg dksX0_turn_5 24 rfl rfl
theorem dX0_turn_0 : decode cX0_turn 0 = .ok (.aload_n 0, 1) := dk_42 (dk_at dksX0_turn_0 0 rfl rfl)
theorem dX0_turn_1 : decode cX0_turn 1 = .ok (.iload_n 1, 1) := dk_27 (dk_at dksX0_turn_0 1 rfl rfl)
theorem dX0_turn_2 : decode cX0_turn 2 = .ok (.invokevirtual 89, 3) := dk_182 0 89 (dk_at dksX0_turn_0 2 rfl rfl)
theorem dX0_turn_5 : decode cX0_turn 5 = .ok (.ifCond .eq 11, 3) := dk_153 0 11 (dk_at dksX0_turn_0 5 rfl rfl)
theorem dX0_turn_8 : decode cX0_turn 8 = .ok (.iload_n 2, 1) := dk_28 (dk_at dksX0_turn_0 8 rfl rfl)
theorem dX0_turn_9 : decode cX0_turn 9 = .ok (.iload_n 3, 1) := dk_29 (dk_at dksX0_turn_0 9 rfl rfl)
theorem dX0_turn_10 : decode cX0_turn 10 = .ok (.invokestatic 84, 3) := dk_184 0 84 (dk_at dksX0_turn_0 10 rfl rfl)
theorem dX0_turn_13 : decode cX0_turn 13 = .ok (.ifCond .ne 5, 3) := dk_154 0 5 (dk_at dksX0_turn_0 13 rfl rfl)
theorem dX0_turn_16 : decode cX0_turn 16 = .ok (.iconst (-1), 1) := dk_2 (dk_at dksX0_turn_0 16 rfl rfl)
theorem dX0_turn_17 : decode cX0_turn 17 = .ok (.ireturn, 1) := dk_172 (dk_at dksX0_turn_0 17 rfl rfl)
theorem dX0_turn_18 : decode cX0_turn 18 = .ok (.aload_n 0, 1) := dk_42 (dk_at dksX0_turn_0 18 rfl rfl)
theorem dX0_turn_19 : decode cX0_turn 19 = .ok (.getfield 15, 3) := dk_180 0 15 (dk_at dksX0_turn_0 19 rfl rfl)
theorem dX0_turn_22 : decode cX0_turn 22 = .ok (.iload_n 1, 1) := dk_27 (dk_at dksX0_turn_0 22 rfl rfl)
theorem dX0_turn_23 : decode cX0_turn 23 = .ok (.aaload, 1) := dk_50 (dk_at dksX0_turn_0 23 rfl rfl)
theorem dX0_turn_24 : decode cX0_turn 24 = .ok (.astore 4, 2) := dk_58 4 (dk_at dksX0_turn_1 0 rfl rfl)
theorem dX0_turn_26 : decode cX0_turn 26 = .ok (.aload 4, 2) := dk_25 4 (dk_at dksX0_turn_1 2 rfl rfl)
theorem dX0_turn_28 : decode cX0_turn 28 = .ok (.getfield 88, 3) := dk_180 0 88 (dk_at dksX0_turn_1 4 rfl rfl)
theorem dX0_turn_31 : decode cX0_turn 31 = .ok (.iload_n 2, 1) := dk_28 (dk_at dksX0_turn_1 7 rfl rfl)
theorem dX0_turn_32 : decode cX0_turn 32 = .ok (.iaload, 1) := dk_46 (dk_at dksX0_turn_1 8 rfl rfl)
theorem dX0_turn_33 : decode cX0_turn 33 = .ok (.istore 5, 2) := dk_54 5 (dk_at dksX0_turn_1 9 rfl rfl)
theorem dX0_turn_35 : decode cX0_turn 35 = .ok (.iload 5, 2) := dk_21 5 (dk_at dksX0_turn_1 11 rfl rfl)
theorem dX0_turn_37 : decode cX0_turn 37 = .ok (.iload_n 3, 1) := dk_29 (dk_at dksX0_turn_1 13 rfl rfl)
theorem dX0_turn_38 : decode cX0_turn 38 = .ok (.if_icmp .ne 6, 3) := dk_160 0 6 (dk_at dksX0_turn_1 14 rfl rfl)
theorem dX0_turn_41 : decode cX0_turn 41 = .ok (.iload 5, 2) := dk_21 5 (dk_at dksX0_turn_1 17 rfl rfl)
theorem dX0_turn_43 : decode cX0_turn 43 = .ok (.ireturn, 1) := dk_172 (dk_at dksX0_turn_1 19 rfl rfl)
theorem dX0_turn_44 : decode cX0_turn 44 = .ok (.aload_n 0, 1) := dk_42 (dk_at dksX0_turn_1 20 rfl rfl)
theorem dX0_turn_45 : decode cX0_turn 45 = .ok (.iconst 0, 1) := dk_3 (dk_at dksX0_turn_1 21 rfl rfl)
theorem dX0_turn_46 : decode cX0_turn 46 = .ok (.putfield 97, 3) := dk_181 0 97 (dk_at dksX0_turn_2 0 rfl rfl)
theorem dX0_turn_49 : decode cX0_turn 49 = .ok (.aload_n 0, 1) := dk_42 (dk_at dksX0_turn_2 3 rfl rfl)
theorem dX0_turn_50 : decode cX0_turn 50 = .ok (.getfield 100, 3) := dk_180 0 100 (dk_at dksX0_turn_2 4 rfl rfl)
theorem dX0_turn_53 : decode cX0_turn 53 = .ok (.bipush 40, 2) := dk_16 40 (dk_at dksX0_turn_2 7 rfl rfl)
theorem dX0_turn_55 : decode cX0_turn 55 = .ok (.if_icmp .ne 45, 3) := dk_160 0 45 (dk_at dksX0_turn_2 9 rfl rfl)
theorem dX0_turn_58 : decode cX0_turn 58 = .ok (.iconst 1, 1) := dk_4 (dk_at dksX0_turn_2 12 rfl rfl)
theorem dX0_turn_59 : decode cX0_turn 59 = .ok (.istore 6, 2) := dk_54 6 (dk_at dksX0_turn_2 13 rfl rfl)
theorem dX0_turn_61 : decode cX0_turn 61 = .ok (.iload 6, 2) := dk_21 6 (dk_at dksX0_turn_2 15 rfl rfl)
theorem dX0_turn_63 : decode cX0_turn 63 = .ok (.bipush 40, 2) := dk_16 40 (dk_at dksX0_turn_2 17 rfl rfl)
theorem dX0_turn_65 : decode cX0_turn 65 = .ok (.if_icmp .ge 25, 3) := dk_162 0 25 (dk_at dksX0_turn_2 19 rfl rfl)
theorem dX0_turn_68 : decode cX0_turn 68 = .ok (.aload_n 0, 1) := dk_42 (dk_at dksX0_turn_2 22 rfl rfl)
theorem dX0_turn_69 : decode cX0_turn 69 = .ok (.getfield 21, 3) := dk_180 0 21 (dk_at dksX0_turn_3 0 rfl rfl)
theorem dX0_turn_72 : decode cX0_turn 72 = .ok (.iload 6, 2) := dk_21 6 (dk_at dksX0_turn_3 3 rfl rfl)
theorem dX0_turn_74 : decode cX0_turn 74 = .ok (.iconst 1, 1) := dk_4 (dk_at dksX0_turn_3 5 rfl rfl)
theorem dX0_turn_75 : decode cX0_turn 75 = .ok (.isub, 1) := dk_100 (dk_at dksX0_turn_3 6 rfl rfl)
theorem dX0_turn_76 : decode cX0_turn 76 = .ok (.aload_n 0, 1) := dk_42 (dk_at dksX0_turn_3 7 rfl rfl)
theorem dX0_turn_77 : decode cX0_turn 77 = .ok (.getfield 21, 3) := dk_180 0 21 (dk_at dksX0_turn_3 8 rfl rfl)
theorem dX0_turn_80 : decode cX0_turn 80 = .ok (.iload 6, 2) := dk_21 6 (dk_at dksX0_turn_3 11 rfl rfl)
theorem dX0_turn_82 : decode cX0_turn 82 = .ok (.aaload, 1) := dk_50 (dk_at dksX0_turn_3 13 rfl rfl)
theorem dX0_turn_83 : decode cX0_turn 83 = .ok (.aastore, 1) := dk_83 (dk_at dksX0_turn_3 14 rfl rfl)
theorem dX0_turn_84 : decode cX0_turn 84 = .ok (.iinc 6 1, 3) := dk_132 6 1 (dk_at dksX0_turn_3 15 rfl rfl)
theorem dX0_turn_87 : decode cX0_turn 87 = .ok (.goto (-26), 3) := dk_167 255 230 (dk_at dksX0_turn_3 18 rfl rfl)
theorem dX0_turn_90 : decode cX0_turn 90 = .ok (.aload_n 0, 1) := dk_42 (dk_at dksX0_turn_3 21 rfl rfl)
theorem dX0_turn_91 : decode cX0_turn 91 = .ok (.dup, 1) := dk_89 (dk_at dksX0_turn_3 22 rfl rfl)
theorem dX0_turn_92 : decode cX0_turn 92 = .ok (.getfield 100, 3) := dk_180 0 100 (dk_at dksX0_turn_4 0 rfl rfl)
theorem dX0_turn_95 : decode cX0_turn 95 = .ok (.iconst 1, 1) := dk_4 (dk_at dksX0_turn_4 3 rfl rfl)
theorem dX0_turn_96 : decode cX0_turn 96 = .ok (.isub, 1) := dk_100 (dk_at dksX0_turn_4 4 rfl rfl)
theorem dX0_turn_97 : decode cX0_turn 97 = .ok (.putfield 100, 3) := dk_181 0 100 (dk_at dksX0_turn_4 5 rfl rfl)
theorem dX0_turn_100 : decode cX0_turn 100 = .ok (.aload_n 0, 1) := dk_42 (dk_at dksX0_turn_4 8 rfl rfl)
theorem dX0_turn_101 : decode cX0_turn 101 = .ok (.getfield 21, 3) := dk_180 0 21 (dk_at dksX0_turn_4 9 rfl rfl)
theorem dX0_turn_104 : decode cX0_turn 104 = .ok (.aload_n 0, 1) := dk_42 (dk_at dksX0_turn_4 12 rfl rfl)
theorem dX0_turn_105 : decode cX0_turn 105 = .ok (.getfield 100, 3) := dk_180 0 100 (dk_at dksX0_turn_4 13 rfl rfl)
theorem dX0_turn_108 : decode cX0_turn 108 = .ok (.new 19, 3) := dk_187 0 19 (dk_at dksX0_turn_4 16 rfl rfl)
theorem dX0_turn_111 : decode cX0_turn 111 = .ok (.dup, 1) := dk_89 (dk_at dksX0_turn_4 19 rfl rfl)
theorem dX0_turn_112 : decode cX0_turn 112 = .ok (.aload 4, 2) := dk_25 4 (dk_at dksX0_turn_4 20 rfl rfl)
theorem dX0_turn_114 : decode cX0_turn 114 = .ok (.iload_n 2, 1) := dk_28 (dk_at dksX0_turn_4 22 rfl rfl)
theorem dX0_turn_115 : decode cX0_turn 115 = .ok (.iload 5, 2) := dk_21 5 (dk_at dksX0_turn_5 0 rfl rfl)
theorem dX0_turn_117 : decode cX0_turn 117 = .ok (.iload_n 3, 1) := dk_29 (dk_at dksX0_turn_5 2 rfl rfl)
theorem dX0_turn_118 : decode cX0_turn 118 = .ok (.invokespecial 103, 3) := dk_183 0 103 (dk_at dksX0_turn_5 3 rfl rfl)
theorem dX0_turn_121 : decode cX0_turn 121 = .ok (.aastore, 1) := dk_83 (dk_at dksX0_turn_5 6 rfl rfl)
theorem dX0_turn_122 : decode cX0_turn 122 = .ok (.aload_n 0, 1) := dk_42 (dk_at dksX0_turn_5 7 rfl rfl)
theorem dX0_turn_123 : decode cX0_turn 123 = .ok (.dup, 1) := dk_89 (dk_at dksX0_turn_5 8 rfl rfl)
theorem dX0_turn_124 : decode cX0_turn 124 = .ok (.getfield 100, 3) := dk_180 0 100 (dk_at dksX0_turn_5 9 rfl rfl)
theorem dX0_turn_127 : decode cX0_turn 127 = .ok (.iconst 1, 1) := dk_4 (dk_at dksX0_turn_5 12 rfl rfl)
theorem dX0_turn_128 : decode cX0_turn 128 = .ok (.iadd, 1) := dk_96 (dk_at dksX0_turn_5 13 rfl rfl)
theorem dX0_turn_129 : decode cX0_turn 129 = .ok (.putfield 100, 3) := dk_181 0 100 (dk_at dksX0_turn_5 14 rfl rfl)
theorem dX0_turn_132 : decode cX0_turn 132 = .ok (.aload 4, 2) := dk_25 4 (dk_at dksX0_turn_5 17 rfl rfl)
theorem dX0_turn_134 : decode cX0_turn 134 = .ok (.getfield 88, 3) := dk_180 0 88 (dk_at dksX0_turn_5 19 rfl rfl)
theorem dX0_turn_137 : decode cX0_turn 137 = .ok (.iload_n 2, 1) := dk_28 (dk_at dksX0_turn_5 22 rfl rfl)
theorem dX0_turn_138 : decode cX0_turn 138 = .ok (.iload_n 3, 1) := dk_29 (dk_at dksX0_turn_5 23 rfl rfl)
theorem dX0_turn_139 : decode cX0_turn 139 = .ok (.iastore, 1) := dk_79 (dk_at dksX0_turn_6 0 rfl rfl)
theorem dX0_turn_140 : decode cX0_turn 140 = .ok (.iload 5, 2) := dk_21 5 (dk_at dksX0_turn_6 1 rfl rfl)
theorem dX0_turn_142 : decode cX0_turn 142 = .ok (.ireturn, 1) := dk_172 (dk_at dksX0_turn_6 3 rfl rfl)
abbrev cX0_undo : ByteArray := prog_1_method_11_code
def yX0_undo : MethodName := ⟨RX0, "undo", "()I"⟩
def dkwX0_undo_3 : List UInt8 := [42, 180, 0, 100, 172]
abbrev dktX0_undo_3 : List UInt8 := dkwX0_undo_3 ++ []
def dkwX0_undo_2 : List UInt8 := [180, 0, 21, 42, 180, 0, 100, 50, 180, 0, 109, 42, 180, 0, 21, 42, 180, 0, 100, 50, 180, 0, 112, 79]
abbrev dktX0_undo_2 : List UInt8 := dkwX0_undo_2 ++ dktX0_undo_3
def dkwX0_undo_1 : List UInt8 := [180, 0, 97, 4, 96, 181, 0, 97, 42, 180, 0, 21, 42, 180, 0, 100, 50, 180, 0, 106, 180, 0, 88, 42]
abbrev dktX0_undo_1 : List UInt8 := dkwX0_undo_1 ++ dktX0_undo_2
def dkwX0_undo_0 : List UInt8 := [42, 180, 0, 100, 154, 0, 6, 16, 251, 172, 42, 89, 180, 0, 100, 4, 100, 181, 0, 100, 42, 89]
abbrev dktX0_undo_0 : List UInt8 := dkwX0_undo_0 ++ dktX0_undo_1
theorem dksX0_undo_0 : cX0_undo.data.toList.drop 0 = dktX0_undo_0 := by decide +kernel
theorem dksX0_undo_1 : cX0_undo.data.toList.drop 22 = dktX0_undo_1 := dk_seg dksX0_undo_0 22 rfl rfl
theorem dksX0_undo_2 : cX0_undo.data.toList.drop 46 = dktX0_undo_2 := dk_seg dksX0_undo_1 24 rfl rfl
theorem dksX0_undo_3 : cX0_undo.data.toList.drop 70 = dktX0_undo_3 := dk_seg dksX0_undo_2 24 rfl rfl
theorem dX0_undo_0 : decode cX0_undo 0 = .ok (.aload_n 0, 1) := dk_42 (dk_at dksX0_undo_0 0 rfl rfl)
theorem dX0_undo_1 : decode cX0_undo 1 = .ok (.getfield 100, 3) := dk_180 0 100 (dk_at dksX0_undo_0 1 rfl rfl)
theorem dX0_undo_4 : decode cX0_undo 4 = .ok (.ifCond .ne 6, 3) := dk_154 0 6 (dk_at dksX0_undo_0 4 rfl rfl)
theorem dX0_undo_7 : decode cX0_undo 7 = .ok (.bipush (-5), 2) := dk_16 251 (dk_at dksX0_undo_0 7 rfl rfl)
theorem dX0_undo_9 : decode cX0_undo 9 = .ok (.ireturn, 1) := dk_172 (dk_at dksX0_undo_0 9 rfl rfl)
theorem dX0_undo_10 : decode cX0_undo 10 = .ok (.aload_n 0, 1) := dk_42 (dk_at dksX0_undo_0 10 rfl rfl)
theorem dX0_undo_11 : decode cX0_undo 11 = .ok (.dup, 1) := dk_89 (dk_at dksX0_undo_0 11 rfl rfl)
theorem dX0_undo_12 : decode cX0_undo 12 = .ok (.getfield 100, 3) := dk_180 0 100 (dk_at dksX0_undo_0 12 rfl rfl)
theorem dX0_undo_15 : decode cX0_undo 15 = .ok (.iconst 1, 1) := dk_4 (dk_at dksX0_undo_0 15 rfl rfl)
theorem dX0_undo_16 : decode cX0_undo 16 = .ok (.isub, 1) := dk_100 (dk_at dksX0_undo_0 16 rfl rfl)
theorem dX0_undo_17 : decode cX0_undo 17 = .ok (.putfield 100, 3) := dk_181 0 100 (dk_at dksX0_undo_0 17 rfl rfl)
theorem dX0_undo_20 : decode cX0_undo 20 = .ok (.aload_n 0, 1) := dk_42 (dk_at dksX0_undo_0 20 rfl rfl)
theorem dX0_undo_21 : decode cX0_undo 21 = .ok (.dup, 1) := dk_89 (dk_at dksX0_undo_0 21 rfl rfl)
theorem dX0_undo_22 : decode cX0_undo 22 = .ok (.getfield 97, 3) := dk_180 0 97 (dk_at dksX0_undo_1 0 rfl rfl)
theorem dX0_undo_25 : decode cX0_undo 25 = .ok (.iconst 1, 1) := dk_4 (dk_at dksX0_undo_1 3 rfl rfl)
theorem dX0_undo_26 : decode cX0_undo 26 = .ok (.iadd, 1) := dk_96 (dk_at dksX0_undo_1 4 rfl rfl)
theorem dX0_undo_27 : decode cX0_undo 27 = .ok (.putfield 97, 3) := dk_181 0 97 (dk_at dksX0_undo_1 5 rfl rfl)
theorem dX0_undo_30 : decode cX0_undo 30 = .ok (.aload_n 0, 1) := dk_42 (dk_at dksX0_undo_1 8 rfl rfl)
theorem dX0_undo_31 : decode cX0_undo 31 = .ok (.getfield 21, 3) := dk_180 0 21 (dk_at dksX0_undo_1 9 rfl rfl)
theorem dX0_undo_34 : decode cX0_undo 34 = .ok (.aload_n 0, 1) := dk_42 (dk_at dksX0_undo_1 12 rfl rfl)
theorem dX0_undo_35 : decode cX0_undo 35 = .ok (.getfield 100, 3) := dk_180 0 100 (dk_at dksX0_undo_1 13 rfl rfl)
theorem dX0_undo_38 : decode cX0_undo 38 = .ok (.aaload, 1) := dk_50 (dk_at dksX0_undo_1 16 rfl rfl)
theorem dX0_undo_39 : decode cX0_undo 39 = .ok (.getfield 106, 3) := dk_180 0 106 (dk_at dksX0_undo_1 17 rfl rfl)
theorem dX0_undo_42 : decode cX0_undo 42 = .ok (.getfield 88, 3) := dk_180 0 88 (dk_at dksX0_undo_1 20 rfl rfl)
theorem dX0_undo_45 : decode cX0_undo 45 = .ok (.aload_n 0, 1) := dk_42 (dk_at dksX0_undo_1 23 rfl rfl)
theorem dX0_undo_46 : decode cX0_undo 46 = .ok (.getfield 21, 3) := dk_180 0 21 (dk_at dksX0_undo_2 0 rfl rfl)
theorem dX0_undo_49 : decode cX0_undo 49 = .ok (.aload_n 0, 1) := dk_42 (dk_at dksX0_undo_2 3 rfl rfl)
theorem dX0_undo_50 : decode cX0_undo 50 = .ok (.getfield 100, 3) := dk_180 0 100 (dk_at dksX0_undo_2 4 rfl rfl)
theorem dX0_undo_53 : decode cX0_undo 53 = .ok (.aaload, 1) := dk_50 (dk_at dksX0_undo_2 7 rfl rfl)
theorem dX0_undo_54 : decode cX0_undo 54 = .ok (.getfield 109, 3) := dk_180 0 109 (dk_at dksX0_undo_2 8 rfl rfl)
theorem dX0_undo_57 : decode cX0_undo 57 = .ok (.aload_n 0, 1) := dk_42 (dk_at dksX0_undo_2 11 rfl rfl)
theorem dX0_undo_58 : decode cX0_undo 58 = .ok (.getfield 21, 3) := dk_180 0 21 (dk_at dksX0_undo_2 12 rfl rfl)
theorem dX0_undo_61 : decode cX0_undo 61 = .ok (.aload_n 0, 1) := dk_42 (dk_at dksX0_undo_2 15 rfl rfl)
theorem dX0_undo_62 : decode cX0_undo 62 = .ok (.getfield 100, 3) := dk_180 0 100 (dk_at dksX0_undo_2 16 rfl rfl)
theorem dX0_undo_65 : decode cX0_undo 65 = .ok (.aaload, 1) := dk_50 (dk_at dksX0_undo_2 19 rfl rfl)
theorem dX0_undo_66 : decode cX0_undo 66 = .ok (.getfield 112, 3) := dk_180 0 112 (dk_at dksX0_undo_2 20 rfl rfl)
theorem dX0_undo_69 : decode cX0_undo 69 = .ok (.iastore, 1) := dk_79 (dk_at dksX0_undo_2 23 rfl rfl)
theorem dX0_undo_70 : decode cX0_undo 70 = .ok (.aload_n 0, 1) := dk_42 (dk_at dksX0_undo_3 0 rfl rfl)
theorem dX0_undo_71 : decode cX0_undo 71 = .ok (.getfield 100, 3) := dk_180 0 100 (dk_at dksX0_undo_3 1 rfl rfl)
theorem dX0_undo_74 : decode cX0_undo 74 = .ok (.ireturn, 1) := dk_172 (dk_at dksX0_undo_3 4 rfl rfl)
abbrev cX0_redo : ByteArray := prog_1_method_12_code
def yX0_redo : MethodName := ⟨RX0, "redo", "()I"⟩
def dkwX0_redo_3 : List UInt8 := [42, 180, 0, 97, 172]
abbrev dktX0_redo_3 : List UInt8 := dkwX0_redo_3 ++ []
def dkwX0_redo_2 : List UInt8 := [180, 0, 115, 79, 42, 89, 180, 0, 100, 4, 96, 181, 0, 100, 42, 89, 180, 0, 97, 4, 100, 181, 0, 97]
abbrev dktX0_redo_2 : List UInt8 := dkwX0_redo_2 ++ dktX0_redo_3
def dkwX0_redo_1 : List UInt8 := [180, 0, 88, 42, 180, 0, 21, 42, 180, 0, 100, 50, 180, 0, 109, 42, 180, 0, 21, 42, 180, 0, 100, 50]
abbrev dktX0_redo_1 : List UInt8 := dkwX0_redo_1 ++ dktX0_redo_2
def dkwX0_redo_0 : List UInt8 := [42, 180, 0, 97, 154, 0, 6, 16, 251, 172, 42, 180, 0, 21, 42, 180, 0, 100, 50, 180, 0, 106]
abbrev dktX0_redo_0 : List UInt8 := dkwX0_redo_0 ++ dktX0_redo_1
theorem dksX0_redo_0 : cX0_redo.data.toList.drop 0 = dktX0_redo_0 := by decide +kernel
theorem dksX0_redo_1 : cX0_redo.data.toList.drop 22 = dktX0_redo_1 := dk_seg dksX0_redo_0 22 rfl rfl
theorem dksX0_redo_2 : cX0_redo.data.toList.drop 46 = dktX0_redo_2 := dk_seg dksX0_redo_1 24 rfl rfl
theorem dksX0_redo_3 : cX0_redo.data.toList.drop 70 = dktX0_redo_3 := dk_seg dksX0_redo_2 24 rfl rfl
theorem dX0_redo_0 : decode cX0_redo 0 = .ok (.aload_n 0, 1) := dk_42 (dk_at dksX0_redo_0 0 rfl rfl)
theorem dX0_redo_1 : decode cX0_redo 1 = .ok (.getfield 97, 3) := dk_180 0 97 (dk_at dksX0_redo_0 1 rfl rfl)
theorem dX0_redo_4 : decode cX0_redo 4 = .ok (.ifCond .ne 6, 3) := dk_154 0 6 (dk_at dksX0_redo_0 4 rfl rfl)
theorem dX0_redo_7 : decode cX0_redo 7 = .ok (.bipush (-5), 2) := dk_16 251 (dk_at dksX0_redo_0 7 rfl rfl)
theorem dX0_redo_9 : decode cX0_redo 9 = .ok (.ireturn, 1) := dk_172 (dk_at dksX0_redo_0 9 rfl rfl)
theorem dX0_redo_10 : decode cX0_redo 10 = .ok (.aload_n 0, 1) := dk_42 (dk_at dksX0_redo_0 10 rfl rfl)
theorem dX0_redo_11 : decode cX0_redo 11 = .ok (.getfield 21, 3) := dk_180 0 21 (dk_at dksX0_redo_0 11 rfl rfl)
theorem dX0_redo_14 : decode cX0_redo 14 = .ok (.aload_n 0, 1) := dk_42 (dk_at dksX0_redo_0 14 rfl rfl)
theorem dX0_redo_15 : decode cX0_redo 15 = .ok (.getfield 100, 3) := dk_180 0 100 (dk_at dksX0_redo_0 15 rfl rfl)
theorem dX0_redo_18 : decode cX0_redo 18 = .ok (.aaload, 1) := dk_50 (dk_at dksX0_redo_0 18 rfl rfl)
theorem dX0_redo_19 : decode cX0_redo 19 = .ok (.getfield 106, 3) := dk_180 0 106 (dk_at dksX0_redo_0 19 rfl rfl)
theorem dX0_redo_22 : decode cX0_redo 22 = .ok (.getfield 88, 3) := dk_180 0 88 (dk_at dksX0_redo_1 0 rfl rfl)
theorem dX0_redo_25 : decode cX0_redo 25 = .ok (.aload_n 0, 1) := dk_42 (dk_at dksX0_redo_1 3 rfl rfl)
theorem dX0_redo_26 : decode cX0_redo 26 = .ok (.getfield 21, 3) := dk_180 0 21 (dk_at dksX0_redo_1 4 rfl rfl)
theorem dX0_redo_29 : decode cX0_redo 29 = .ok (.aload_n 0, 1) := dk_42 (dk_at dksX0_redo_1 7 rfl rfl)
theorem dX0_redo_30 : decode cX0_redo 30 = .ok (.getfield 100, 3) := dk_180 0 100 (dk_at dksX0_redo_1 8 rfl rfl)
theorem dX0_redo_33 : decode cX0_redo 33 = .ok (.aaload, 1) := dk_50 (dk_at dksX0_redo_1 11 rfl rfl)
theorem dX0_redo_34 : decode cX0_redo 34 = .ok (.getfield 109, 3) := dk_180 0 109 (dk_at dksX0_redo_1 12 rfl rfl)
theorem dX0_redo_37 : decode cX0_redo 37 = .ok (.aload_n 0, 1) := dk_42 (dk_at dksX0_redo_1 15 rfl rfl)
theorem dX0_redo_38 : decode cX0_redo 38 = .ok (.getfield 21, 3) := dk_180 0 21 (dk_at dksX0_redo_1 16 rfl rfl)
theorem dX0_redo_41 : decode cX0_redo 41 = .ok (.aload_n 0, 1) := dk_42 (dk_at dksX0_redo_1 19 rfl rfl)
theorem dX0_redo_42 : decode cX0_redo 42 = .ok (.getfield 100, 3) := dk_180 0 100 (dk_at dksX0_redo_1 20 rfl rfl)
theorem dX0_redo_45 : decode cX0_redo 45 = .ok (.aaload, 1) := dk_50 (dk_at dksX0_redo_1 23 rfl rfl)
theorem dX0_redo_46 : decode cX0_redo 46 = .ok (.getfield 115, 3) := dk_180 0 115 (dk_at dksX0_redo_2 0 rfl rfl)
theorem dX0_redo_49 : decode cX0_redo 49 = .ok (.iastore, 1) := dk_79 (dk_at dksX0_redo_2 3 rfl rfl)
theorem dX0_redo_50 : decode cX0_redo 50 = .ok (.aload_n 0, 1) := dk_42 (dk_at dksX0_redo_2 4 rfl rfl)
theorem dX0_redo_51 : decode cX0_redo 51 = .ok (.dup, 1) := dk_89 (dk_at dksX0_redo_2 5 rfl rfl)
theorem dX0_redo_52 : decode cX0_redo 52 = .ok (.getfield 100, 3) := dk_180 0 100 (dk_at dksX0_redo_2 6 rfl rfl)
theorem dX0_redo_55 : decode cX0_redo 55 = .ok (.iconst 1, 1) := dk_4 (dk_at dksX0_redo_2 9 rfl rfl)
theorem dX0_redo_56 : decode cX0_redo 56 = .ok (.iadd, 1) := dk_96 (dk_at dksX0_redo_2 10 rfl rfl)
theorem dX0_redo_57 : decode cX0_redo 57 = .ok (.putfield 100, 3) := dk_181 0 100 (dk_at dksX0_redo_2 11 rfl rfl)
theorem dX0_redo_60 : decode cX0_redo 60 = .ok (.aload_n 0, 1) := dk_42 (dk_at dksX0_redo_2 14 rfl rfl)
theorem dX0_redo_61 : decode cX0_redo 61 = .ok (.dup, 1) := dk_89 (dk_at dksX0_redo_2 15 rfl rfl)
theorem dX0_redo_62 : decode cX0_redo 62 = .ok (.getfield 97, 3) := dk_180 0 97 (dk_at dksX0_redo_2 16 rfl rfl)
theorem dX0_redo_65 : decode cX0_redo 65 = .ok (.iconst 1, 1) := dk_4 (dk_at dksX0_redo_2 19 rfl rfl)
theorem dX0_redo_66 : decode cX0_redo 66 = .ok (.isub, 1) := dk_100 (dk_at dksX0_redo_2 20 rfl rfl)
theorem dX0_redo_67 : decode cX0_redo 67 = .ok (.putfield 97, 3) := dk_181 0 97 (dk_at dksX0_redo_2 21 rfl rfl)
theorem dX0_redo_70 : decode cX0_redo 70 = .ok (.aload_n 0, 1) := dk_42 (dk_at dksX0_redo_3 0 rfl rfl)
theorem dX0_redo_71 : decode cX0_redo 71 = .ok (.getfield 97, 3) := dk_180 0 97 (dk_at dksX0_redo_3 1 rfl rfl)
theorem dX0_redo_74 : decode cX0_redo 74 = .ok (.ireturn, 1) := dk_172 (dk_at dksX0_redo_3 4 rfl rfl)
abbrev cX0_choice : ByteArray := prog_1_method_13_code
def yX0_choice : MethodName := ⟨RX0, "choice", "()I"⟩
def dkwX0_choice_1 : List UInt8 := [155, 0, 11, 16, 156, 43, 180, 0, 125, 100, 172, 42, 44, 181, 0, 128, 4, 172]
abbrev dktX0_choice_1 : List UInt8 := dkwX0_choice_1 ++ []
def dkwX0_choice_0 : List UInt8 := [187, 0, 118, 89, 42, 183, 0, 120, 76, 43, 182, 0, 121, 77, 42, 3, 181, 0, 77, 43, 180, 0, 125]
abbrev dktX0_choice_0 : List UInt8 := dkwX0_choice_0 ++ dktX0_choice_1
theorem dksX0_choice_0 : cX0_choice.data.toList.drop 0 = dktX0_choice_0 := by decide +kernel
theorem dksX0_choice_1 : cX0_choice.data.toList.drop 23 = dktX0_choice_1 := dk_seg dksX0_choice_0 23 rfl rfl
theorem dX0_choice_0 : decode cX0_choice 0 = .ok (.new 118, 3) := dk_187 0 118 (dk_at dksX0_choice_0 0 rfl rfl)
theorem dX0_choice_3 : decode cX0_choice 3 = .ok (.dup, 1) := dk_89 (dk_at dksX0_choice_0 3 rfl rfl)
theorem dX0_choice_4 : decode cX0_choice 4 = .ok (.aload_n 0, 1) := dk_42 (dk_at dksX0_choice_0 4 rfl rfl)
theorem dX0_choice_5 : decode cX0_choice 5 = .ok (.invokespecial 120, 3) := dk_183 0 120 (dk_at dksX0_choice_0 5 rfl rfl)
theorem dX0_choice_8 : decode cX0_choice 8 = .ok (.astore_n 1, 1) := dk_76 (dk_at dksX0_choice_0 8 rfl rfl)
theorem dX0_choice_9 : decode cX0_choice 9 = .ok (.aload_n 1, 1) := dk_43 (dk_at dksX0_choice_0 9 rfl rfl)
theorem dX0_choice_10 : decode cX0_choice 10 = .ok (.invokevirtual 121, 3) := dk_182 0 121 (dk_at dksX0_choice_0 10 rfl rfl)
theorem dX0_choice_13 : decode cX0_choice 13 = .ok (.astore_n 2, 1) := dk_77 (dk_at dksX0_choice_0 13 rfl rfl)
theorem dX0_choice_14 : decode cX0_choice 14 = .ok (.aload_n 0, 1) := dk_42 (dk_at dksX0_choice_0 14 rfl rfl)
theorem dX0_choice_15 : decode cX0_choice 15 = .ok (.iconst 0, 1) := dk_3 (dk_at dksX0_choice_0 15 rfl rfl)
theorem dX0_choice_16 : decode cX0_choice 16 = .ok (.putfield 77, 3) := dk_181 0 77 (dk_at dksX0_choice_0 16 rfl rfl)
theorem dX0_choice_19 : decode cX0_choice 19 = .ok (.aload_n 1, 1) := dk_43 (dk_at dksX0_choice_0 19 rfl rfl)
theorem dX0_choice_20 : decode cX0_choice 20 = .ok (.getfield 125, 3) := dk_180 0 125 (dk_at dksX0_choice_0 20 rfl rfl)
theorem dX0_choice_23 : decode cX0_choice 23 = .ok (.ifCond .lt 11, 3) := dk_155 0 11 (dk_at dksX0_choice_1 0 rfl rfl)
theorem dX0_choice_26 : decode cX0_choice 26 = .ok (.bipush (-100), 2) := dk_16 156 (dk_at dksX0_choice_1 3 rfl rfl)
theorem dX0_choice_28 : decode cX0_choice 28 = .ok (.aload_n 1, 1) := dk_43 (dk_at dksX0_choice_1 5 rfl rfl)
theorem dX0_choice_29 : decode cX0_choice 29 = .ok (.getfield 125, 3) := dk_180 0 125 (dk_at dksX0_choice_1 6 rfl rfl)
theorem dX0_choice_32 : decode cX0_choice 32 = .ok (.isub, 1) := dk_100 (dk_at dksX0_choice_1 9 rfl rfl)
theorem dX0_choice_33 : decode cX0_choice 33 = .ok (.ireturn, 1) := dk_172 (dk_at dksX0_choice_1 10 rfl rfl)
theorem dX0_choice_34 : decode cX0_choice 34 = .ok (.aload_n 0, 1) := dk_42 (dk_at dksX0_choice_1 11 rfl rfl)
theorem dX0_choice_35 : decode cX0_choice 35 = .ok (.aload_n 2, 1) := dk_44 (dk_at dksX0_choice_1 12 rfl rfl)
theorem dX0_choice_36 : decode cX0_choice 36 = .ok (.putfield 128, 3) := dk_181 0 128 (dk_at dksX0_choice_1 13 rfl rfl)
theorem dX0_choice_39 : decode cX0_choice 39 = .ok (.iconst 1, 1) := dk_4 (dk_at dksX0_choice_1 16 rfl rfl)
theorem dX0_choice_40 : decode cX0_choice 40 = .ok (.ireturn, 1) := dk_172 (dk_at dksX0_choice_1 17 rfl rfl)
abbrev cX0_way : ByteArray := prog_1_method_18_code
def yX0_way : MethodName := ⟨RX0, "way", "(III)I"⟩
def dkwX0_way_3 : List UInt8 := [180, 0, 37, 180, 0, 169, 172]
abbrev dktX0_way_3 : List UInt8 := dkwX0_way_3 ++ []
def dkwX0_way_2 : List UInt8 := [180, 0, 163, 167, 0, 25, 29, 4, 160, 0, 13, 42, 180, 0, 37, 180, 0, 166, 167, 0, 10, 42]
abbrev dktX0_way_2 : List UInt8 := dkwX0_way_2 ++ dktX0_way_3
def dkwX0_way_1 : List UInt8 := [2, 172, 42, 27, 28, 182, 0, 160, 154, 0, 6, 16, 254, 172, 29, 154, 0, 13, 42, 180, 0, 37]
abbrev dktX0_way_1 : List UInt8 := dkwX0_way_1 ++ dktX0_way_2
def dkwX0_way_0 : List UInt8 := [42, 27, 182, 0, 154, 153, 0, 19, 28, 184, 0, 157, 153, 0, 12, 29, 3, 5, 184, 0, 73, 154, 0, 5]
abbrev dktX0_way_0 : List UInt8 := dkwX0_way_0 ++ dktX0_way_1
theorem dksX0_way_0 : cX0_way.data.toList.drop 0 = dktX0_way_0 := by decide +kernel
theorem dksX0_way_1 : cX0_way.data.toList.drop 24 = dktX0_way_1 := dk_seg dksX0_way_0 24 rfl rfl
theorem dksX0_way_2 : cX0_way.data.toList.drop 46 = dktX0_way_2 := dk_seg dksX0_way_1 22 rfl rfl
theorem dksX0_way_3 : cX0_way.data.toList.drop 68 = dktX0_way_3 := dk_seg dksX0_way_2 22 rfl rfl
theorem dX0_way_0 : decode cX0_way 0 = .ok (.aload_n 0, 1) := dk_42 (dk_at dksX0_way_0 0 rfl rfl)
theorem dX0_way_1 : decode cX0_way 1 = .ok (.iload_n 1, 1) := dk_27 (dk_at dksX0_way_0 1 rfl rfl)
theorem dX0_way_2 : decode cX0_way 2 = .ok (.invokevirtual 154, 3) := dk_182 0 154 (dk_at dksX0_way_0 2 rfl rfl)
theorem dX0_way_5 : decode cX0_way 5 = .ok (.ifCond .eq 19, 3) := dk_153 0 19 (dk_at dksX0_way_0 5 rfl rfl)
theorem dX0_way_8 : decode cX0_way 8 = .ok (.iload_n 2, 1) := dk_28 (dk_at dksX0_way_0 8 rfl rfl)
theorem dX0_way_9 : decode cX0_way 9 = .ok (.invokestatic 157, 3) := dk_184 0 157 (dk_at dksX0_way_0 9 rfl rfl)
theorem dX0_way_12 : decode cX0_way 12 = .ok (.ifCond .eq 12, 3) := dk_153 0 12 (dk_at dksX0_way_0 12 rfl rfl)
theorem dX0_way_15 : decode cX0_way 15 = .ok (.iload_n 3, 1) := dk_29 (dk_at dksX0_way_0 15 rfl rfl)
theorem dX0_way_16 : decode cX0_way 16 = .ok (.iconst 0, 1) := dk_3 (dk_at dksX0_way_0 16 rfl rfl)
theorem dX0_way_17 : decode cX0_way 17 = .ok (.iconst 2, 1) := dk_5 (dk_at dksX0_way_0 17 rfl rfl)
theorem dX0_way_18 : decode cX0_way 18 = .ok (.invokestatic 73, 3) := dk_184 0 73 (dk_at dksX0_way_0 18 rfl rfl)
theorem dX0_way_21 : decode cX0_way 21 = .ok (.ifCond .ne 5, 3) := dk_154 0 5 (dk_at dksX0_way_0 21 rfl rfl)
theorem dX0_way_24 : decode cX0_way 24 = .ok (.iconst (-1), 1) := dk_2 (dk_at dksX0_way_1 0 rfl rfl)
theorem dX0_way_25 : decode cX0_way 25 = .ok (.ireturn, 1) := dk_172 (dk_at dksX0_way_1 1 rfl rfl)
theorem dX0_way_26 : decode cX0_way 26 = .ok (.aload_n 0, 1) := dk_42 (dk_at dksX0_way_1 2 rfl rfl)
theorem dX0_way_27 : decode cX0_way 27 = .ok (.iload_n 1, 1) := dk_27 (dk_at dksX0_way_1 3 rfl rfl)
theorem dX0_way_28 : decode cX0_way 28 = .ok (.iload_n 2, 1) := dk_28 (dk_at dksX0_way_1 4 rfl rfl)
theorem dX0_way_29 : decode cX0_way 29 = .ok (.invokevirtual 160, 3) := dk_182 0 160 (dk_at dksX0_way_1 5 rfl rfl)
theorem dX0_way_32 : decode cX0_way 32 = .ok (.ifCond .ne 6, 3) := dk_154 0 6 (dk_at dksX0_way_1 8 rfl rfl)
theorem dX0_way_35 : decode cX0_way 35 = .ok (.bipush (-2), 2) := dk_16 254 (dk_at dksX0_way_1 11 rfl rfl)
theorem dX0_way_37 : decode cX0_way 37 = .ok (.ireturn, 1) := dk_172 (dk_at dksX0_way_1 13 rfl rfl)
theorem dX0_way_38 : decode cX0_way 38 = .ok (.iload_n 3, 1) := dk_29 (dk_at dksX0_way_1 14 rfl rfl)
theorem dX0_way_39 : decode cX0_way 39 = .ok (.ifCond .ne 13, 3) := dk_154 0 13 (dk_at dksX0_way_1 15 rfl rfl)
theorem dX0_way_42 : decode cX0_way 42 = .ok (.aload_n 0, 1) := dk_42 (dk_at dksX0_way_1 18 rfl rfl)
theorem dX0_way_43 : decode cX0_way 43 = .ok (.getfield 37, 3) := dk_180 0 37 (dk_at dksX0_way_1 19 rfl rfl)
theorem dX0_way_46 : decode cX0_way 46 = .ok (.getfield 163, 3) := dk_180 0 163 (dk_at dksX0_way_2 0 rfl rfl)
theorem dX0_way_49 : decode cX0_way 49 = .ok (.goto 25, 3) := dk_167 0 25 (dk_at dksX0_way_2 3 rfl rfl)
theorem dX0_way_52 : decode cX0_way 52 = .ok (.iload_n 3, 1) := dk_29 (dk_at dksX0_way_2 6 rfl rfl)
theorem dX0_way_53 : decode cX0_way 53 = .ok (.iconst 1, 1) := dk_4 (dk_at dksX0_way_2 7 rfl rfl)
theorem dX0_way_54 : decode cX0_way 54 = .ok (.if_icmp .ne 13, 3) := dk_160 0 13 (dk_at dksX0_way_2 8 rfl rfl)
theorem dX0_way_57 : decode cX0_way 57 = .ok (.aload_n 0, 1) := dk_42 (dk_at dksX0_way_2 11 rfl rfl)
theorem dX0_way_58 : decode cX0_way 58 = .ok (.getfield 37, 3) := dk_180 0 37 (dk_at dksX0_way_2 12 rfl rfl)
theorem dX0_way_61 : decode cX0_way 61 = .ok (.getfield 166, 3) := dk_180 0 166 (dk_at dksX0_way_2 15 rfl rfl)
theorem dX0_way_64 : decode cX0_way 64 = .ok (.goto 10, 3) := dk_167 0 10 (dk_at dksX0_way_2 18 rfl rfl)
theorem dX0_way_67 : decode cX0_way 67 = .ok (.aload_n 0, 1) := dk_42 (dk_at dksX0_way_2 21 rfl rfl)
theorem dX0_way_68 : decode cX0_way 68 = .ok (.getfield 37, 3) := dk_180 0 37 (dk_at dksX0_way_3 0 rfl rfl)
theorem dX0_way_71 : decode cX0_way 71 = .ok (.getfield 169, 3) := dk_180 0 169 (dk_at dksX0_way_3 3 rfl rfl)
theorem dX0_way_74 : decode cX0_way 74 = .ok (.ireturn, 1) := dk_172 (dk_at dksX0_way_3 6 rfl rfl)
abbrev cX0_isBy : ByteArray := prog_1_method_16_code
def yX0_isBy : MethodName := ⟨RX0, "isBy", "(I)Z"⟩
def dkwX0_isBy_1 : List UInt8 := [4, 167, 0, 4, 3, 172]
abbrev dktX0_isBy_1 : List UInt8 := dkwX0_isBy_1 ++ []
def dkwX0_isBy_0 : List UInt8 := [27, 155, 0, 27, 42, 27, 16, 10, 108, 182, 0, 89, 153, 0, 16, 27, 16, 10, 112, 16, 7, 162, 0, 7]
abbrev dktX0_isBy_0 : List UInt8 := dkwX0_isBy_0 ++ dktX0_isBy_1
theorem dksX0_isBy_0 : cX0_isBy.data.toList.drop 0 = dktX0_isBy_0 := by decide +kernel
theorem dksX0_isBy_1 : cX0_isBy.data.toList.drop 24 = dktX0_isBy_1 := dk_seg dksX0_isBy_0 24 rfl rfl
theorem dX0_isBy_0 : decode cX0_isBy 0 = .ok (.iload_n 1, 1) := dk_27 (dk_at dksX0_isBy_0 0 rfl rfl)
theorem dX0_isBy_1 : decode cX0_isBy 1 = .ok (.ifCond .lt 27, 3) := dk_155 0 27 (dk_at dksX0_isBy_0 1 rfl rfl)
theorem dX0_isBy_4 : decode cX0_isBy 4 = .ok (.aload_n 0, 1) := dk_42 (dk_at dksX0_isBy_0 4 rfl rfl)
theorem dX0_isBy_5 : decode cX0_isBy 5 = .ok (.iload_n 1, 1) := dk_27 (dk_at dksX0_isBy_0 5 rfl rfl)
theorem dX0_isBy_6 : decode cX0_isBy 6 = .ok (.bipush 10, 2) := dk_16 10 (dk_at dksX0_isBy_0 6 rfl rfl)
theorem dX0_isBy_8 : decode cX0_isBy 8 = .ok (.idiv, 1) := dk_108 (dk_at dksX0_isBy_0 8 rfl rfl)
theorem dX0_isBy_9 : decode cX0_isBy 9 = .ok (.invokevirtual 89, 3) := dk_182 0 89 (dk_at dksX0_isBy_0 9 rfl rfl)
theorem dX0_isBy_12 : decode cX0_isBy 12 = .ok (.ifCond .eq 16, 3) := dk_153 0 16 (dk_at dksX0_isBy_0 12 rfl rfl)
theorem dX0_isBy_15 : decode cX0_isBy 15 = .ok (.iload_n 1, 1) := dk_27 (dk_at dksX0_isBy_0 15 rfl rfl)
theorem dX0_isBy_16 : decode cX0_isBy 16 = .ok (.bipush 10, 2) := dk_16 10 (dk_at dksX0_isBy_0 16 rfl rfl)
theorem dX0_isBy_18 : decode cX0_isBy 18 = .ok (.irem, 1) := dk_112 (dk_at dksX0_isBy_0 18 rfl rfl)
theorem dX0_isBy_19 : decode cX0_isBy 19 = .ok (.bipush 7, 2) := dk_16 7 (dk_at dksX0_isBy_0 19 rfl rfl)
theorem dX0_isBy_21 : decode cX0_isBy 21 = .ok (.if_icmp .ge 7, 3) := dk_162 0 7 (dk_at dksX0_isBy_0 21 rfl rfl)
theorem dX0_isBy_24 : decode cX0_isBy 24 = .ok (.iconst 1, 1) := dk_4 (dk_at dksX0_isBy_1 0 rfl rfl)
theorem dX0_isBy_25 : decode cX0_isBy 25 = .ok (.goto 4, 3) := dk_167 0 4 (dk_at dksX0_isBy_1 1 rfl rfl)
theorem dX0_isBy_28 : decode cX0_isBy 28 = .ok (.iconst 0, 1) := dk_3 (dk_at dksX0_isBy_1 4 rfl rfl)
theorem dX0_isBy_29 : decode cX0_isBy 29 = .ok (.ireturn, 1) := dk_172 (dk_at dksX0_isBy_1 5 rfl rfl)
abbrev cX0_isPair : ByteArray := prog_1_method_15_code
def yX0_isPair : MethodName := ⟨RX0, "isPair", "(I)Z"⟩
def dkwX0_isPair_1 : List UInt8 := [158, 0, 7, 4, 167, 0, 4, 3, 172]
abbrev dktX0_isPair_1 : List UInt8 := dkwX0_isPair_1 ++ []
def dkwX0_isPair_0 : List UInt8 := [26, 155, 0, 30, 26, 17, 39, 16, 108, 4, 17, 39, 15, 184, 0, 73, 153, 0, 15, 26, 17, 39, 16, 112]
abbrev dktX0_isPair_0 : List UInt8 := dkwX0_isPair_0 ++ dktX0_isPair_1
theorem dksX0_isPair_0 : cX0_isPair.data.toList.drop 0 = dktX0_isPair_0 := by decide +kernel
theorem dksX0_isPair_1 : cX0_isPair.data.toList.drop 24 = dktX0_isPair_1 := dk_seg dksX0_isPair_0 24 rfl rfl
theorem dX0_isPair_0 : decode cX0_isPair 0 = .ok (.iload_n 0, 1) := dk_26 (dk_at dksX0_isPair_0 0 rfl rfl)
theorem dX0_isPair_1 : decode cX0_isPair 1 = .ok (.ifCond .lt 30, 3) := dk_155 0 30 (dk_at dksX0_isPair_0 1 rfl rfl)
theorem dX0_isPair_4 : decode cX0_isPair 4 = .ok (.iload_n 0, 1) := dk_26 (dk_at dksX0_isPair_0 4 rfl rfl)
theorem dX0_isPair_5 : decode cX0_isPair 5 = .ok (.sipush 10000, 3) := dk_17 39 16 (dk_at dksX0_isPair_0 5 rfl rfl)
theorem dX0_isPair_8 : decode cX0_isPair 8 = .ok (.idiv, 1) := dk_108 (dk_at dksX0_isPair_0 8 rfl rfl)
theorem dX0_isPair_9 : decode cX0_isPair 9 = .ok (.iconst 1, 1) := dk_4 (dk_at dksX0_isPair_0 9 rfl rfl)
theorem dX0_isPair_10 : decode cX0_isPair 10 = .ok (.sipush 9999, 3) := dk_17 39 15 (dk_at dksX0_isPair_0 10 rfl rfl)
theorem dX0_isPair_13 : decode cX0_isPair 13 = .ok (.invokestatic 73, 3) := dk_184 0 73 (dk_at dksX0_isPair_0 13 rfl rfl)
theorem dX0_isPair_16 : decode cX0_isPair 16 = .ok (.ifCond .eq 15, 3) := dk_153 0 15 (dk_at dksX0_isPair_0 16 rfl rfl)
theorem dX0_isPair_19 : decode cX0_isPair 19 = .ok (.iload_n 0, 1) := dk_26 (dk_at dksX0_isPair_0 19 rfl rfl)
theorem dX0_isPair_20 : decode cX0_isPair 20 = .ok (.sipush 10000, 3) := dk_17 39 16 (dk_at dksX0_isPair_0 20 rfl rfl)
theorem dX0_isPair_23 : decode cX0_isPair 23 = .ok (.irem, 1) := dk_112 (dk_at dksX0_isPair_0 23 rfl rfl)
theorem dX0_isPair_24 : decode cX0_isPair 24 = .ok (.ifCond .le 7, 3) := dk_158 0 7 (dk_at dksX0_isPair_1 0 rfl rfl)
theorem dX0_isPair_27 : decode cX0_isPair 27 = .ok (.iconst 1, 1) := dk_4 (dk_at dksX0_isPair_1 3 rfl rfl)
theorem dX0_isPair_28 : decode cX0_isPair 28 = .ok (.goto 4, 3) := dk_167 0 4 (dk_at dksX0_isPair_1 4 rfl rfl)
theorem dX0_isPair_31 : decode cX0_isPair 31 = .ok (.iconst 0, 1) := dk_3 (dk_at dksX0_isPair_1 7 rfl rfl)
theorem dX0_isPair_32 : decode cX0_isPair 32 = .ok (.ireturn, 1) := dk_172 (dk_at dksX0_isPair_1 8 rfl rfl)
abbrev cX0_lays : ByteArray := prog_1_method_17_code
def yX0_lays : MethodName := ⟨RX0, "lays", "(II)Z"⟩
def dkwX0_lays_1 : List UInt8 := [17, 39, 16, 112, 182, 0, 150, 172]
abbrev dktX0_lays_1 : List UInt8 := dkwX0_lays_1 ++ []
def dkwX0_lays_0 : List UInt8 := [42, 180, 0, 37, 42, 180, 0, 15, 27, 16, 10, 108, 50, 27, 16, 10, 112, 28, 17, 39, 16, 108, 28]
abbrev dktX0_lays_0 : List UInt8 := dkwX0_lays_0 ++ dktX0_lays_1
theorem dksX0_lays_0 : cX0_lays.data.toList.drop 0 = dktX0_lays_0 := by decide +kernel
theorem dksX0_lays_1 : cX0_lays.data.toList.drop 23 = dktX0_lays_1 := dk_seg dksX0_lays_0 23 rfl rfl
theorem dX0_lays_0 : decode cX0_lays 0 = .ok (.aload_n 0, 1) := dk_42 (dk_at dksX0_lays_0 0 rfl rfl)
theorem dX0_lays_1 : decode cX0_lays 1 = .ok (.getfield 37, 3) := dk_180 0 37 (dk_at dksX0_lays_0 1 rfl rfl)
theorem dX0_lays_4 : decode cX0_lays 4 = .ok (.aload_n 0, 1) := dk_42 (dk_at dksX0_lays_0 4 rfl rfl)
theorem dX0_lays_5 : decode cX0_lays 5 = .ok (.getfield 15, 3) := dk_180 0 15 (dk_at dksX0_lays_0 5 rfl rfl)
theorem dX0_lays_8 : decode cX0_lays 8 = .ok (.iload_n 1, 1) := dk_27 (dk_at dksX0_lays_0 8 rfl rfl)
theorem dX0_lays_9 : decode cX0_lays 9 = .ok (.bipush 10, 2) := dk_16 10 (dk_at dksX0_lays_0 9 rfl rfl)
theorem dX0_lays_11 : decode cX0_lays 11 = .ok (.idiv, 1) := dk_108 (dk_at dksX0_lays_0 11 rfl rfl)
theorem dX0_lays_12 : decode cX0_lays 12 = .ok (.aaload, 1) := dk_50 (dk_at dksX0_lays_0 12 rfl rfl)
theorem dX0_lays_13 : decode cX0_lays 13 = .ok (.iload_n 1, 1) := dk_27 (dk_at dksX0_lays_0 13 rfl rfl)
theorem dX0_lays_14 : decode cX0_lays 14 = .ok (.bipush 10, 2) := dk_16 10 (dk_at dksX0_lays_0 14 rfl rfl)
theorem dX0_lays_16 : decode cX0_lays 16 = .ok (.irem, 1) := dk_112 (dk_at dksX0_lays_0 16 rfl rfl)
theorem dX0_lays_17 : decode cX0_lays 17 = .ok (.iload_n 2, 1) := dk_28 (dk_at dksX0_lays_0 17 rfl rfl)
theorem dX0_lays_18 : decode cX0_lays 18 = .ok (.sipush 10000, 3) := dk_17 39 16 (dk_at dksX0_lays_0 18 rfl rfl)
theorem dX0_lays_21 : decode cX0_lays 21 = .ok (.idiv, 1) := dk_108 (dk_at dksX0_lays_0 21 rfl rfl)
theorem dX0_lays_22 : decode cX0_lays 22 = .ok (.iload_n 2, 1) := dk_28 (dk_at dksX0_lays_0 22 rfl rfl)
theorem dX0_lays_23 : decode cX0_lays 23 = .ok (.sipush 10000, 3) := dk_17 39 16 (dk_at dksX0_lays_1 0 rfl rfl)
theorem dX0_lays_26 : decode cX0_lays 26 = .ok (.irem, 1) := dk_112 (dk_at dksX0_lays_1 3 rfl rfl)
theorem dX0_lays_27 : decode cX0_lays 27 = .ok (.invokevirtual 150, 3) := dk_182 0 150 (dk_at dksX0_lays_1 4 rfl rfl)
theorem dX0_lays_30 : decode cX0_lays 30 = .ok (.ireturn, 1) := dk_172 (dk_at dksX0_lays_1 7 rfl rfl)
abbrev cX0_sizeOf : ByteArray := prog_1_method_3_code
def yX0_sizeOf : MethodName := ⟨RX0, "sizeOf", "(J)I"⟩
def dkwX0_sizeOf_1 : List UInt8 := [167, 255, 241, 28, 172]
abbrev dktX0_sizeOf_1 : List UInt8 := dkwX0_sizeOf_1 ++ []
def dkwX0_sizeOf_0 : List UInt8 := [4, 61, 30, 20, 0, 71, 109, 66, 33, 9, 148, 158, 0, 15, 132, 2, 1, 33, 20, 0, 71, 109, 66]
abbrev dktX0_sizeOf_0 : List UInt8 := dkwX0_sizeOf_0 ++ dktX0_sizeOf_1
theorem dksX0_sizeOf_0 : cX0_sizeOf.data.toList.drop 0 = dktX0_sizeOf_0 := by decide +kernel
theorem dksX0_sizeOf_1 : cX0_sizeOf.data.toList.drop 23 = dktX0_sizeOf_1 := dk_seg dksX0_sizeOf_0 23 rfl rfl
theorem dX0_sizeOf_0 : decode cX0_sizeOf 0 = .ok (.iconst 1, 1) := dk_4 (dk_at dksX0_sizeOf_0 0 rfl rfl)
theorem dX0_sizeOf_1 : decode cX0_sizeOf 1 = .ok (.istore_n 2, 1) := dk_61 (dk_at dksX0_sizeOf_0 1 rfl rfl)
theorem dX0_sizeOf_2 : decode cX0_sizeOf 2 = .ok (.lload_n 0, 1) := dk_30 (dk_at dksX0_sizeOf_0 2 rfl rfl)
theorem dX0_sizeOf_3 : decode cX0_sizeOf 3 = .ok (.ldc2_w 71, 3) := dk_20 0 71 (dk_at dksX0_sizeOf_0 3 rfl rfl)
theorem dX0_sizeOf_6 : decode cX0_sizeOf 6 = .ok (.ldiv, 1) := dk_109 (dk_at dksX0_sizeOf_0 6 rfl rfl)
theorem dX0_sizeOf_7 : decode cX0_sizeOf 7 = .ok (.lstore_n 3, 1) := dk_66 (dk_at dksX0_sizeOf_0 7 rfl rfl)
theorem dX0_sizeOf_8 : decode cX0_sizeOf 8 = .ok (.lload_n 3, 1) := dk_33 (dk_at dksX0_sizeOf_0 8 rfl rfl)
theorem dX0_sizeOf_9 : decode cX0_sizeOf 9 = .ok (.lconst 0, 1) := dk_9 (dk_at dksX0_sizeOf_0 9 rfl rfl)
theorem dX0_sizeOf_10 : decode cX0_sizeOf 10 = .ok (.lcmp, 1) := dk_148 (dk_at dksX0_sizeOf_0 10 rfl rfl)
theorem dX0_sizeOf_11 : decode cX0_sizeOf 11 = .ok (.ifCond .le 15, 3) := dk_158 0 15 (dk_at dksX0_sizeOf_0 11 rfl rfl)
theorem dX0_sizeOf_14 : decode cX0_sizeOf 14 = .ok (.iinc 2 1, 3) := dk_132 2 1 (dk_at dksX0_sizeOf_0 14 rfl rfl)
theorem dX0_sizeOf_17 : decode cX0_sizeOf 17 = .ok (.lload_n 3, 1) := dk_33 (dk_at dksX0_sizeOf_0 17 rfl rfl)
theorem dX0_sizeOf_18 : decode cX0_sizeOf 18 = .ok (.ldc2_w 71, 3) := dk_20 0 71 (dk_at dksX0_sizeOf_0 18 rfl rfl)
theorem dX0_sizeOf_21 : decode cX0_sizeOf 21 = .ok (.ldiv, 1) := dk_109 (dk_at dksX0_sizeOf_0 21 rfl rfl)
theorem dX0_sizeOf_22 : decode cX0_sizeOf 22 = .ok (.lstore_n 3, 1) := dk_66 (dk_at dksX0_sizeOf_0 22 rfl rfl)
theorem dX0_sizeOf_23 : decode cX0_sizeOf 23 = .ok (.goto (-15), 3) := dk_167 255 241 (dk_at dksX0_sizeOf_1 0 rfl rfl)
theorem dX0_sizeOf_26 : decode cX0_sizeOf 26 = .ok (.iload_n 2, 1) := dk_28 (dk_at dksX0_sizeOf_1 3 rfl rfl)
theorem dX0_sizeOf_27 : decode cX0_sizeOf 27 = .ok (.ireturn, 1) := dk_172 (dk_at dksX0_sizeOf_1 4 rfl rfl)
abbrev cX0_tenTo : ByteArray := prog_1_method_4_code
def yX0_tenTo : MethodName := ⟨RX0, "tenTo", "(I)J"⟩
def dkwX0_tenTo_0 : List UInt8 := [10, 64, 3, 62, 29, 26, 162, 0, 15, 31, 20, 0, 71, 105, 64, 132, 3, 1, 167, 255, 242, 31, 173]
abbrev dktX0_tenTo_0 : List UInt8 := dkwX0_tenTo_0 ++ []
theorem dksX0_tenTo_0 : cX0_tenTo.data.toList.drop 0 = dktX0_tenTo_0 := by decide +kernel
theorem dX0_tenTo_0 : decode cX0_tenTo 0 = .ok (.lconst 1, 1) := dk_10 (dk_at dksX0_tenTo_0 0 rfl rfl)
theorem dX0_tenTo_1 : decode cX0_tenTo 1 = .ok (.lstore_n 1, 1) := dk_64 (dk_at dksX0_tenTo_0 1 rfl rfl)
theorem dX0_tenTo_2 : decode cX0_tenTo 2 = .ok (.iconst 0, 1) := dk_3 (dk_at dksX0_tenTo_0 2 rfl rfl)
theorem dX0_tenTo_3 : decode cX0_tenTo 3 = .ok (.istore_n 3, 1) := dk_62 (dk_at dksX0_tenTo_0 3 rfl rfl)
theorem dX0_tenTo_4 : decode cX0_tenTo 4 = .ok (.iload_n 3, 1) := dk_29 (dk_at dksX0_tenTo_0 4 rfl rfl)
theorem dX0_tenTo_5 : decode cX0_tenTo 5 = .ok (.iload_n 0, 1) := dk_26 (dk_at dksX0_tenTo_0 5 rfl rfl)
theorem dX0_tenTo_6 : decode cX0_tenTo 6 = .ok (.if_icmp .ge 15, 3) := dk_162 0 15 (dk_at dksX0_tenTo_0 6 rfl rfl)
theorem dX0_tenTo_9 : decode cX0_tenTo 9 = .ok (.lload_n 1, 1) := dk_31 (dk_at dksX0_tenTo_0 9 rfl rfl)
theorem dX0_tenTo_10 : decode cX0_tenTo 10 = .ok (.ldc2_w 71, 3) := dk_20 0 71 (dk_at dksX0_tenTo_0 10 rfl rfl)
theorem dX0_tenTo_13 : decode cX0_tenTo 13 = .ok (.lmul, 1) := dk_105 (dk_at dksX0_tenTo_0 13 rfl rfl)
theorem dX0_tenTo_14 : decode cX0_tenTo 14 = .ok (.lstore_n 1, 1) := dk_64 (dk_at dksX0_tenTo_0 14 rfl rfl)
theorem dX0_tenTo_15 : decode cX0_tenTo 15 = .ok (.iinc 3 1, 3) := dk_132 3 1 (dk_at dksX0_tenTo_0 15 rfl rfl)
theorem dX0_tenTo_18 : decode cX0_tenTo 18 = .ok (.goto (-14), 3) := dk_167 255 242 (dk_at dksX0_tenTo_0 18 rfl rfl)
theorem dX0_tenTo_21 : decode cX0_tenTo 21 = .ok (.lload_n 1, 1) := dk_31 (dk_at dksX0_tenTo_0 21 rfl rfl)
theorem dX0_tenTo_22 : decode cX0_tenTo 22 = .ok (.lreturn, 1) := dk_173 (dk_at dksX0_tenTo_0 22 rfl rfl)
abbrev cX0_step : ByteArray := prog_1_method_19_code
def yX0_step : MethodName := ⟨RX0, "step", "(IIII)I"⟩
def dkwX0_step_5 : List UInt8 := [46, 172]
abbrev dktX0_step_5 : List UInt8 := dkwX0_step_5 ++ []
def dkwX0_step_4 : List UInt8 := [5, 160, 0, 15, 42, 180, 0, 37, 180, 0, 180, 29, 46, 167, 0, 12, 42, 180, 0, 37, 180, 0, 183, 29]
abbrev dktX0_step_4 : List UInt8 := dkwX0_step_4 ++ dktX0_step_5
def dkwX0_step_3 : List UInt8 := [167, 0, 49, 21, 4, 4, 160, 0, 16, 42, 180, 0, 37, 180, 0, 176, 29, 47, 136, 167, 0, 30, 21, 4]
abbrev dktX0_step_3 : List UInt8 := dkwX0_step_3 ++ dktX0_step_4
def dkwX0_step_2 : List UInt8 := [184, 0, 73, 154, 0, 6, 18, 172, 172, 21, 4, 154, 0, 15, 42, 180, 0, 37, 180, 0, 173, 29, 46]
abbrev dktX0_step_2 : List UInt8 := dkwX0_step_2 ++ dktX0_step_3
def dkwX0_step_1 : List UInt8 := [153, 0, 29, 42, 27, 28, 182, 0, 160, 153, 0, 20, 29, 3, 42, 180, 0, 37, 180, 0, 169, 4, 100]
abbrev dktX0_step_1 : List UInt8 := dkwX0_step_1 ++ dktX0_step_2
def dkwX0_step_0 : List UInt8 := [42, 27, 182, 0, 154, 153, 0, 46, 28, 184, 0, 157, 153, 0, 39, 21, 4, 3, 6, 184, 0, 73]
abbrev dktX0_step_0 : List UInt8 := dkwX0_step_0 ++ dktX0_step_1
theorem dksX0_step_0 : cX0_step.data.toList.drop 0 = dktX0_step_0 := by decide +kernel
theorem dksX0_step_1 : cX0_step.data.toList.drop 22 = dktX0_step_1 := dk_seg dksX0_step_0 22 rfl rfl
theorem dksX0_step_2 : cX0_step.data.toList.drop 45 = dktX0_step_2 := dk_seg dksX0_step_1 23 rfl rfl
theorem dksX0_step_3 : cX0_step.data.toList.drop 68 = dktX0_step_3 := dk_seg dksX0_step_2 23 rfl rfl
theorem dksX0_step_4 : cX0_step.data.toList.drop 92 = dktX0_step_4 := dk_seg dksX0_step_3 24 rfl rfl
theorem dksX0_step_5 : cX0_step.data.toList.drop 116 = dktX0_step_5 := dk_seg dksX0_step_4 24 rfl rfl
theorem dX0_step_0 : decode cX0_step 0 = .ok (.aload_n 0, 1) := dk_42 (dk_at dksX0_step_0 0 rfl rfl)
theorem dX0_step_1 : decode cX0_step 1 = .ok (.iload_n 1, 1) := dk_27 (dk_at dksX0_step_0 1 rfl rfl)
theorem dX0_step_2 : decode cX0_step 2 = .ok (.invokevirtual 154, 3) := dk_182 0 154 (dk_at dksX0_step_0 2 rfl rfl)
theorem dX0_step_5 : decode cX0_step 5 = .ok (.ifCond .eq 46, 3) := dk_153 0 46 (dk_at dksX0_step_0 5 rfl rfl)
theorem dX0_step_8 : decode cX0_step 8 = .ok (.iload_n 2, 1) := dk_28 (dk_at dksX0_step_0 8 rfl rfl)
theorem dX0_step_9 : decode cX0_step 9 = .ok (.invokestatic 157, 3) := dk_184 0 157 (dk_at dksX0_step_0 9 rfl rfl)
theorem dX0_step_12 : decode cX0_step 12 = .ok (.ifCond .eq 39, 3) := dk_153 0 39 (dk_at dksX0_step_0 12 rfl rfl)
theorem dX0_step_15 : decode cX0_step 15 = .ok (.iload 4, 2) := dk_21 4 (dk_at dksX0_step_0 15 rfl rfl)
theorem dX0_step_17 : decode cX0_step 17 = .ok (.iconst 0, 1) := dk_3 (dk_at dksX0_step_0 17 rfl rfl)
theorem dX0_step_18 : decode cX0_step 18 = .ok (.iconst 3, 1) := dk_6 (dk_at dksX0_step_0 18 rfl rfl)
theorem dX0_step_19 : decode cX0_step 19 = .ok (.invokestatic 73, 3) := dk_184 0 73 (dk_at dksX0_step_0 19 rfl rfl)
theorem dX0_step_22 : decode cX0_step 22 = .ok (.ifCond .eq 29, 3) := dk_153 0 29 (dk_at dksX0_step_1 0 rfl rfl)
theorem dX0_step_25 : decode cX0_step 25 = .ok (.aload_n 0, 1) := dk_42 (dk_at dksX0_step_1 3 rfl rfl)
theorem dX0_step_26 : decode cX0_step 26 = .ok (.iload_n 1, 1) := dk_27 (dk_at dksX0_step_1 4 rfl rfl)
theorem dX0_step_27 : decode cX0_step 27 = .ok (.iload_n 2, 1) := dk_28 (dk_at dksX0_step_1 5 rfl rfl)
theorem dX0_step_28 : decode cX0_step 28 = .ok (.invokevirtual 160, 3) := dk_182 0 160 (dk_at dksX0_step_1 6 rfl rfl)
theorem dX0_step_31 : decode cX0_step 31 = .ok (.ifCond .eq 20, 3) := dk_153 0 20 (dk_at dksX0_step_1 9 rfl rfl)
theorem dX0_step_34 : decode cX0_step 34 = .ok (.iload_n 3, 1) := dk_29 (dk_at dksX0_step_1 12 rfl rfl)
theorem dX0_step_35 : decode cX0_step 35 = .ok (.iconst 0, 1) := dk_3 (dk_at dksX0_step_1 13 rfl rfl)
theorem dX0_step_36 : decode cX0_step 36 = .ok (.aload_n 0, 1) := dk_42 (dk_at dksX0_step_1 14 rfl rfl)
theorem dX0_step_37 : decode cX0_step 37 = .ok (.getfield 37, 3) := dk_180 0 37 (dk_at dksX0_step_1 15 rfl rfl)
theorem dX0_step_40 : decode cX0_step 40 = .ok (.getfield 169, 3) := dk_180 0 169 (dk_at dksX0_step_1 18 rfl rfl)
theorem dX0_step_43 : decode cX0_step 43 = .ok (.iconst 1, 1) := dk_4 (dk_at dksX0_step_1 21 rfl rfl)
theorem dX0_step_44 : decode cX0_step 44 = .ok (.isub, 1) := dk_100 (dk_at dksX0_step_1 22 rfl rfl)
theorem dX0_step_45 : decode cX0_step 45 = .ok (.invokestatic 73, 3) := dk_184 0 73 (dk_at dksX0_step_2 0 rfl rfl)
theorem dX0_step_48 : decode cX0_step 48 = .ok (.ifCond .ne 6, 3) := dk_154 0 6 (dk_at dksX0_step_2 3 rfl rfl)
theorem dX0_step_51 : decode cX0_step 51 = .ok (.ldc 172, 2) := dk_18 172 (dk_at dksX0_step_2 6 rfl rfl)
theorem dX0_step_53 : decode cX0_step 53 = .ok (.ireturn, 1) := dk_172 (dk_at dksX0_step_2 8 rfl rfl)
theorem dX0_step_54 : decode cX0_step 54 = .ok (.iload 4, 2) := dk_21 4 (dk_at dksX0_step_2 9 rfl rfl)
theorem dX0_step_56 : decode cX0_step 56 = .ok (.ifCond .ne 15, 3) := dk_154 0 15 (dk_at dksX0_step_2 11 rfl rfl)
theorem dX0_step_59 : decode cX0_step 59 = .ok (.aload_n 0, 1) := dk_42 (dk_at dksX0_step_2 14 rfl rfl)
theorem dX0_step_60 : decode cX0_step 60 = .ok (.getfield 37, 3) := dk_180 0 37 (dk_at dksX0_step_2 15 rfl rfl)
theorem dX0_step_63 : decode cX0_step 63 = .ok (.getfield 173, 3) := dk_180 0 173 (dk_at dksX0_step_2 18 rfl rfl)
theorem dX0_step_66 : decode cX0_step 66 = .ok (.iload_n 3, 1) := dk_29 (dk_at dksX0_step_2 21 rfl rfl)
theorem dX0_step_67 : decode cX0_step 67 = .ok (.iaload, 1) := dk_46 (dk_at dksX0_step_2 22 rfl rfl)
theorem dX0_step_68 : decode cX0_step 68 = .ok (.goto 49, 3) := dk_167 0 49 (dk_at dksX0_step_3 0 rfl rfl)
theorem dX0_step_71 : decode cX0_step 71 = .ok (.iload 4, 2) := dk_21 4 (dk_at dksX0_step_3 3 rfl rfl)
theorem dX0_step_73 : decode cX0_step 73 = .ok (.iconst 1, 1) := dk_4 (dk_at dksX0_step_3 5 rfl rfl)
theorem dX0_step_74 : decode cX0_step 74 = .ok (.if_icmp .ne 16, 3) := dk_160 0 16 (dk_at dksX0_step_3 6 rfl rfl)
theorem dX0_step_77 : decode cX0_step 77 = .ok (.aload_n 0, 1) := dk_42 (dk_at dksX0_step_3 9 rfl rfl)
theorem dX0_step_78 : decode cX0_step 78 = .ok (.getfield 37, 3) := dk_180 0 37 (dk_at dksX0_step_3 10 rfl rfl)
theorem dX0_step_81 : decode cX0_step 81 = .ok (.getfield 176, 3) := dk_180 0 176 (dk_at dksX0_step_3 13 rfl rfl)
theorem dX0_step_84 : decode cX0_step 84 = .ok (.iload_n 3, 1) := dk_29 (dk_at dksX0_step_3 16 rfl rfl)
theorem dX0_step_85 : decode cX0_step 85 = .ok (.laload, 1) := dk_47 (dk_at dksX0_step_3 17 rfl rfl)
theorem dX0_step_86 : decode cX0_step 86 = .ok (.l2i, 1) := dk_136 (dk_at dksX0_step_3 18 rfl rfl)
theorem dX0_step_87 : decode cX0_step 87 = .ok (.goto 30, 3) := dk_167 0 30 (dk_at dksX0_step_3 19 rfl rfl)
theorem dX0_step_90 : decode cX0_step 90 = .ok (.iload 4, 2) := dk_21 4 (dk_at dksX0_step_3 22 rfl rfl)
theorem dX0_step_92 : decode cX0_step 92 = .ok (.iconst 2, 1) := dk_5 (dk_at dksX0_step_4 0 rfl rfl)
theorem dX0_step_93 : decode cX0_step 93 = .ok (.if_icmp .ne 15, 3) := dk_160 0 15 (dk_at dksX0_step_4 1 rfl rfl)
theorem dX0_step_96 : decode cX0_step 96 = .ok (.aload_n 0, 1) := dk_42 (dk_at dksX0_step_4 4 rfl rfl)
theorem dX0_step_97 : decode cX0_step 97 = .ok (.getfield 37, 3) := dk_180 0 37 (dk_at dksX0_step_4 5 rfl rfl)
theorem dX0_step_100 : decode cX0_step 100 = .ok (.getfield 180, 3) := dk_180 0 180 (dk_at dksX0_step_4 8 rfl rfl)
theorem dX0_step_103 : decode cX0_step 103 = .ok (.iload_n 3, 1) := dk_29 (dk_at dksX0_step_4 11 rfl rfl)
theorem dX0_step_104 : decode cX0_step 104 = .ok (.iaload, 1) := dk_46 (dk_at dksX0_step_4 12 rfl rfl)
theorem dX0_step_105 : decode cX0_step 105 = .ok (.goto 12, 3) := dk_167 0 12 (dk_at dksX0_step_4 13 rfl rfl)
theorem dX0_step_108 : decode cX0_step 108 = .ok (.aload_n 0, 1) := dk_42 (dk_at dksX0_step_4 16 rfl rfl)
theorem dX0_step_109 : decode cX0_step 109 = .ok (.getfield 37, 3) := dk_180 0 37 (dk_at dksX0_step_4 17 rfl rfl)
theorem dX0_step_112 : decode cX0_step 112 = .ok (.getfield 183, 3) := dk_180 0 183 (dk_at dksX0_step_4 20 rfl rfl)
theorem dX0_step_115 : decode cX0_step 115 = .ok (.iload_n 3, 1) := dk_29 (dk_at dksX0_step_4 23 rfl rfl)
theorem dX0_step_116 : decode cX0_step 116 = .ok (.iaload, 1) := dk_46 (dk_at dksX0_step_5 0 rfl rfl)
theorem dX0_step_117 : decode cX0_step 117 = .ok (.ireturn, 1) := dk_172 (dk_at dksX0_step_5 1 rfl rfl)
abbrev cX0_chosen : ByteArray := prog_1_method_23_code
def yX0_chosen : MethodName := ⟨RX0, "chosen", "(II)I"⟩
def dkwX0_chosen_1 : List UInt8 := [17, 39, 16, 108, 28, 17, 39, 16, 112, 182, 0, 207, 167, 0, 4, 2, 172]
abbrev dktX0_chosen_1 : List UInt8 := dkwX0_chosen_1 ++ []
def dkwX0_chosen_0 : List UInt8 := [42, 27, 182, 0, 89, 153, 0, 33, 28, 184, 0, 157, 153, 0, 26, 42, 42, 180, 0, 15, 27, 50, 28]
abbrev dktX0_chosen_0 : List UInt8 := dkwX0_chosen_0 ++ dktX0_chosen_1
theorem dksX0_chosen_0 : cX0_chosen.data.toList.drop 0 = dktX0_chosen_0 := by decide +kernel
theorem dksX0_chosen_1 : cX0_chosen.data.toList.drop 23 = dktX0_chosen_1 := dk_seg dksX0_chosen_0 23 rfl rfl
theorem dX0_chosen_0 : decode cX0_chosen 0 = .ok (.aload_n 0, 1) := dk_42 (dk_at dksX0_chosen_0 0 rfl rfl)
theorem dX0_chosen_1 : decode cX0_chosen 1 = .ok (.iload_n 1, 1) := dk_27 (dk_at dksX0_chosen_0 1 rfl rfl)
theorem dX0_chosen_2 : decode cX0_chosen 2 = .ok (.invokevirtual 89, 3) := dk_182 0 89 (dk_at dksX0_chosen_0 2 rfl rfl)
theorem dX0_chosen_5 : decode cX0_chosen 5 = .ok (.ifCond .eq 33, 3) := dk_153 0 33 (dk_at dksX0_chosen_0 5 rfl rfl)
theorem dX0_chosen_8 : decode cX0_chosen 8 = .ok (.iload_n 2, 1) := dk_28 (dk_at dksX0_chosen_0 8 rfl rfl)
theorem dX0_chosen_9 : decode cX0_chosen 9 = .ok (.invokestatic 157, 3) := dk_184 0 157 (dk_at dksX0_chosen_0 9 rfl rfl)
theorem dX0_chosen_12 : decode cX0_chosen 12 = .ok (.ifCond .eq 26, 3) := dk_153 0 26 (dk_at dksX0_chosen_0 12 rfl rfl)
theorem dX0_chosen_15 : decode cX0_chosen 15 = .ok (.aload_n 0, 1) := dk_42 (dk_at dksX0_chosen_0 15 rfl rfl)
theorem dX0_chosen_16 : decode cX0_chosen 16 = .ok (.aload_n 0, 1) := dk_42 (dk_at dksX0_chosen_0 16 rfl rfl)
theorem dX0_chosen_17 : decode cX0_chosen 17 = .ok (.getfield 15, 3) := dk_180 0 15 (dk_at dksX0_chosen_0 17 rfl rfl)
theorem dX0_chosen_20 : decode cX0_chosen 20 = .ok (.iload_n 1, 1) := dk_27 (dk_at dksX0_chosen_0 20 rfl rfl)
theorem dX0_chosen_21 : decode cX0_chosen 21 = .ok (.aaload, 1) := dk_50 (dk_at dksX0_chosen_0 21 rfl rfl)
theorem dX0_chosen_22 : decode cX0_chosen 22 = .ok (.iload_n 2, 1) := dk_28 (dk_at dksX0_chosen_0 22 rfl rfl)
theorem dX0_chosen_23 : decode cX0_chosen 23 = .ok (.sipush 10000, 3) := dk_17 39 16 (dk_at dksX0_chosen_1 0 rfl rfl)
theorem dX0_chosen_26 : decode cX0_chosen 26 = .ok (.idiv, 1) := dk_108 (dk_at dksX0_chosen_1 3 rfl rfl)
theorem dX0_chosen_27 : decode cX0_chosen 27 = .ok (.iload_n 2, 1) := dk_28 (dk_at dksX0_chosen_1 4 rfl rfl)
theorem dX0_chosen_28 : decode cX0_chosen 28 = .ok (.sipush 10000, 3) := dk_17 39 16 (dk_at dksX0_chosen_1 5 rfl rfl)
theorem dX0_chosen_31 : decode cX0_chosen 31 = .ok (.irem, 1) := dk_112 (dk_at dksX0_chosen_1 8 rfl rfl)
theorem dX0_chosen_32 : decode cX0_chosen 32 = .ok (.invokevirtual 207, 3) := dk_182 0 207 (dk_at dksX0_chosen_1 9 rfl rfl)
theorem dX0_chosen_35 : decode cX0_chosen 35 = .ok (.goto 4, 3) := dk_167 0 4 (dk_at dksX0_chosen_1 12 rfl rfl)
theorem dX0_chosen_38 : decode cX0_chosen 38 = .ok (.iconst (-1), 1) := dk_2 (dk_at dksX0_chosen_1 15 rfl rfl)
theorem dX0_chosen_39 : decode cX0_chosen 39 = .ok (.ireturn, 1) := dk_172 (dk_at dksX0_chosen_1 16 rfl rfl)
abbrev cX0_chosenOf : ByteArray := prog_1_method_21_code
def yX0_chosenOf : MethodName := ⟨RX0, "chosenOf", "(LHeadReckons$Head;II)I"⟩
def dkwX0_chosenOf_7 : List UInt8 := [29, 182, 0, 150, 153, 0, 8, 21, 4, 167, 0, 4, 4, 172]
abbrev dktX0_chosenOf_7 : List UInt8 := dkwX0_chosenOf_7 ++ []
def dkwX0_chosenOf_6 : List UInt8 := [182, 0, 205, 54, 4, 21, 4, 3, 16, 6, 184, 0, 73, 153, 0, 23, 42, 180, 0, 37, 43, 21, 4, 28]
abbrev dktX0_chosenOf_6 : List UInt8 := dkwX0_chosenOf_6 ++ dktX0_chosenOf_7
def dkwX0_chosenOf_5 : List UInt8 := [43, 180, 0, 88, 6, 46, 79, 42, 180, 0, 28, 180, 0, 189, 16, 99, 43, 180, 0, 88, 7, 46, 79, 42]
abbrev dktX0_chosenOf_5 : List UInt8 := dkwX0_chosenOf_5 ++ dktX0_chosenOf_6
def dkwX0_chosenOf_4 : List UInt8 := [180, 0, 189, 16, 122, 28, 184, 0, 202, 29, 184, 0, 202, 96, 79, 42, 180, 0, 28, 180, 0, 189, 16, 116]
abbrev dktX0_chosenOf_4 : List UInt8 := dkwX0_chosenOf_4 ++ dktX0_chosenOf_5
def dkwX0_chosenOf_3 : List UInt8 := [16, 10, 112, 79, 42, 180, 0, 28, 180, 0, 189, 16, 100, 28, 29, 100, 184, 0, 196, 79, 42, 180, 0, 28]
abbrev dktX0_chosenOf_3 : List UInt8 := dkwX0_chosenOf_3 ++ dktX0_chosenOf_4
def dkwX0_chosenOf_2 : List UInt8 := [180, 0, 28, 180, 0, 189, 16, 120, 28, 16, 10, 112, 79, 42, 180, 0, 28, 180, 0, 189, 16, 121, 29]
abbrev dktX0_chosenOf_2 : List UInt8 := dkwX0_chosenOf_2 ++ dktX0_chosenOf_3
def dkwX0_chosenOf_1 : List UInt8 := [16, 109, 28, 133, 184, 0, 192, 79, 42, 180, 0, 28, 180, 0, 189, 16, 110, 29, 133, 184, 0, 192, 79, 42]
abbrev dktX0_chosenOf_1 : List UInt8 := dkwX0_chosenOf_1 ++ dktX0_chosenOf_2
def dkwX0_chosenOf_0 : List UInt8 := [42, 180, 0, 128, 199, 0, 5, 4, 172, 42, 180, 0, 28, 182, 0, 186, 42, 180, 0, 28, 180, 0, 189]
abbrev dktX0_chosenOf_0 : List UInt8 := dkwX0_chosenOf_0 ++ dktX0_chosenOf_1
theorem dksX0_chosenOf_0 : cX0_chosenOf.data.toList.drop 0 = dktX0_chosenOf_0 := by decide +kernel
theorem dksX0_chosenOf_1 : cX0_chosenOf.data.toList.drop 23 = dktX0_chosenOf_1 := dk_seg dksX0_chosenOf_0 23 rfl rfl
theorem dksX0_chosenOf_2 : cX0_chosenOf.data.toList.drop 47 = dktX0_chosenOf_2 := dk_seg dksX0_chosenOf_1 24 rfl rfl
theorem dksX0_chosenOf_3 : cX0_chosenOf.data.toList.drop 70 = dktX0_chosenOf_3 := dk_seg dksX0_chosenOf_2 23 rfl rfl
theorem dksX0_chosenOf_4 : cX0_chosenOf.data.toList.drop 94 = dktX0_chosenOf_4 := dk_seg dksX0_chosenOf_3 24 rfl rfl
theorem dksX0_chosenOf_5 : cX0_chosenOf.data.toList.drop 118 = dktX0_chosenOf_5 := dk_seg dksX0_chosenOf_4 24 rfl rfl
theorem dksX0_chosenOf_6 : cX0_chosenOf.data.toList.drop 142 = dktX0_chosenOf_6 := dk_seg dksX0_chosenOf_5 24 rfl rfl
theorem dksX0_chosenOf_7 : cX0_chosenOf.data.toList.drop 166 = dktX0_chosenOf_7 := dk_seg dksX0_chosenOf_6 24 rfl rfl
theorem dX0_chosenOf_0 : decode cX0_chosenOf 0 = .ok (.aload_n 0, 1) := dk_42 (dk_at dksX0_chosenOf_0 0 rfl rfl)
theorem dX0_chosenOf_1 : decode cX0_chosenOf 1 = .ok (.getfield 128, 3) := dk_180 0 128 (dk_at dksX0_chosenOf_0 1 rfl rfl)
theorem dX0_chosenOf_4 : decode cX0_chosenOf 4 = .ok (.ifnonnull 5, 3) := dk_199 0 5 (dk_at dksX0_chosenOf_0 4 rfl rfl)
theorem dX0_chosenOf_7 : decode cX0_chosenOf 7 = .ok (.iconst 1, 1) := dk_4 (dk_at dksX0_chosenOf_0 7 rfl rfl)
theorem dX0_chosenOf_8 : decode cX0_chosenOf 8 = .ok (.ireturn, 1) := dk_172 (dk_at dksX0_chosenOf_0 8 rfl rfl)
theorem dX0_chosenOf_9 : decode cX0_chosenOf 9 = .ok (.aload_n 0, 1) := dk_42 (dk_at dksX0_chosenOf_0 9 rfl rfl)
theorem dX0_chosenOf_10 : decode cX0_chosenOf 10 = .ok (.getfield 28, 3) := dk_180 0 28 (dk_at dksX0_chosenOf_0 10 rfl rfl)
theorem dX0_chosenOf_13 : decode cX0_chosenOf 13 = .ok (.invokevirtual 186, 3) := dk_182 0 186 (dk_at dksX0_chosenOf_0 13 rfl rfl)
theorem dX0_chosenOf_16 : decode cX0_chosenOf 16 = .ok (.aload_n 0, 1) := dk_42 (dk_at dksX0_chosenOf_0 16 rfl rfl)
theorem dX0_chosenOf_17 : decode cX0_chosenOf 17 = .ok (.getfield 28, 3) := dk_180 0 28 (dk_at dksX0_chosenOf_0 17 rfl rfl)
theorem dX0_chosenOf_20 : decode cX0_chosenOf 20 = .ok (.getfield 189, 3) := dk_180 0 189 (dk_at dksX0_chosenOf_0 20 rfl rfl)
theorem dX0_chosenOf_23 : decode cX0_chosenOf 23 = .ok (.bipush 109, 2) := dk_16 109 (dk_at dksX0_chosenOf_1 0 rfl rfl)
theorem dX0_chosenOf_25 : decode cX0_chosenOf 25 = .ok (.iload_n 2, 1) := dk_28 (dk_at dksX0_chosenOf_1 2 rfl rfl)
theorem dX0_chosenOf_26 : decode cX0_chosenOf 26 = .ok (.i2l, 1) := dk_133 (dk_at dksX0_chosenOf_1 3 rfl rfl)
theorem dX0_chosenOf_27 : decode cX0_chosenOf 27 = .ok (.invokestatic 192, 3) := dk_184 0 192 (dk_at dksX0_chosenOf_1 4 rfl rfl)
theorem dX0_chosenOf_30 : decode cX0_chosenOf 30 = .ok (.iastore, 1) := dk_79 (dk_at dksX0_chosenOf_1 7 rfl rfl)
theorem dX0_chosenOf_31 : decode cX0_chosenOf 31 = .ok (.aload_n 0, 1) := dk_42 (dk_at dksX0_chosenOf_1 8 rfl rfl)
theorem dX0_chosenOf_32 : decode cX0_chosenOf 32 = .ok (.getfield 28, 3) := dk_180 0 28 (dk_at dksX0_chosenOf_1 9 rfl rfl)
theorem dX0_chosenOf_35 : decode cX0_chosenOf 35 = .ok (.getfield 189, 3) := dk_180 0 189 (dk_at dksX0_chosenOf_1 12 rfl rfl)
theorem dX0_chosenOf_38 : decode cX0_chosenOf 38 = .ok (.bipush 110, 2) := dk_16 110 (dk_at dksX0_chosenOf_1 15 rfl rfl)
theorem dX0_chosenOf_40 : decode cX0_chosenOf 40 = .ok (.iload_n 3, 1) := dk_29 (dk_at dksX0_chosenOf_1 17 rfl rfl)
theorem dX0_chosenOf_41 : decode cX0_chosenOf 41 = .ok (.i2l, 1) := dk_133 (dk_at dksX0_chosenOf_1 18 rfl rfl)
theorem dX0_chosenOf_42 : decode cX0_chosenOf 42 = .ok (.invokestatic 192, 3) := dk_184 0 192 (dk_at dksX0_chosenOf_1 19 rfl rfl)
theorem dX0_chosenOf_45 : decode cX0_chosenOf 45 = .ok (.iastore, 1) := dk_79 (dk_at dksX0_chosenOf_1 22 rfl rfl)
theorem dX0_chosenOf_46 : decode cX0_chosenOf 46 = .ok (.aload_n 0, 1) := dk_42 (dk_at dksX0_chosenOf_1 23 rfl rfl)
theorem dX0_chosenOf_47 : decode cX0_chosenOf 47 = .ok (.getfield 28, 3) := dk_180 0 28 (dk_at dksX0_chosenOf_2 0 rfl rfl)
theorem dX0_chosenOf_50 : decode cX0_chosenOf 50 = .ok (.getfield 189, 3) := dk_180 0 189 (dk_at dksX0_chosenOf_2 3 rfl rfl)
theorem dX0_chosenOf_53 : decode cX0_chosenOf 53 = .ok (.bipush 120, 2) := dk_16 120 (dk_at dksX0_chosenOf_2 6 rfl rfl)
theorem dX0_chosenOf_55 : decode cX0_chosenOf 55 = .ok (.iload_n 2, 1) := dk_28 (dk_at dksX0_chosenOf_2 8 rfl rfl)
theorem dX0_chosenOf_56 : decode cX0_chosenOf 56 = .ok (.bipush 10, 2) := dk_16 10 (dk_at dksX0_chosenOf_2 9 rfl rfl)
theorem dX0_chosenOf_58 : decode cX0_chosenOf 58 = .ok (.irem, 1) := dk_112 (dk_at dksX0_chosenOf_2 11 rfl rfl)
theorem dX0_chosenOf_59 : decode cX0_chosenOf 59 = .ok (.iastore, 1) := dk_79 (dk_at dksX0_chosenOf_2 12 rfl rfl)
theorem dX0_chosenOf_60 : decode cX0_chosenOf 60 = .ok (.aload_n 0, 1) := dk_42 (dk_at dksX0_chosenOf_2 13 rfl rfl)
theorem dX0_chosenOf_61 : decode cX0_chosenOf 61 = .ok (.getfield 28, 3) := dk_180 0 28 (dk_at dksX0_chosenOf_2 14 rfl rfl)
theorem dX0_chosenOf_64 : decode cX0_chosenOf 64 = .ok (.getfield 189, 3) := dk_180 0 189 (dk_at dksX0_chosenOf_2 17 rfl rfl)
theorem dX0_chosenOf_67 : decode cX0_chosenOf 67 = .ok (.bipush 121, 2) := dk_16 121 (dk_at dksX0_chosenOf_2 20 rfl rfl)
theorem dX0_chosenOf_69 : decode cX0_chosenOf 69 = .ok (.iload_n 3, 1) := dk_29 (dk_at dksX0_chosenOf_2 22 rfl rfl)
theorem dX0_chosenOf_70 : decode cX0_chosenOf 70 = .ok (.bipush 10, 2) := dk_16 10 (dk_at dksX0_chosenOf_3 0 rfl rfl)
theorem dX0_chosenOf_72 : decode cX0_chosenOf 72 = .ok (.irem, 1) := dk_112 (dk_at dksX0_chosenOf_3 2 rfl rfl)
theorem dX0_chosenOf_73 : decode cX0_chosenOf 73 = .ok (.iastore, 1) := dk_79 (dk_at dksX0_chosenOf_3 3 rfl rfl)
theorem dX0_chosenOf_74 : decode cX0_chosenOf 74 = .ok (.aload_n 0, 1) := dk_42 (dk_at dksX0_chosenOf_3 4 rfl rfl)
theorem dX0_chosenOf_75 : decode cX0_chosenOf 75 = .ok (.getfield 28, 3) := dk_180 0 28 (dk_at dksX0_chosenOf_3 5 rfl rfl)
theorem dX0_chosenOf_78 : decode cX0_chosenOf 78 = .ok (.getfield 189, 3) := dk_180 0 189 (dk_at dksX0_chosenOf_3 8 rfl rfl)
theorem dX0_chosenOf_81 : decode cX0_chosenOf 81 = .ok (.bipush 100, 2) := dk_16 100 (dk_at dksX0_chosenOf_3 11 rfl rfl)
theorem dX0_chosenOf_83 : decode cX0_chosenOf 83 = .ok (.iload_n 2, 1) := dk_28 (dk_at dksX0_chosenOf_3 13 rfl rfl)
theorem dX0_chosenOf_84 : decode cX0_chosenOf 84 = .ok (.iload_n 3, 1) := dk_29 (dk_at dksX0_chosenOf_3 14 rfl rfl)
theorem dX0_chosenOf_85 : decode cX0_chosenOf 85 = .ok (.isub, 1) := dk_100 (dk_at dksX0_chosenOf_3 15 rfl rfl)
theorem dX0_chosenOf_86 : decode cX0_chosenOf 86 = .ok (.invokestatic 196, 3) := dk_184 0 196 (dk_at dksX0_chosenOf_3 16 rfl rfl)
theorem dX0_chosenOf_89 : decode cX0_chosenOf 89 = .ok (.iastore, 1) := dk_79 (dk_at dksX0_chosenOf_3 19 rfl rfl)
theorem dX0_chosenOf_90 : decode cX0_chosenOf 90 = .ok (.aload_n 0, 1) := dk_42 (dk_at dksX0_chosenOf_3 20 rfl rfl)
theorem dX0_chosenOf_91 : decode cX0_chosenOf 91 = .ok (.getfield 28, 3) := dk_180 0 28 (dk_at dksX0_chosenOf_3 21 rfl rfl)
theorem dX0_chosenOf_94 : decode cX0_chosenOf 94 = .ok (.getfield 189, 3) := dk_180 0 189 (dk_at dksX0_chosenOf_4 0 rfl rfl)
theorem dX0_chosenOf_97 : decode cX0_chosenOf 97 = .ok (.bipush 122, 2) := dk_16 122 (dk_at dksX0_chosenOf_4 3 rfl rfl)
theorem dX0_chosenOf_99 : decode cX0_chosenOf 99 = .ok (.iload_n 2, 1) := dk_28 (dk_at dksX0_chosenOf_4 5 rfl rfl)
theorem dX0_chosenOf_100 : decode cX0_chosenOf 100 = .ok (.invokestatic 202, 3) := dk_184 0 202 (dk_at dksX0_chosenOf_4 6 rfl rfl)
theorem dX0_chosenOf_103 : decode cX0_chosenOf 103 = .ok (.iload_n 3, 1) := dk_29 (dk_at dksX0_chosenOf_4 9 rfl rfl)
theorem dX0_chosenOf_104 : decode cX0_chosenOf 104 = .ok (.invokestatic 202, 3) := dk_184 0 202 (dk_at dksX0_chosenOf_4 10 rfl rfl)
theorem dX0_chosenOf_107 : decode cX0_chosenOf 107 = .ok (.iadd, 1) := dk_96 (dk_at dksX0_chosenOf_4 13 rfl rfl)
theorem dX0_chosenOf_108 : decode cX0_chosenOf 108 = .ok (.iastore, 1) := dk_79 (dk_at dksX0_chosenOf_4 14 rfl rfl)
theorem dX0_chosenOf_109 : decode cX0_chosenOf 109 = .ok (.aload_n 0, 1) := dk_42 (dk_at dksX0_chosenOf_4 15 rfl rfl)
theorem dX0_chosenOf_110 : decode cX0_chosenOf 110 = .ok (.getfield 28, 3) := dk_180 0 28 (dk_at dksX0_chosenOf_4 16 rfl rfl)
theorem dX0_chosenOf_113 : decode cX0_chosenOf 113 = .ok (.getfield 189, 3) := dk_180 0 189 (dk_at dksX0_chosenOf_4 19 rfl rfl)
theorem dX0_chosenOf_116 : decode cX0_chosenOf 116 = .ok (.bipush 116, 2) := dk_16 116 (dk_at dksX0_chosenOf_4 22 rfl rfl)
theorem dX0_chosenOf_118 : decode cX0_chosenOf 118 = .ok (.aload_n 1, 1) := dk_43 (dk_at dksX0_chosenOf_5 0 rfl rfl)
theorem dX0_chosenOf_119 : decode cX0_chosenOf 119 = .ok (.getfield 88, 3) := dk_180 0 88 (dk_at dksX0_chosenOf_5 1 rfl rfl)
theorem dX0_chosenOf_122 : decode cX0_chosenOf 122 = .ok (.iconst 3, 1) := dk_6 (dk_at dksX0_chosenOf_5 4 rfl rfl)
theorem dX0_chosenOf_123 : decode cX0_chosenOf 123 = .ok (.iaload, 1) := dk_46 (dk_at dksX0_chosenOf_5 5 rfl rfl)
theorem dX0_chosenOf_124 : decode cX0_chosenOf 124 = .ok (.iastore, 1) := dk_79 (dk_at dksX0_chosenOf_5 6 rfl rfl)
theorem dX0_chosenOf_125 : decode cX0_chosenOf 125 = .ok (.aload_n 0, 1) := dk_42 (dk_at dksX0_chosenOf_5 7 rfl rfl)
theorem dX0_chosenOf_126 : decode cX0_chosenOf 126 = .ok (.getfield 28, 3) := dk_180 0 28 (dk_at dksX0_chosenOf_5 8 rfl rfl)
theorem dX0_chosenOf_129 : decode cX0_chosenOf 129 = .ok (.getfield 189, 3) := dk_180 0 189 (dk_at dksX0_chosenOf_5 11 rfl rfl)
theorem dX0_chosenOf_132 : decode cX0_chosenOf 132 = .ok (.bipush 99, 2) := dk_16 99 (dk_at dksX0_chosenOf_5 14 rfl rfl)
theorem dX0_chosenOf_134 : decode cX0_chosenOf 134 = .ok (.aload_n 1, 1) := dk_43 (dk_at dksX0_chosenOf_5 16 rfl rfl)
theorem dX0_chosenOf_135 : decode cX0_chosenOf 135 = .ok (.getfield 88, 3) := dk_180 0 88 (dk_at dksX0_chosenOf_5 17 rfl rfl)
theorem dX0_chosenOf_138 : decode cX0_chosenOf 138 = .ok (.iconst 4, 1) := dk_7 (dk_at dksX0_chosenOf_5 20 rfl rfl)
theorem dX0_chosenOf_139 : decode cX0_chosenOf 139 = .ok (.iaload, 1) := dk_46 (dk_at dksX0_chosenOf_5 21 rfl rfl)
theorem dX0_chosenOf_140 : decode cX0_chosenOf 140 = .ok (.iastore, 1) := dk_79 (dk_at dksX0_chosenOf_5 22 rfl rfl)
theorem dX0_chosenOf_141 : decode cX0_chosenOf 141 = .ok (.aload_n 0, 1) := dk_42 (dk_at dksX0_chosenOf_5 23 rfl rfl)
theorem dX0_chosenOf_142 : decode cX0_chosenOf 142 = .ok (.invokevirtual 205, 3) := dk_182 0 205 (dk_at dksX0_chosenOf_6 0 rfl rfl)
theorem dX0_chosenOf_145 : decode cX0_chosenOf 145 = .ok (.istore 4, 2) := dk_54 4 (dk_at dksX0_chosenOf_6 3 rfl rfl)
theorem dX0_chosenOf_147 : decode cX0_chosenOf 147 = .ok (.iload 4, 2) := dk_21 4 (dk_at dksX0_chosenOf_6 5 rfl rfl)
theorem dX0_chosenOf_149 : decode cX0_chosenOf 149 = .ok (.iconst 0, 1) := dk_3 (dk_at dksX0_chosenOf_6 7 rfl rfl)
theorem dX0_chosenOf_150 : decode cX0_chosenOf 150 = .ok (.bipush 6, 2) := dk_16 6 (dk_at dksX0_chosenOf_6 8 rfl rfl)
theorem dX0_chosenOf_152 : decode cX0_chosenOf 152 = .ok (.invokestatic 73, 3) := dk_184 0 73 (dk_at dksX0_chosenOf_6 10 rfl rfl)
theorem dX0_chosenOf_155 : decode cX0_chosenOf 155 = .ok (.ifCond .eq 23, 3) := dk_153 0 23 (dk_at dksX0_chosenOf_6 13 rfl rfl)
theorem dX0_chosenOf_158 : decode cX0_chosenOf 158 = .ok (.aload_n 0, 1) := dk_42 (dk_at dksX0_chosenOf_6 16 rfl rfl)
theorem dX0_chosenOf_159 : decode cX0_chosenOf 159 = .ok (.getfield 37, 3) := dk_180 0 37 (dk_at dksX0_chosenOf_6 17 rfl rfl)
theorem dX0_chosenOf_162 : decode cX0_chosenOf 162 = .ok (.aload_n 1, 1) := dk_43 (dk_at dksX0_chosenOf_6 20 rfl rfl)
theorem dX0_chosenOf_163 : decode cX0_chosenOf 163 = .ok (.iload 4, 2) := dk_21 4 (dk_at dksX0_chosenOf_6 21 rfl rfl)
theorem dX0_chosenOf_165 : decode cX0_chosenOf 165 = .ok (.iload_n 2, 1) := dk_28 (dk_at dksX0_chosenOf_6 23 rfl rfl)
theorem dX0_chosenOf_166 : decode cX0_chosenOf 166 = .ok (.iload_n 3, 1) := dk_29 (dk_at dksX0_chosenOf_7 0 rfl rfl)
theorem dX0_chosenOf_167 : decode cX0_chosenOf 167 = .ok (.invokevirtual 150, 3) := dk_182 0 150 (dk_at dksX0_chosenOf_7 1 rfl rfl)
theorem dX0_chosenOf_170 : decode cX0_chosenOf 170 = .ok (.ifCond .eq 8, 3) := dk_153 0 8 (dk_at dksX0_chosenOf_7 4 rfl rfl)
theorem dX0_chosenOf_173 : decode cX0_chosenOf 173 = .ok (.iload 4, 2) := dk_21 4 (dk_at dksX0_chosenOf_7 7 rfl rfl)
theorem dX0_chosenOf_175 : decode cX0_chosenOf 175 = .ok (.goto 4, 3) := dk_167 0 4 (dk_at dksX0_chosenOf_7 9 rfl rfl)
theorem dX0_chosenOf_178 : decode cX0_chosenOf 178 = .ok (.iconst 1, 1) := dk_4 (dk_at dksX0_chosenOf_7 12 rfl rfl)
theorem dX0_chosenOf_179 : decode cX0_chosenOf 179 = .ok (.ireturn, 1) := dk_172 (dk_at dksX0_chosenOf_7 13 rfl rfl)
abbrev cX0_noughts : ByteArray := prog_1_method_20_code
def yX0_noughts : MethodName := ⟨RX0, "noughts", "(I)I"⟩
def dkwX0_noughts_1 : List UInt8 := [16, 10, 108, 61, 167, 255, 232, 27, 172]
abbrev dktX0_noughts_1 : List UInt8 := dkwX0_noughts_1 ++ []
def dkwX0_noughts_0 : List UInt8 := [3, 60, 26, 61, 28, 158, 0, 26, 27, 28, 16, 10, 112, 154, 0, 7, 4, 167, 0, 4, 3, 96, 60, 28]
abbrev dktX0_noughts_0 : List UInt8 := dkwX0_noughts_0 ++ dktX0_noughts_1
theorem dksX0_noughts_0 : cX0_noughts.data.toList.drop 0 = dktX0_noughts_0 := by decide +kernel
theorem dksX0_noughts_1 : cX0_noughts.data.toList.drop 24 = dktX0_noughts_1 := dk_seg dksX0_noughts_0 24 rfl rfl
theorem dX0_noughts_0 : decode cX0_noughts 0 = .ok (.iconst 0, 1) := dk_3 (dk_at dksX0_noughts_0 0 rfl rfl)
theorem dX0_noughts_1 : decode cX0_noughts 1 = .ok (.istore_n 1, 1) := dk_60 (dk_at dksX0_noughts_0 1 rfl rfl)
theorem dX0_noughts_2 : decode cX0_noughts 2 = .ok (.iload_n 0, 1) := dk_26 (dk_at dksX0_noughts_0 2 rfl rfl)
theorem dX0_noughts_3 : decode cX0_noughts 3 = .ok (.istore_n 2, 1) := dk_61 (dk_at dksX0_noughts_0 3 rfl rfl)
theorem dX0_noughts_4 : decode cX0_noughts 4 = .ok (.iload_n 2, 1) := dk_28 (dk_at dksX0_noughts_0 4 rfl rfl)
theorem dX0_noughts_5 : decode cX0_noughts 5 = .ok (.ifCond .le 26, 3) := dk_158 0 26 (dk_at dksX0_noughts_0 5 rfl rfl)
theorem dX0_noughts_8 : decode cX0_noughts 8 = .ok (.iload_n 1, 1) := dk_27 (dk_at dksX0_noughts_0 8 rfl rfl)
theorem dX0_noughts_9 : decode cX0_noughts 9 = .ok (.iload_n 2, 1) := dk_28 (dk_at dksX0_noughts_0 9 rfl rfl)
theorem dX0_noughts_10 : decode cX0_noughts 10 = .ok (.bipush 10, 2) := dk_16 10 (dk_at dksX0_noughts_0 10 rfl rfl)
theorem dX0_noughts_12 : decode cX0_noughts 12 = .ok (.irem, 1) := dk_112 (dk_at dksX0_noughts_0 12 rfl rfl)
theorem dX0_noughts_13 : decode cX0_noughts 13 = .ok (.ifCond .ne 7, 3) := dk_154 0 7 (dk_at dksX0_noughts_0 13 rfl rfl)
theorem dX0_noughts_16 : decode cX0_noughts 16 = .ok (.iconst 1, 1) := dk_4 (dk_at dksX0_noughts_0 16 rfl rfl)
theorem dX0_noughts_17 : decode cX0_noughts 17 = .ok (.goto 4, 3) := dk_167 0 4 (dk_at dksX0_noughts_0 17 rfl rfl)
theorem dX0_noughts_20 : decode cX0_noughts 20 = .ok (.iconst 0, 1) := dk_3 (dk_at dksX0_noughts_0 20 rfl rfl)
theorem dX0_noughts_21 : decode cX0_noughts 21 = .ok (.iadd, 1) := dk_96 (dk_at dksX0_noughts_0 21 rfl rfl)
theorem dX0_noughts_22 : decode cX0_noughts 22 = .ok (.istore_n 1, 1) := dk_60 (dk_at dksX0_noughts_0 22 rfl rfl)
theorem dX0_noughts_23 : decode cX0_noughts 23 = .ok (.iload_n 2, 1) := dk_28 (dk_at dksX0_noughts_0 23 rfl rfl)
theorem dX0_noughts_24 : decode cX0_noughts 24 = .ok (.bipush 10, 2) := dk_16 10 (dk_at dksX0_noughts_1 0 rfl rfl)
theorem dX0_noughts_26 : decode cX0_noughts 26 = .ok (.idiv, 1) := dk_108 (dk_at dksX0_noughts_1 2 rfl rfl)
theorem dX0_noughts_27 : decode cX0_noughts 27 = .ok (.istore_n 2, 1) := dk_61 (dk_at dksX0_noughts_1 3 rfl rfl)
theorem dX0_noughts_28 : decode cX0_noughts 28 = .ok (.goto (-24), 3) := dk_167 255 232 (dk_at dksX0_noughts_1 4 rfl rfl)
theorem dX0_noughts_31 : decode cX0_noughts 31 = .ok (.iload_n 1, 1) := dk_27 (dk_at dksX0_noughts_1 7 rfl rfl)
theorem dX0_noughts_32 : decode cX0_noughts 32 = .ok (.ireturn, 1) := dk_172 (dk_at dksX0_noughts_1 8 rfl rfl)
abbrev cX0_gives : ByteArray := prog_1_method_14_code
def yX0_gives : MethodName := ⟨RX0, "gives", "()I"⟩
def dkwX0_gives_2 : List UInt8 := [167, 255, 214, 3, 172]
abbrev dktX0_gives_2 : List UInt8 := dkwX0_gives_2 ++ []
def dkwX0_gives_1 : List UInt8 := [182, 0, 138, 153, 0, 15, 43, 180, 0, 144, 42, 180, 0, 28, 182, 0, 138, 172, 43, 180, 0, 147, 76]
abbrev dktX0_gives_1 : List UInt8 := dkwX0_gives_1 ++ dktX0_gives_2
def dkwX0_gives_0 : List UInt8 := [42, 180, 0, 128, 76, 43, 198, 0, 44, 43, 180, 0, 132, 198, 0, 17, 43, 180, 0, 132, 42, 180, 0, 28]
abbrev dktX0_gives_0 : List UInt8 := dkwX0_gives_0 ++ dktX0_gives_1
theorem dksX0_gives_0 : cX0_gives.data.toList.drop 0 = dktX0_gives_0 := by decide +kernel
theorem dksX0_gives_1 : cX0_gives.data.toList.drop 24 = dktX0_gives_1 := dk_seg dksX0_gives_0 24 rfl rfl
theorem dksX0_gives_2 : cX0_gives.data.toList.drop 47 = dktX0_gives_2 := dk_seg dksX0_gives_1 23 rfl rfl
theorem dX0_gives_0 : decode cX0_gives 0 = .ok (.aload_n 0, 1) := dk_42 (dk_at dksX0_gives_0 0 rfl rfl)
theorem dX0_gives_1 : decode cX0_gives 1 = .ok (.getfield 128, 3) := dk_180 0 128 (dk_at dksX0_gives_0 1 rfl rfl)
theorem dX0_gives_4 : decode cX0_gives 4 = .ok (.astore_n 1, 1) := dk_76 (dk_at dksX0_gives_0 4 rfl rfl)
theorem dX0_gives_5 : decode cX0_gives 5 = .ok (.aload_n 1, 1) := dk_43 (dk_at dksX0_gives_0 5 rfl rfl)
theorem dX0_gives_6 : decode cX0_gives 6 = .ok (.ifnull 44, 3) := dk_198 0 44 (dk_at dksX0_gives_0 6 rfl rfl)
theorem dX0_gives_9 : decode cX0_gives 9 = .ok (.aload_n 1, 1) := dk_43 (dk_at dksX0_gives_0 9 rfl rfl)
theorem dX0_gives_10 : decode cX0_gives 10 = .ok (.getfield 132, 3) := dk_180 0 132 (dk_at dksX0_gives_0 10 rfl rfl)
theorem dX0_gives_13 : decode cX0_gives 13 = .ok (.ifnull 17, 3) := dk_198 0 17 (dk_at dksX0_gives_0 13 rfl rfl)
theorem dX0_gives_16 : decode cX0_gives 16 = .ok (.aload_n 1, 1) := dk_43 (dk_at dksX0_gives_0 16 rfl rfl)
theorem dX0_gives_17 : decode cX0_gives 17 = .ok (.getfield 132, 3) := dk_180 0 132 (dk_at dksX0_gives_0 17 rfl rfl)
theorem dX0_gives_20 : decode cX0_gives 20 = .ok (.aload_n 0, 1) := dk_42 (dk_at dksX0_gives_0 20 rfl rfl)
theorem dX0_gives_21 : decode cX0_gives 21 = .ok (.getfield 28, 3) := dk_180 0 28 (dk_at dksX0_gives_0 21 rfl rfl)
theorem dX0_gives_24 : decode cX0_gives 24 = .ok (.invokevirtual 138, 3) := dk_182 0 138 (dk_at dksX0_gives_1 0 rfl rfl)
theorem dX0_gives_27 : decode cX0_gives 27 = .ok (.ifCond .eq 15, 3) := dk_153 0 15 (dk_at dksX0_gives_1 3 rfl rfl)
theorem dX0_gives_30 : decode cX0_gives 30 = .ok (.aload_n 1, 1) := dk_43 (dk_at dksX0_gives_1 6 rfl rfl)
theorem dX0_gives_31 : decode cX0_gives 31 = .ok (.getfield 144, 3) := dk_180 0 144 (dk_at dksX0_gives_1 7 rfl rfl)
theorem dX0_gives_34 : decode cX0_gives 34 = .ok (.aload_n 0, 1) := dk_42 (dk_at dksX0_gives_1 10 rfl rfl)
theorem dX0_gives_35 : decode cX0_gives 35 = .ok (.getfield 28, 3) := dk_180 0 28 (dk_at dksX0_gives_1 11 rfl rfl)
theorem dX0_gives_38 : decode cX0_gives 38 = .ok (.invokevirtual 138, 3) := dk_182 0 138 (dk_at dksX0_gives_1 14 rfl rfl)
theorem dX0_gives_41 : decode cX0_gives 41 = .ok (.ireturn, 1) := dk_172 (dk_at dksX0_gives_1 17 rfl rfl)
theorem dX0_gives_42 : decode cX0_gives 42 = .ok (.aload_n 1, 1) := dk_43 (dk_at dksX0_gives_1 18 rfl rfl)
theorem dX0_gives_43 : decode cX0_gives 43 = .ok (.getfield 147, 3) := dk_180 0 147 (dk_at dksX0_gives_1 19 rfl rfl)
theorem dX0_gives_46 : decode cX0_gives 46 = .ok (.astore_n 1, 1) := dk_76 (dk_at dksX0_gives_1 22 rfl rfl)
theorem dX0_gives_47 : decode cX0_gives 47 = .ok (.goto (-42), 3) := dk_167 255 214 (dk_at dksX0_gives_2 0 rfl rfl)
theorem dX0_gives_50 : decode cX0_gives 50 = .ok (.iconst 0, 1) := dk_3 (dk_at dksX0_gives_2 3 rfl rfl)
theorem dX0_gives_51 : decode cX0_gives 51 = .ok (.ireturn, 1) := dk_172 (dk_at dksX0_gives_2 4 rfl rfl)
abbrev cX0_answer : ByteArray := prog_1_method_24_code
def yX0_answer : MethodName := ⟨RX0, "answer", "(III)I"⟩
def dkwX0_answer_7 : List UInt8 := [182, 0, 219, 97, 55, 4, 132, 7, 1, 167, 255, 129, 22, 4, 136, 172]
abbrev dktX0_answer_7 : List UInt8 := dkwX0_answer_7 ++ []
def dkwX0_answer_6 : List UInt8 := [22, 4, 42, 180, 0, 37, 21, 7, 21, 6, 16, 20, 124, 42, 180, 0, 37, 21, 7, 182, 0, 216, 112]
abbrev dktX0_answer_6 : List UInt8 := dkwX0_answer_6 ++ dktX0_answer_7
def dkwX0_answer_5 : List UInt8 := [104, 184, 0, 212, 162, 0, 49, 42, 180, 0, 37, 180, 0, 173, 21, 7, 46, 5, 160, 0, 6, 167, 0, 32]
abbrev dktX0_answer_5 : List UInt8 := dkwX0_answer_5 ++ dktX0_answer_6
def dkwX0_answer_4 : List UInt8 := [21, 6, 18, 211, 104, 17, 48, 57, 96, 54, 6, 21, 6, 16, 8, 124, 16, 100, 112, 16, 95, 8, 21, 8]
abbrev dktX0_answer_4 : List UInt8 := dkwX0_answer_4 ++ dktX0_answer_5
def dkwX0_answer_3 : List UInt8 := [180, 0, 15, 27, 16, 10, 108, 50, 180, 0, 88, 7, 46, 100, 54, 8, 21, 8, 157, 0, 6, 167, 0, 80]
abbrev dktX0_answer_3 : List UInt8 := dkwX0_answer_3 ++ dktX0_answer_4
def dkwX0_answer_2 : List UInt8 := [21, 7, 42, 180, 0, 37, 180, 0, 169, 162, 0, 121, 42, 180, 0, 37, 180, 0, 183, 21, 7, 46, 42]
abbrev dktX0_answer_2 : List UInt8 := dkwX0_answer_2 ++ dktX0_answer_3
def dkwX0_answer_1 : List UInt8 := [18, 172, 172, 28, 17, 39, 16, 108, 133, 28, 17, 39, 16, 112, 133, 105, 55, 4, 29, 54, 6, 3, 54, 7]
abbrev dktX0_answer_1 : List UInt8 := dkwX0_answer_1 ++ dktX0_answer_2
def dkwX0_answer_0 : List UInt8 := [42, 27, 182, 0, 154, 153, 0, 19, 28, 184, 0, 157, 153, 0, 12, 42, 27, 28, 182, 0, 160, 154, 0, 6]
abbrev dktX0_answer_0 : List UInt8 := dkwX0_answer_0 ++ dktX0_answer_1
theorem dksX0_answer_0 : cX0_answer.data.toList.drop 0 = dktX0_answer_0 := by decide +kernel
theorem dksX0_answer_1 : cX0_answer.data.toList.drop 24 = dktX0_answer_1 := dk_seg dksX0_answer_0 24 rfl rfl
theorem dksX0_answer_2 : cX0_answer.data.toList.drop 48 = dktX0_answer_2 := dk_seg dksX0_answer_1 24 rfl rfl
theorem dksX0_answer_3 : cX0_answer.data.toList.drop 71 = dktX0_answer_3 := dk_seg dksX0_answer_2 23 rfl rfl
theorem dksX0_answer_4 : cX0_answer.data.toList.drop 95 = dktX0_answer_4 := dk_seg dksX0_answer_3 24 rfl rfl
theorem dksX0_answer_5 : cX0_answer.data.toList.drop 119 = dktX0_answer_5 := dk_seg dksX0_answer_4 24 rfl rfl
theorem dksX0_answer_6 : cX0_answer.data.toList.drop 143 = dktX0_answer_6 := dk_seg dksX0_answer_5 24 rfl rfl
theorem dksX0_answer_7 : cX0_answer.data.toList.drop 166 = dktX0_answer_7 := dk_seg dksX0_answer_6 23 rfl rfl
theorem dX0_answer_0 : decode cX0_answer 0 = .ok (.aload_n 0, 1) := dk_42 (dk_at dksX0_answer_0 0 rfl rfl)
theorem dX0_answer_1 : decode cX0_answer 1 = .ok (.iload_n 1, 1) := dk_27 (dk_at dksX0_answer_0 1 rfl rfl)
theorem dX0_answer_2 : decode cX0_answer 2 = .ok (.invokevirtual 154, 3) := dk_182 0 154 (dk_at dksX0_answer_0 2 rfl rfl)
theorem dX0_answer_5 : decode cX0_answer 5 = .ok (.ifCond .eq 19, 3) := dk_153 0 19 (dk_at dksX0_answer_0 5 rfl rfl)
theorem dX0_answer_8 : decode cX0_answer 8 = .ok (.iload_n 2, 1) := dk_28 (dk_at dksX0_answer_0 8 rfl rfl)
theorem dX0_answer_9 : decode cX0_answer 9 = .ok (.invokestatic 157, 3) := dk_184 0 157 (dk_at dksX0_answer_0 9 rfl rfl)
theorem dX0_answer_12 : decode cX0_answer 12 = .ok (.ifCond .eq 12, 3) := dk_153 0 12 (dk_at dksX0_answer_0 12 rfl rfl)
theorem dX0_answer_15 : decode cX0_answer 15 = .ok (.aload_n 0, 1) := dk_42 (dk_at dksX0_answer_0 15 rfl rfl)
theorem dX0_answer_16 : decode cX0_answer 16 = .ok (.iload_n 1, 1) := dk_27 (dk_at dksX0_answer_0 16 rfl rfl)
theorem dX0_answer_17 : decode cX0_answer 17 = .ok (.iload_n 2, 1) := dk_28 (dk_at dksX0_answer_0 17 rfl rfl)
theorem dX0_answer_18 : decode cX0_answer 18 = .ok (.invokevirtual 160, 3) := dk_182 0 160 (dk_at dksX0_answer_0 18 rfl rfl)
theorem dX0_answer_21 : decode cX0_answer 21 = .ok (.ifCond .ne 6, 3) := dk_154 0 6 (dk_at dksX0_answer_0 21 rfl rfl)
theorem dX0_answer_24 : decode cX0_answer 24 = .ok (.ldc 172, 2) := dk_18 172 (dk_at dksX0_answer_1 0 rfl rfl)
theorem dX0_answer_26 : decode cX0_answer 26 = .ok (.ireturn, 1) := dk_172 (dk_at dksX0_answer_1 2 rfl rfl)
theorem dX0_answer_27 : decode cX0_answer 27 = .ok (.iload_n 2, 1) := dk_28 (dk_at dksX0_answer_1 3 rfl rfl)
theorem dX0_answer_28 : decode cX0_answer 28 = .ok (.sipush 10000, 3) := dk_17 39 16 (dk_at dksX0_answer_1 4 rfl rfl)
theorem dX0_answer_31 : decode cX0_answer 31 = .ok (.idiv, 1) := dk_108 (dk_at dksX0_answer_1 7 rfl rfl)
theorem dX0_answer_32 : decode cX0_answer 32 = .ok (.i2l, 1) := dk_133 (dk_at dksX0_answer_1 8 rfl rfl)
theorem dX0_answer_33 : decode cX0_answer 33 = .ok (.iload_n 2, 1) := dk_28 (dk_at dksX0_answer_1 9 rfl rfl)
theorem dX0_answer_34 : decode cX0_answer 34 = .ok (.sipush 10000, 3) := dk_17 39 16 (dk_at dksX0_answer_1 10 rfl rfl)
theorem dX0_answer_37 : decode cX0_answer 37 = .ok (.irem, 1) := dk_112 (dk_at dksX0_answer_1 13 rfl rfl)
theorem dX0_answer_38 : decode cX0_answer 38 = .ok (.i2l, 1) := dk_133 (dk_at dksX0_answer_1 14 rfl rfl)
theorem dX0_answer_39 : decode cX0_answer 39 = .ok (.lmul, 1) := dk_105 (dk_at dksX0_answer_1 15 rfl rfl)
theorem dX0_answer_40 : decode cX0_answer 40 = .ok (.lstore 4, 2) := dk_55 4 (dk_at dksX0_answer_1 16 rfl rfl)
theorem dX0_answer_42 : decode cX0_answer 42 = .ok (.iload_n 3, 1) := dk_29 (dk_at dksX0_answer_1 18 rfl rfl)
theorem dX0_answer_43 : decode cX0_answer 43 = .ok (.istore 6, 2) := dk_54 6 (dk_at dksX0_answer_1 19 rfl rfl)
theorem dX0_answer_45 : decode cX0_answer 45 = .ok (.iconst 0, 1) := dk_3 (dk_at dksX0_answer_1 21 rfl rfl)
theorem dX0_answer_46 : decode cX0_answer 46 = .ok (.istore 7, 2) := dk_54 7 (dk_at dksX0_answer_1 22 rfl rfl)
theorem dX0_answer_48 : decode cX0_answer 48 = .ok (.iload 7, 2) := dk_21 7 (dk_at dksX0_answer_2 0 rfl rfl)
theorem dX0_answer_50 : decode cX0_answer 50 = .ok (.aload_n 0, 1) := dk_42 (dk_at dksX0_answer_2 2 rfl rfl)
theorem dX0_answer_51 : decode cX0_answer 51 = .ok (.getfield 37, 3) := dk_180 0 37 (dk_at dksX0_answer_2 3 rfl rfl)
theorem dX0_answer_54 : decode cX0_answer 54 = .ok (.getfield 169, 3) := dk_180 0 169 (dk_at dksX0_answer_2 6 rfl rfl)
theorem dX0_answer_57 : decode cX0_answer 57 = .ok (.if_icmp .ge 121, 3) := dk_162 0 121 (dk_at dksX0_answer_2 9 rfl rfl)
theorem dX0_answer_60 : decode cX0_answer 60 = .ok (.aload_n 0, 1) := dk_42 (dk_at dksX0_answer_2 12 rfl rfl)
theorem dX0_answer_61 : decode cX0_answer 61 = .ok (.getfield 37, 3) := dk_180 0 37 (dk_at dksX0_answer_2 13 rfl rfl)
theorem dX0_answer_64 : decode cX0_answer 64 = .ok (.getfield 183, 3) := dk_180 0 183 (dk_at dksX0_answer_2 16 rfl rfl)
theorem dX0_answer_67 : decode cX0_answer 67 = .ok (.iload 7, 2) := dk_21 7 (dk_at dksX0_answer_2 19 rfl rfl)
theorem dX0_answer_69 : decode cX0_answer 69 = .ok (.iaload, 1) := dk_46 (dk_at dksX0_answer_2 21 rfl rfl)
theorem dX0_answer_70 : decode cX0_answer 70 = .ok (.aload_n 0, 1) := dk_42 (dk_at dksX0_answer_2 22 rfl rfl)
theorem dX0_answer_71 : decode cX0_answer 71 = .ok (.getfield 15, 3) := dk_180 0 15 (dk_at dksX0_answer_3 0 rfl rfl)
theorem dX0_answer_74 : decode cX0_answer 74 = .ok (.iload_n 1, 1) := dk_27 (dk_at dksX0_answer_3 3 rfl rfl)
theorem dX0_answer_75 : decode cX0_answer 75 = .ok (.bipush 10, 2) := dk_16 10 (dk_at dksX0_answer_3 4 rfl rfl)
theorem dX0_answer_77 : decode cX0_answer 77 = .ok (.idiv, 1) := dk_108 (dk_at dksX0_answer_3 6 rfl rfl)
theorem dX0_answer_78 : decode cX0_answer 78 = .ok (.aaload, 1) := dk_50 (dk_at dksX0_answer_3 7 rfl rfl)
theorem dX0_answer_79 : decode cX0_answer 79 = .ok (.getfield 88, 3) := dk_180 0 88 (dk_at dksX0_answer_3 8 rfl rfl)
theorem dX0_answer_82 : decode cX0_answer 82 = .ok (.iconst 4, 1) := dk_7 (dk_at dksX0_answer_3 11 rfl rfl)
theorem dX0_answer_83 : decode cX0_answer 83 = .ok (.iaload, 1) := dk_46 (dk_at dksX0_answer_3 12 rfl rfl)
theorem dX0_answer_84 : decode cX0_answer 84 = .ok (.isub, 1) := dk_100 (dk_at dksX0_answer_3 13 rfl rfl)
theorem dX0_answer_85 : decode cX0_answer 85 = .ok (.istore 8, 2) := dk_54 8 (dk_at dksX0_answer_3 14 rfl rfl)
theorem dX0_answer_87 : decode cX0_answer 87 = .ok (.iload 8, 2) := dk_21 8 (dk_at dksX0_answer_3 16 rfl rfl)
theorem dX0_answer_89 : decode cX0_answer 89 = .ok (.ifCond .gt 6, 3) := dk_157 0 6 (dk_at dksX0_answer_3 18 rfl rfl)
theorem dX0_answer_92 : decode cX0_answer 92 = .ok (.goto 80, 3) := dk_167 0 80 (dk_at dksX0_answer_3 21 rfl rfl)
theorem dX0_answer_95 : decode cX0_answer 95 = .ok (.iload 6, 2) := dk_21 6 (dk_at dksX0_answer_4 0 rfl rfl)
theorem dX0_answer_97 : decode cX0_answer 97 = .ok (.ldc 211, 2) := dk_18 211 (dk_at dksX0_answer_4 2 rfl rfl)
theorem dX0_answer_99 : decode cX0_answer 99 = .ok (.imul, 1) := dk_104 (dk_at dksX0_answer_4 4 rfl rfl)
theorem dX0_answer_100 : decode cX0_answer 100 = .ok (.sipush 12345, 3) := dk_17 48 57 (dk_at dksX0_answer_4 5 rfl rfl)
theorem dX0_answer_103 : decode cX0_answer 103 = .ok (.iadd, 1) := dk_96 (dk_at dksX0_answer_4 8 rfl rfl)
theorem dX0_answer_104 : decode cX0_answer 104 = .ok (.istore 6, 2) := dk_54 6 (dk_at dksX0_answer_4 9 rfl rfl)
theorem dX0_answer_106 : decode cX0_answer 106 = .ok (.iload 6, 2) := dk_21 6 (dk_at dksX0_answer_4 11 rfl rfl)
theorem dX0_answer_108 : decode cX0_answer 108 = .ok (.bipush 8, 2) := dk_16 8 (dk_at dksX0_answer_4 13 rfl rfl)
theorem dX0_answer_110 : decode cX0_answer 110 = .ok (.iushr, 1) := dk_124 (dk_at dksX0_answer_4 15 rfl rfl)
theorem dX0_answer_111 : decode cX0_answer 111 = .ok (.bipush 100, 2) := dk_16 100 (dk_at dksX0_answer_4 16 rfl rfl)
theorem dX0_answer_113 : decode cX0_answer 113 = .ok (.irem, 1) := dk_112 (dk_at dksX0_answer_4 18 rfl rfl)
theorem dX0_answer_114 : decode cX0_answer 114 = .ok (.bipush 95, 2) := dk_16 95 (dk_at dksX0_answer_4 19 rfl rfl)
theorem dX0_answer_116 : decode cX0_answer 116 = .ok (.iconst 5, 1) := dk_8 (dk_at dksX0_answer_4 21 rfl rfl)
theorem dX0_answer_117 : decode cX0_answer 117 = .ok (.iload 8, 2) := dk_21 8 (dk_at dksX0_answer_4 22 rfl rfl)
theorem dX0_answer_119 : decode cX0_answer 119 = .ok (.imul, 1) := dk_104 (dk_at dksX0_answer_5 0 rfl rfl)
theorem dX0_answer_120 : decode cX0_answer 120 = .ok (.invokestatic 212, 3) := dk_184 0 212 (dk_at dksX0_answer_5 1 rfl rfl)
theorem dX0_answer_123 : decode cX0_answer 123 = .ok (.if_icmp .ge 49, 3) := dk_162 0 49 (dk_at dksX0_answer_5 4 rfl rfl)
theorem dX0_answer_126 : decode cX0_answer 126 = .ok (.aload_n 0, 1) := dk_42 (dk_at dksX0_answer_5 7 rfl rfl)
theorem dX0_answer_127 : decode cX0_answer 127 = .ok (.getfield 37, 3) := dk_180 0 37 (dk_at dksX0_answer_5 8 rfl rfl)
theorem dX0_answer_130 : decode cX0_answer 130 = .ok (.getfield 173, 3) := dk_180 0 173 (dk_at dksX0_answer_5 11 rfl rfl)
theorem dX0_answer_133 : decode cX0_answer 133 = .ok (.iload 7, 2) := dk_21 7 (dk_at dksX0_answer_5 14 rfl rfl)
theorem dX0_answer_135 : decode cX0_answer 135 = .ok (.iaload, 1) := dk_46 (dk_at dksX0_answer_5 16 rfl rfl)
theorem dX0_answer_136 : decode cX0_answer 136 = .ok (.iconst 2, 1) := dk_5 (dk_at dksX0_answer_5 17 rfl rfl)
theorem dX0_answer_137 : decode cX0_answer 137 = .ok (.if_icmp .ne 6, 3) := dk_160 0 6 (dk_at dksX0_answer_5 18 rfl rfl)
theorem dX0_answer_140 : decode cX0_answer 140 = .ok (.goto 32, 3) := dk_167 0 32 (dk_at dksX0_answer_5 21 rfl rfl)
theorem dX0_answer_143 : decode cX0_answer 143 = .ok (.lload 4, 2) := dk_22 4 (dk_at dksX0_answer_6 0 rfl rfl)
theorem dX0_answer_145 : decode cX0_answer 145 = .ok (.aload_n 0, 1) := dk_42 (dk_at dksX0_answer_6 2 rfl rfl)
theorem dX0_answer_146 : decode cX0_answer 146 = .ok (.getfield 37, 3) := dk_180 0 37 (dk_at dksX0_answer_6 3 rfl rfl)
theorem dX0_answer_149 : decode cX0_answer 149 = .ok (.iload 7, 2) := dk_21 7 (dk_at dksX0_answer_6 6 rfl rfl)
theorem dX0_answer_151 : decode cX0_answer 151 = .ok (.iload 6, 2) := dk_21 6 (dk_at dksX0_answer_6 8 rfl rfl)
theorem dX0_answer_153 : decode cX0_answer 153 = .ok (.bipush 20, 2) := dk_16 20 (dk_at dksX0_answer_6 10 rfl rfl)
theorem dX0_answer_155 : decode cX0_answer 155 = .ok (.iushr, 1) := dk_124 (dk_at dksX0_answer_6 12 rfl rfl)
theorem dX0_answer_156 : decode cX0_answer 156 = .ok (.aload_n 0, 1) := dk_42 (dk_at dksX0_answer_6 13 rfl rfl)
theorem dX0_answer_157 : decode cX0_answer 157 = .ok (.getfield 37, 3) := dk_180 0 37 (dk_at dksX0_answer_6 14 rfl rfl)
theorem dX0_answer_160 : decode cX0_answer 160 = .ok (.iload 7, 2) := dk_21 7 (dk_at dksX0_answer_6 17 rfl rfl)
theorem dX0_answer_162 : decode cX0_answer 162 = .ok (.invokevirtual 216, 3) := dk_182 0 216 (dk_at dksX0_answer_6 19 rfl rfl)
theorem dX0_answer_165 : decode cX0_answer 165 = .ok (.irem, 1) := dk_112 (dk_at dksX0_answer_6 22 rfl rfl)
theorem dX0_answer_166 : decode cX0_answer 166 = .ok (.invokevirtual 219, 3) := dk_182 0 219 (dk_at dksX0_answer_7 0 rfl rfl)
theorem dX0_answer_169 : decode cX0_answer 169 = .ok (.ladd, 1) := dk_97 (dk_at dksX0_answer_7 3 rfl rfl)
theorem dX0_answer_170 : decode cX0_answer 170 = .ok (.lstore 4, 2) := dk_55 4 (dk_at dksX0_answer_7 4 rfl rfl)
theorem dX0_answer_172 : decode cX0_answer 172 = .ok (.iinc 7 1, 3) := dk_132 7 1 (dk_at dksX0_answer_7 6 rfl rfl)
theorem dX0_answer_175 : decode cX0_answer 175 = .ok (.goto (-127), 3) := dk_167 255 129 (dk_at dksX0_answer_7 9 rfl rfl)
theorem dX0_answer_178 : decode cX0_answer 178 = .ok (.lload 4, 2) := dk_22 4 (dk_at dksX0_answer_7 12 rfl rfl)
theorem dX0_answer_180 : decode cX0_answer 180 = .ok (.l2i, 1) := dk_136 (dk_at dksX0_answer_7 14 rfl rfl)
theorem dX0_answer_181 : decode cX0_answer 181 = .ok (.ireturn, 1) := dk_172 (dk_at dksX0_answer_7 15 rfl rfl)
abbrev cX0_quickest : ByteArray := prog_1_method_25_code
def yX0_quickest : MethodName := ⟨RX0, "quickest", "(III)I"⟩
def dkwX0_quickest_4 : List UInt8 := [21, 6, 54, 4, 42, 180, 0, 37, 180, 0, 163, 54, 5, 132, 6, 1, 167, 255, 187, 21, 4, 172]
abbrev dktX0_quickest_4 : List UInt8 := dkwX0_quickest_4 ++ []
def dkwX0_quickest_3 : List UInt8 := [163, 0, 36, 21, 4, 155, 0, 18, 42, 180, 0, 37, 180, 0, 163, 21, 5, 161, 0, 6, 167, 0, 16]
abbrev dktX0_quickest_3 : List UInt8 := dkwX0_quickest_3 ++ dktX0_quickest_4
def dkwX0_quickest_2 : List UInt8 := [16, 10, 27, 104, 21, 6, 96, 28, 182, 0, 160, 153, 0, 47, 42, 180, 0, 37, 180, 0, 166, 29]
abbrev dktX0_quickest_2 : List UInt8 := dkwX0_quickest_2 ++ dktX0_quickest_3
def dkwX0_quickest_1 : List UInt8 := [154, 0, 5, 2, 172, 16, 254, 54, 4, 3, 54, 5, 3, 54, 6, 21, 6, 16, 7, 162, 0, 68, 42]
abbrev dktX0_quickest_1 : List UInt8 := dkwX0_quickest_1 ++ dktX0_quickest_2
def dkwX0_quickest_0 : List UInt8 := [42, 27, 182, 0, 89, 153, 0, 20, 28, 184, 0, 157, 153, 0, 13, 29, 4, 16, 99, 184, 0, 73]
abbrev dktX0_quickest_0 : List UInt8 := dkwX0_quickest_0 ++ dktX0_quickest_1
theorem dksX0_quickest_0 : cX0_quickest.data.toList.drop 0 = dktX0_quickest_0 := by decide +kernel
theorem dksX0_quickest_1 : cX0_quickest.data.toList.drop 22 = dktX0_quickest_1 := dk_seg dksX0_quickest_0 22 rfl rfl
theorem dksX0_quickest_2 : cX0_quickest.data.toList.drop 45 = dktX0_quickest_2 := dk_seg dksX0_quickest_1 23 rfl rfl
theorem dksX0_quickest_3 : cX0_quickest.data.toList.drop 67 = dktX0_quickest_3 := dk_seg dksX0_quickest_2 22 rfl rfl
theorem dksX0_quickest_4 : cX0_quickest.data.toList.drop 90 = dktX0_quickest_4 := dk_seg dksX0_quickest_3 23 rfl rfl
theorem dX0_quickest_0 : decode cX0_quickest 0 = .ok (.aload_n 0, 1) := dk_42 (dk_at dksX0_quickest_0 0 rfl rfl)
theorem dX0_quickest_1 : decode cX0_quickest 1 = .ok (.iload_n 1, 1) := dk_27 (dk_at dksX0_quickest_0 1 rfl rfl)
theorem dX0_quickest_2 : decode cX0_quickest 2 = .ok (.invokevirtual 89, 3) := dk_182 0 89 (dk_at dksX0_quickest_0 2 rfl rfl)
theorem dX0_quickest_5 : decode cX0_quickest 5 = .ok (.ifCond .eq 20, 3) := dk_153 0 20 (dk_at dksX0_quickest_0 5 rfl rfl)
theorem dX0_quickest_8 : decode cX0_quickest 8 = .ok (.iload_n 2, 1) := dk_28 (dk_at dksX0_quickest_0 8 rfl rfl)
theorem dX0_quickest_9 : decode cX0_quickest 9 = .ok (.invokestatic 157, 3) := dk_184 0 157 (dk_at dksX0_quickest_0 9 rfl rfl)
theorem dX0_quickest_12 : decode cX0_quickest 12 = .ok (.ifCond .eq 13, 3) := dk_153 0 13 (dk_at dksX0_quickest_0 12 rfl rfl)
theorem dX0_quickest_15 : decode cX0_quickest 15 = .ok (.iload_n 3, 1) := dk_29 (dk_at dksX0_quickest_0 15 rfl rfl)
theorem dX0_quickest_16 : decode cX0_quickest 16 = .ok (.iconst 1, 1) := dk_4 (dk_at dksX0_quickest_0 16 rfl rfl)
theorem dX0_quickest_17 : decode cX0_quickest 17 = .ok (.bipush 99, 2) := dk_16 99 (dk_at dksX0_quickest_0 17 rfl rfl)
theorem dX0_quickest_19 : decode cX0_quickest 19 = .ok (.invokestatic 73, 3) := dk_184 0 73 (dk_at dksX0_quickest_0 19 rfl rfl)
theorem dX0_quickest_22 : decode cX0_quickest 22 = .ok (.ifCond .ne 5, 3) := dk_154 0 5 (dk_at dksX0_quickest_1 0 rfl rfl)
theorem dX0_quickest_25 : decode cX0_quickest 25 = .ok (.iconst (-1), 1) := dk_2 (dk_at dksX0_quickest_1 3 rfl rfl)
theorem dX0_quickest_26 : decode cX0_quickest 26 = .ok (.ireturn, 1) := dk_172 (dk_at dksX0_quickest_1 4 rfl rfl)
theorem dX0_quickest_27 : decode cX0_quickest 27 = .ok (.bipush (-2), 2) := dk_16 254 (dk_at dksX0_quickest_1 5 rfl rfl)
theorem dX0_quickest_29 : decode cX0_quickest 29 = .ok (.istore 4, 2) := dk_54 4 (dk_at dksX0_quickest_1 7 rfl rfl)
theorem dX0_quickest_31 : decode cX0_quickest 31 = .ok (.iconst 0, 1) := dk_3 (dk_at dksX0_quickest_1 9 rfl rfl)
theorem dX0_quickest_32 : decode cX0_quickest 32 = .ok (.istore 5, 2) := dk_54 5 (dk_at dksX0_quickest_1 10 rfl rfl)
theorem dX0_quickest_34 : decode cX0_quickest 34 = .ok (.iconst 0, 1) := dk_3 (dk_at dksX0_quickest_1 12 rfl rfl)
theorem dX0_quickest_35 : decode cX0_quickest 35 = .ok (.istore 6, 2) := dk_54 6 (dk_at dksX0_quickest_1 13 rfl rfl)
theorem dX0_quickest_37 : decode cX0_quickest 37 = .ok (.iload 6, 2) := dk_21 6 (dk_at dksX0_quickest_1 15 rfl rfl)
theorem dX0_quickest_39 : decode cX0_quickest 39 = .ok (.bipush 7, 2) := dk_16 7 (dk_at dksX0_quickest_1 17 rfl rfl)
theorem dX0_quickest_41 : decode cX0_quickest 41 = .ok (.if_icmp .ge 68, 3) := dk_162 0 68 (dk_at dksX0_quickest_1 19 rfl rfl)
theorem dX0_quickest_44 : decode cX0_quickest 44 = .ok (.aload_n 0, 1) := dk_42 (dk_at dksX0_quickest_1 22 rfl rfl)
theorem dX0_quickest_45 : decode cX0_quickest 45 = .ok (.bipush 10, 2) := dk_16 10 (dk_at dksX0_quickest_2 0 rfl rfl)
theorem dX0_quickest_47 : decode cX0_quickest 47 = .ok (.iload_n 1, 1) := dk_27 (dk_at dksX0_quickest_2 2 rfl rfl)
theorem dX0_quickest_48 : decode cX0_quickest 48 = .ok (.imul, 1) := dk_104 (dk_at dksX0_quickest_2 3 rfl rfl)
theorem dX0_quickest_49 : decode cX0_quickest 49 = .ok (.iload 6, 2) := dk_21 6 (dk_at dksX0_quickest_2 4 rfl rfl)
theorem dX0_quickest_51 : decode cX0_quickest 51 = .ok (.iadd, 1) := dk_96 (dk_at dksX0_quickest_2 6 rfl rfl)
theorem dX0_quickest_52 : decode cX0_quickest 52 = .ok (.iload_n 2, 1) := dk_28 (dk_at dksX0_quickest_2 7 rfl rfl)
theorem dX0_quickest_53 : decode cX0_quickest 53 = .ok (.invokevirtual 160, 3) := dk_182 0 160 (dk_at dksX0_quickest_2 8 rfl rfl)
theorem dX0_quickest_56 : decode cX0_quickest 56 = .ok (.ifCond .eq 47, 3) := dk_153 0 47 (dk_at dksX0_quickest_2 11 rfl rfl)
theorem dX0_quickest_59 : decode cX0_quickest 59 = .ok (.aload_n 0, 1) := dk_42 (dk_at dksX0_quickest_2 14 rfl rfl)
theorem dX0_quickest_60 : decode cX0_quickest 60 = .ok (.getfield 37, 3) := dk_180 0 37 (dk_at dksX0_quickest_2 15 rfl rfl)
theorem dX0_quickest_63 : decode cX0_quickest 63 = .ok (.getfield 166, 3) := dk_180 0 166 (dk_at dksX0_quickest_2 18 rfl rfl)
theorem dX0_quickest_66 : decode cX0_quickest 66 = .ok (.iload_n 3, 1) := dk_29 (dk_at dksX0_quickest_2 21 rfl rfl)
theorem dX0_quickest_67 : decode cX0_quickest 67 = .ok (.if_icmp .gt 36, 3) := dk_163 0 36 (dk_at dksX0_quickest_3 0 rfl rfl)
theorem dX0_quickest_70 : decode cX0_quickest 70 = .ok (.iload 4, 2) := dk_21 4 (dk_at dksX0_quickest_3 3 rfl rfl)
theorem dX0_quickest_72 : decode cX0_quickest 72 = .ok (.ifCond .lt 18, 3) := dk_155 0 18 (dk_at dksX0_quickest_3 5 rfl rfl)
theorem dX0_quickest_75 : decode cX0_quickest 75 = .ok (.aload_n 0, 1) := dk_42 (dk_at dksX0_quickest_3 8 rfl rfl)
theorem dX0_quickest_76 : decode cX0_quickest 76 = .ok (.getfield 37, 3) := dk_180 0 37 (dk_at dksX0_quickest_3 9 rfl rfl)
theorem dX0_quickest_79 : decode cX0_quickest 79 = .ok (.getfield 163, 3) := dk_180 0 163 (dk_at dksX0_quickest_3 12 rfl rfl)
theorem dX0_quickest_82 : decode cX0_quickest 82 = .ok (.iload 5, 2) := dk_21 5 (dk_at dksX0_quickest_3 15 rfl rfl)
theorem dX0_quickest_84 : decode cX0_quickest 84 = .ok (.if_icmp .lt 6, 3) := dk_161 0 6 (dk_at dksX0_quickest_3 17 rfl rfl)
theorem dX0_quickest_87 : decode cX0_quickest 87 = .ok (.goto 16, 3) := dk_167 0 16 (dk_at dksX0_quickest_3 20 rfl rfl)
theorem dX0_quickest_90 : decode cX0_quickest 90 = .ok (.iload 6, 2) := dk_21 6 (dk_at dksX0_quickest_4 0 rfl rfl)
theorem dX0_quickest_92 : decode cX0_quickest 92 = .ok (.istore 4, 2) := dk_54 4 (dk_at dksX0_quickest_4 2 rfl rfl)
theorem dX0_quickest_94 : decode cX0_quickest 94 = .ok (.aload_n 0, 1) := dk_42 (dk_at dksX0_quickest_4 4 rfl rfl)
theorem dX0_quickest_95 : decode cX0_quickest 95 = .ok (.getfield 37, 3) := dk_180 0 37 (dk_at dksX0_quickest_4 5 rfl rfl)
theorem dX0_quickest_98 : decode cX0_quickest 98 = .ok (.getfield 163, 3) := dk_180 0 163 (dk_at dksX0_quickest_4 8 rfl rfl)
theorem dX0_quickest_101 : decode cX0_quickest 101 = .ok (.istore 5, 2) := dk_54 5 (dk_at dksX0_quickest_4 11 rfl rfl)
theorem dX0_quickest_103 : decode cX0_quickest 103 = .ok (.iinc 6 1, 3) := dk_132 6 1 (dk_at dksX0_quickest_4 13 rfl rfl)
theorem dX0_quickest_106 : decode cX0_quickest 106 = .ok (.goto (-69), 3) := dk_167 255 187 (dk_at dksX0_quickest_4 16 rfl rfl)
theorem dX0_quickest_109 : decode cX0_quickest 109 = .ok (.iload 4, 2) := dk_21 4 (dk_at dksX0_quickest_4 19 rfl rfl)
theorem dX0_quickest_111 : decode cX0_quickest 111 = .ok (.ireturn, 1) := dk_172 (dk_at dksX0_quickest_4 21 rfl rfl)
abbrev cX0_table : ByteArray := prog_1_method_26_code
def yX0_table : MethodName := ⟨RX0, "table", "(III)I"⟩
def dkwX0_table_4 : List UInt8 := [25, 4, 180, 0, 88, 6, 21, 5, 79, 21, 6, 172]
abbrev dktX0_table_4 : List UInt8 := dkwX0_table_4 ++ []
def dkwX0_table_3 : List UInt8 := [108, 28, 17, 39, 16, 112, 182, 0, 223, 29, 163, 0, 7, 21, 7, 54, 6, 132, 7, 1, 167, 255, 208]
abbrev dktX0_table_3 : List UInt8 := dkwX0_table_3 ++ dktX0_table_4
def dkwX0_table_2 : List UInt8 := [163, 0, 47, 21, 6, 156, 0, 42, 25, 4, 180, 0, 88, 6, 21, 7, 79, 42, 25, 4, 28, 17, 39, 16]
abbrev dktX0_table_2 : List UInt8 := dkwX0_table_2 ++ dktX0_table_3
def dkwX0_table_1 : List UInt8 := [58, 4, 25, 4, 180, 0, 88, 6, 46, 54, 5, 16, 254, 54, 6, 16, 9, 54, 7, 21, 7, 16, 99]
abbrev dktX0_table_1 : List UInt8 := dkwX0_table_1 ++ dktX0_table_2
def dkwX0_table_0 : List UInt8 := [42, 27, 182, 0, 89, 153, 0, 10, 28, 184, 0, 157, 154, 0, 5, 2, 172, 42, 180, 0, 15, 27, 50]
abbrev dktX0_table_0 : List UInt8 := dkwX0_table_0 ++ dktX0_table_1
theorem dksX0_table_0 : cX0_table.data.toList.drop 0 = dktX0_table_0 := by decide +kernel
theorem dksX0_table_1 : cX0_table.data.toList.drop 23 = dktX0_table_1 := dk_seg dksX0_table_0 23 rfl rfl
theorem dksX0_table_2 : cX0_table.data.toList.drop 46 = dktX0_table_2 := dk_seg dksX0_table_1 23 rfl rfl
theorem dksX0_table_3 : cX0_table.data.toList.drop 70 = dktX0_table_3 := dk_seg dksX0_table_2 24 rfl rfl
theorem dksX0_table_4 : cX0_table.data.toList.drop 93 = dktX0_table_4 := dk_seg dksX0_table_3 23 rfl rfl
theorem dX0_table_0 : decode cX0_table 0 = .ok (.aload_n 0, 1) := dk_42 (dk_at dksX0_table_0 0 rfl rfl)
theorem dX0_table_1 : decode cX0_table 1 = .ok (.iload_n 1, 1) := dk_27 (dk_at dksX0_table_0 1 rfl rfl)
theorem dX0_table_2 : decode cX0_table 2 = .ok (.invokevirtual 89, 3) := dk_182 0 89 (dk_at dksX0_table_0 2 rfl rfl)
theorem dX0_table_5 : decode cX0_table 5 = .ok (.ifCond .eq 10, 3) := dk_153 0 10 (dk_at dksX0_table_0 5 rfl rfl)
theorem dX0_table_8 : decode cX0_table 8 = .ok (.iload_n 2, 1) := dk_28 (dk_at dksX0_table_0 8 rfl rfl)
theorem dX0_table_9 : decode cX0_table 9 = .ok (.invokestatic 157, 3) := dk_184 0 157 (dk_at dksX0_table_0 9 rfl rfl)
theorem dX0_table_12 : decode cX0_table 12 = .ok (.ifCond .ne 5, 3) := dk_154 0 5 (dk_at dksX0_table_0 12 rfl rfl)
theorem dX0_table_15 : decode cX0_table 15 = .ok (.iconst (-1), 1) := dk_2 (dk_at dksX0_table_0 15 rfl rfl)
theorem dX0_table_16 : decode cX0_table 16 = .ok (.ireturn, 1) := dk_172 (dk_at dksX0_table_0 16 rfl rfl)
theorem dX0_table_17 : decode cX0_table 17 = .ok (.aload_n 0, 1) := dk_42 (dk_at dksX0_table_0 17 rfl rfl)
theorem dX0_table_18 : decode cX0_table 18 = .ok (.getfield 15, 3) := dk_180 0 15 (dk_at dksX0_table_0 18 rfl rfl)
theorem dX0_table_21 : decode cX0_table 21 = .ok (.iload_n 1, 1) := dk_27 (dk_at dksX0_table_0 21 rfl rfl)
theorem dX0_table_22 : decode cX0_table 22 = .ok (.aaload, 1) := dk_50 (dk_at dksX0_table_0 22 rfl rfl)
theorem dX0_table_23 : decode cX0_table 23 = .ok (.astore 4, 2) := dk_58 4 (dk_at dksX0_table_1 0 rfl rfl)
theorem dX0_table_25 : decode cX0_table 25 = .ok (.aload 4, 2) := dk_25 4 (dk_at dksX0_table_1 2 rfl rfl)
theorem dX0_table_27 : decode cX0_table 27 = .ok (.getfield 88, 3) := dk_180 0 88 (dk_at dksX0_table_1 4 rfl rfl)
theorem dX0_table_30 : decode cX0_table 30 = .ok (.iconst 3, 1) := dk_6 (dk_at dksX0_table_1 7 rfl rfl)
theorem dX0_table_31 : decode cX0_table 31 = .ok (.iaload, 1) := dk_46 (dk_at dksX0_table_1 8 rfl rfl)
theorem dX0_table_32 : decode cX0_table 32 = .ok (.istore 5, 2) := dk_54 5 (dk_at dksX0_table_1 9 rfl rfl)
theorem dX0_table_34 : decode cX0_table 34 = .ok (.bipush (-2), 2) := dk_16 254 (dk_at dksX0_table_1 11 rfl rfl)
theorem dX0_table_36 : decode cX0_table 36 = .ok (.istore 6, 2) := dk_54 6 (dk_at dksX0_table_1 13 rfl rfl)
theorem dX0_table_38 : decode cX0_table 38 = .ok (.bipush 9, 2) := dk_16 9 (dk_at dksX0_table_1 15 rfl rfl)
theorem dX0_table_40 : decode cX0_table 40 = .ok (.istore 7, 2) := dk_54 7 (dk_at dksX0_table_1 17 rfl rfl)
theorem dX0_table_42 : decode cX0_table 42 = .ok (.iload 7, 2) := dk_21 7 (dk_at dksX0_table_1 19 rfl rfl)
theorem dX0_table_44 : decode cX0_table 44 = .ok (.bipush 99, 2) := dk_16 99 (dk_at dksX0_table_1 21 rfl rfl)
theorem dX0_table_46 : decode cX0_table 46 = .ok (.if_icmp .gt 47, 3) := dk_163 0 47 (dk_at dksX0_table_2 0 rfl rfl)
theorem dX0_table_49 : decode cX0_table 49 = .ok (.iload 6, 2) := dk_21 6 (dk_at dksX0_table_2 3 rfl rfl)
theorem dX0_table_51 : decode cX0_table 51 = .ok (.ifCond .ge 42, 3) := dk_156 0 42 (dk_at dksX0_table_2 5 rfl rfl)
theorem dX0_table_54 : decode cX0_table 54 = .ok (.aload 4, 2) := dk_25 4 (dk_at dksX0_table_2 8 rfl rfl)
theorem dX0_table_56 : decode cX0_table 56 = .ok (.getfield 88, 3) := dk_180 0 88 (dk_at dksX0_table_2 10 rfl rfl)
theorem dX0_table_59 : decode cX0_table 59 = .ok (.iconst 3, 1) := dk_6 (dk_at dksX0_table_2 13 rfl rfl)
theorem dX0_table_60 : decode cX0_table 60 = .ok (.iload 7, 2) := dk_21 7 (dk_at dksX0_table_2 14 rfl rfl)
theorem dX0_table_62 : decode cX0_table 62 = .ok (.iastore, 1) := dk_79 (dk_at dksX0_table_2 16 rfl rfl)
theorem dX0_table_63 : decode cX0_table 63 = .ok (.aload_n 0, 1) := dk_42 (dk_at dksX0_table_2 17 rfl rfl)
theorem dX0_table_64 : decode cX0_table 64 = .ok (.aload 4, 2) := dk_25 4 (dk_at dksX0_table_2 18 rfl rfl)
theorem dX0_table_66 : decode cX0_table 66 = .ok (.iload_n 2, 1) := dk_28 (dk_at dksX0_table_2 20 rfl rfl)
theorem dX0_table_67 : decode cX0_table 67 = .ok (.sipush 10000, 3) := dk_17 39 16 (dk_at dksX0_table_2 21 rfl rfl)
theorem dX0_table_70 : decode cX0_table 70 = .ok (.idiv, 1) := dk_108 (dk_at dksX0_table_3 0 rfl rfl)
theorem dX0_table_71 : decode cX0_table 71 = .ok (.iload_n 2, 1) := dk_28 (dk_at dksX0_table_3 1 rfl rfl)
theorem dX0_table_72 : decode cX0_table 72 = .ok (.sipush 10000, 3) := dk_17 39 16 (dk_at dksX0_table_3 2 rfl rfl)
theorem dX0_table_75 : decode cX0_table 75 = .ok (.irem, 1) := dk_112 (dk_at dksX0_table_3 5 rfl rfl)
theorem dX0_table_76 : decode cX0_table 76 = .ok (.invokevirtual 223, 3) := dk_182 0 223 (dk_at dksX0_table_3 6 rfl rfl)
theorem dX0_table_79 : decode cX0_table 79 = .ok (.iload_n 3, 1) := dk_29 (dk_at dksX0_table_3 9 rfl rfl)
theorem dX0_table_80 : decode cX0_table 80 = .ok (.if_icmp .gt 7, 3) := dk_163 0 7 (dk_at dksX0_table_3 10 rfl rfl)
theorem dX0_table_83 : decode cX0_table 83 = .ok (.iload 7, 2) := dk_21 7 (dk_at dksX0_table_3 13 rfl rfl)
theorem dX0_table_85 : decode cX0_table 85 = .ok (.istore 6, 2) := dk_54 6 (dk_at dksX0_table_3 15 rfl rfl)
theorem dX0_table_87 : decode cX0_table 87 = .ok (.iinc 7 1, 3) := dk_132 7 1 (dk_at dksX0_table_3 17 rfl rfl)
theorem dX0_table_90 : decode cX0_table 90 = .ok (.goto (-48), 3) := dk_167 255 208 (dk_at dksX0_table_3 20 rfl rfl)
theorem dX0_table_93 : decode cX0_table 93 = .ok (.aload 4, 2) := dk_25 4 (dk_at dksX0_table_4 0 rfl rfl)
theorem dX0_table_95 : decode cX0_table 95 = .ok (.getfield 88, 3) := dk_180 0 88 (dk_at dksX0_table_4 2 rfl rfl)
theorem dX0_table_98 : decode cX0_table 98 = .ok (.iconst 3, 1) := dk_6 (dk_at dksX0_table_4 5 rfl rfl)
theorem dX0_table_99 : decode cX0_table 99 = .ok (.iload 5, 2) := dk_21 5 (dk_at dksX0_table_4 6 rfl rfl)
theorem dX0_table_101 : decode cX0_table 101 = .ok (.iastore, 1) := dk_79 (dk_at dksX0_table_4 8 rfl rfl)
theorem dX0_table_102 : decode cX0_table 102 = .ok (.iload 6, 2) := dk_21 6 (dk_at dksX0_table_4 9 rfl rfl)
theorem dX0_table_104 : decode cX0_table 104 = .ok (.ireturn, 1) := dk_172 (dk_at dksX0_table_4 11 rfl rfl)
abbrev cX0_chosenSeconds : ByteArray := prog_1_method_22_code
def yX0_chosenSeconds : MethodName := ⟨RX0, "chosenSeconds", "(LHeadReckons$Head;II)I"⟩
def dkwX0_chosenSeconds_1 : List UInt8 := [180, 0, 163, 172]
abbrev dktX0_chosenSeconds_1 : List UInt8 := dkwX0_chosenSeconds_1 ++ []
def dkwX0_chosenSeconds_0 : List UInt8 := [42, 180, 0, 37, 43, 42, 43, 28, 29, 182, 0, 207, 28, 29, 182, 0, 150, 87, 42, 180, 0, 37]
abbrev dktX0_chosenSeconds_0 : List UInt8 := dkwX0_chosenSeconds_0 ++ dktX0_chosenSeconds_1
theorem dksX0_chosenSeconds_0 : cX0_chosenSeconds.data.toList.drop 0 = dktX0_chosenSeconds_0 := by decide +kernel
theorem dksX0_chosenSeconds_1 : cX0_chosenSeconds.data.toList.drop 22 = dktX0_chosenSeconds_1 := dk_seg dksX0_chosenSeconds_0 22 rfl rfl
theorem dX0_chosenSeconds_0 : decode cX0_chosenSeconds 0 = .ok (.aload_n 0, 1) := dk_42 (dk_at dksX0_chosenSeconds_0 0 rfl rfl)
theorem dX0_chosenSeconds_1 : decode cX0_chosenSeconds 1 = .ok (.getfield 37, 3) := dk_180 0 37 (dk_at dksX0_chosenSeconds_0 1 rfl rfl)
theorem dX0_chosenSeconds_4 : decode cX0_chosenSeconds 4 = .ok (.aload_n 1, 1) := dk_43 (dk_at dksX0_chosenSeconds_0 4 rfl rfl)
theorem dX0_chosenSeconds_5 : decode cX0_chosenSeconds 5 = .ok (.aload_n 0, 1) := dk_42 (dk_at dksX0_chosenSeconds_0 5 rfl rfl)
theorem dX0_chosenSeconds_6 : decode cX0_chosenSeconds 6 = .ok (.aload_n 1, 1) := dk_43 (dk_at dksX0_chosenSeconds_0 6 rfl rfl)
theorem dX0_chosenSeconds_7 : decode cX0_chosenSeconds 7 = .ok (.iload_n 2, 1) := dk_28 (dk_at dksX0_chosenSeconds_0 7 rfl rfl)
theorem dX0_chosenSeconds_8 : decode cX0_chosenSeconds 8 = .ok (.iload_n 3, 1) := dk_29 (dk_at dksX0_chosenSeconds_0 8 rfl rfl)
theorem dX0_chosenSeconds_9 : decode cX0_chosenSeconds 9 = .ok (.invokevirtual 207, 3) := dk_182 0 207 (dk_at dksX0_chosenSeconds_0 9 rfl rfl)
theorem dX0_chosenSeconds_12 : decode cX0_chosenSeconds 12 = .ok (.iload_n 2, 1) := dk_28 (dk_at dksX0_chosenSeconds_0 12 rfl rfl)
theorem dX0_chosenSeconds_13 : decode cX0_chosenSeconds 13 = .ok (.iload_n 3, 1) := dk_29 (dk_at dksX0_chosenSeconds_0 13 rfl rfl)
theorem dX0_chosenSeconds_14 : decode cX0_chosenSeconds 14 = .ok (.invokevirtual 150, 3) := dk_182 0 150 (dk_at dksX0_chosenSeconds_0 14 rfl rfl)
theorem dX0_chosenSeconds_17 : decode cX0_chosenSeconds 17 = .ok (.pop, 1) := dk_87 (dk_at dksX0_chosenSeconds_0 17 rfl rfl)
theorem dX0_chosenSeconds_18 : decode cX0_chosenSeconds 18 = .ok (.aload_n 0, 1) := dk_42 (dk_at dksX0_chosenSeconds_0 18 rfl rfl)
theorem dX0_chosenSeconds_19 : decode cX0_chosenSeconds 19 = .ok (.getfield 37, 3) := dk_180 0 37 (dk_at dksX0_chosenSeconds_0 19 rfl rfl)
theorem dX0_chosenSeconds_22 : decode cX0_chosenSeconds 22 = .ok (.getfield 163, 3) := dk_180 0 163 (dk_at dksX0_chosenSeconds_1 0 rfl rfl)
theorem dX0_chosenSeconds_25 : decode cX0_chosenSeconds 25 = .ok (.ireturn, 1) := dk_172 (dk_at dksX0_chosenSeconds_1 3 rfl rfl)
abbrev cX0_see : ByteArray := prog_1_method_28_code
def yX0_see : MethodName := ⟨RX0, "see", "(III)I"⟩
def dkwX0_see_2 : List UInt8 := [96, 181, 0, 231, 42, 180, 0, 231, 4, 100, 172]
abbrev dktX0_see_2 : List UInt8 := dkwX0_see_2 ++ []
def dkwX0_see_1 : List UInt8 := [180, 0, 43, 42, 180, 0, 231, 187, 0, 41, 89, 27, 28, 29, 183, 0, 234, 83, 42, 89, 180, 0, 231, 4]
abbrev dktX0_see_1 : List UInt8 := dkwX0_see_1 ++ dktX0_see_2
def dkwX0_see_0 : List UInt8 := [27, 28, 29, 184, 0, 228, 154, 0, 5, 2, 172, 42, 180, 0, 231, 16, 40, 160, 0, 6, 16, 253, 172, 42]
abbrev dktX0_see_0 : List UInt8 := dkwX0_see_0 ++ dktX0_see_1
theorem dksX0_see_0 : cX0_see.data.toList.drop 0 = dktX0_see_0 := by decide +kernel
theorem dksX0_see_1 : cX0_see.data.toList.drop 24 = dktX0_see_1 := dk_seg dksX0_see_0 24 rfl rfl
theorem dksX0_see_2 : cX0_see.data.toList.drop 48 = dktX0_see_2 := dk_seg dksX0_see_1 24 rfl rfl
theorem dX0_see_0 : decode cX0_see 0 = .ok (.iload_n 1, 1) := dk_27 (dk_at dksX0_see_0 0 rfl rfl)
theorem dX0_see_1 : decode cX0_see 1 = .ok (.iload_n 2, 1) := dk_28 (dk_at dksX0_see_0 1 rfl rfl)
theorem dX0_see_2 : decode cX0_see 2 = .ok (.iload_n 3, 1) := dk_29 (dk_at dksX0_see_0 2 rfl rfl)
theorem dX0_see_3 : decode cX0_see 3 = .ok (.invokestatic 228, 3) := dk_184 0 228 (dk_at dksX0_see_0 3 rfl rfl)
theorem dX0_see_6 : decode cX0_see 6 = .ok (.ifCond .ne 5, 3) := dk_154 0 5 (dk_at dksX0_see_0 6 rfl rfl)
theorem dX0_see_9 : decode cX0_see 9 = .ok (.iconst (-1), 1) := dk_2 (dk_at dksX0_see_0 9 rfl rfl)
theorem dX0_see_10 : decode cX0_see 10 = .ok (.ireturn, 1) := dk_172 (dk_at dksX0_see_0 10 rfl rfl)
theorem dX0_see_11 : decode cX0_see 11 = .ok (.aload_n 0, 1) := dk_42 (dk_at dksX0_see_0 11 rfl rfl)
theorem dX0_see_12 : decode cX0_see 12 = .ok (.getfield 231, 3) := dk_180 0 231 (dk_at dksX0_see_0 12 rfl rfl)
theorem dX0_see_15 : decode cX0_see 15 = .ok (.bipush 40, 2) := dk_16 40 (dk_at dksX0_see_0 15 rfl rfl)
theorem dX0_see_17 : decode cX0_see 17 = .ok (.if_icmp .ne 6, 3) := dk_160 0 6 (dk_at dksX0_see_0 17 rfl rfl)
theorem dX0_see_20 : decode cX0_see 20 = .ok (.bipush (-3), 2) := dk_16 253 (dk_at dksX0_see_0 20 rfl rfl)
theorem dX0_see_22 : decode cX0_see 22 = .ok (.ireturn, 1) := dk_172 (dk_at dksX0_see_0 22 rfl rfl)
theorem dX0_see_23 : decode cX0_see 23 = .ok (.aload_n 0, 1) := dk_42 (dk_at dksX0_see_0 23 rfl rfl)
theorem dX0_see_24 : decode cX0_see 24 = .ok (.getfield 43, 3) := dk_180 0 43 (dk_at dksX0_see_1 0 rfl rfl)
theorem dX0_see_27 : decode cX0_see 27 = .ok (.aload_n 0, 1) := dk_42 (dk_at dksX0_see_1 3 rfl rfl)
theorem dX0_see_28 : decode cX0_see 28 = .ok (.getfield 231, 3) := dk_180 0 231 (dk_at dksX0_see_1 4 rfl rfl)
theorem dX0_see_31 : decode cX0_see 31 = .ok (.new 41, 3) := dk_187 0 41 (dk_at dksX0_see_1 7 rfl rfl)
theorem dX0_see_34 : decode cX0_see 34 = .ok (.dup, 1) := dk_89 (dk_at dksX0_see_1 10 rfl rfl)
theorem dX0_see_35 : decode cX0_see 35 = .ok (.iload_n 1, 1) := dk_27 (dk_at dksX0_see_1 11 rfl rfl)
theorem dX0_see_36 : decode cX0_see 36 = .ok (.iload_n 2, 1) := dk_28 (dk_at dksX0_see_1 12 rfl rfl)
theorem dX0_see_37 : decode cX0_see 37 = .ok (.iload_n 3, 1) := dk_29 (dk_at dksX0_see_1 13 rfl rfl)
theorem dX0_see_38 : decode cX0_see 38 = .ok (.invokespecial 234, 3) := dk_183 0 234 (dk_at dksX0_see_1 14 rfl rfl)
theorem dX0_see_41 : decode cX0_see 41 = .ok (.aastore, 1) := dk_83 (dk_at dksX0_see_1 17 rfl rfl)
theorem dX0_see_42 : decode cX0_see 42 = .ok (.aload_n 0, 1) := dk_42 (dk_at dksX0_see_1 18 rfl rfl)
theorem dX0_see_43 : decode cX0_see 43 = .ok (.dup, 1) := dk_89 (dk_at dksX0_see_1 19 rfl rfl)
theorem dX0_see_44 : decode cX0_see 44 = .ok (.getfield 231, 3) := dk_180 0 231 (dk_at dksX0_see_1 20 rfl rfl)
theorem dX0_see_47 : decode cX0_see 47 = .ok (.iconst 1, 1) := dk_4 (dk_at dksX0_see_1 23 rfl rfl)
theorem dX0_see_48 : decode cX0_see 48 = .ok (.iadd, 1) := dk_96 (dk_at dksX0_see_2 0 rfl rfl)
theorem dX0_see_49 : decode cX0_see 49 = .ok (.putfield 231, 3) := dk_181 0 231 (dk_at dksX0_see_2 1 rfl rfl)
theorem dX0_see_52 : decode cX0_see 52 = .ok (.aload_n 0, 1) := dk_42 (dk_at dksX0_see_2 4 rfl rfl)
theorem dX0_see_53 : decode cX0_see 53 = .ok (.getfield 231, 3) := dk_180 0 231 (dk_at dksX0_see_2 5 rfl rfl)
theorem dX0_see_56 : decode cX0_see 56 = .ok (.iconst 1, 1) := dk_4 (dk_at dksX0_see_2 8 rfl rfl)
theorem dX0_see_57 : decode cX0_see 57 = .ok (.isub, 1) := dk_100 (dk_at dksX0_see_2 9 rfl rfl)
theorem dX0_see_58 : decode cX0_see 58 = .ok (.ireturn, 1) := dk_172 (dk_at dksX0_see_2 10 rfl rfl)
abbrev cX0_isSeen : ByteArray := prog_1_method_27_code
def yX0_isSeen : MethodName := ⟨RX0, "isSeen", "(III)Z"⟩
def dkwX0_isSeen_1 : List UInt8 := [184, 0, 73, 153, 0, 7, 4, 167, 0, 4, 3, 172]
abbrev dktX0_isSeen_1 : List UInt8 := dkwX0_isSeen_1 ++ []
def dkwX0_isSeen_0 : List UInt8 := [26, 184, 0, 157, 153, 0, 29, 27, 3, 17, 39, 15, 184, 0, 73, 153, 0, 18, 28, 18, 226, 18, 227]
abbrev dktX0_isSeen_0 : List UInt8 := dkwX0_isSeen_0 ++ dktX0_isSeen_1
theorem dksX0_isSeen_0 : cX0_isSeen.data.toList.drop 0 = dktX0_isSeen_0 := by decide +kernel
theorem dksX0_isSeen_1 : cX0_isSeen.data.toList.drop 23 = dktX0_isSeen_1 := dk_seg dksX0_isSeen_0 23 rfl rfl
theorem dX0_isSeen_0 : decode cX0_isSeen 0 = .ok (.iload_n 0, 1) := dk_26 (dk_at dksX0_isSeen_0 0 rfl rfl)
theorem dX0_isSeen_1 : decode cX0_isSeen 1 = .ok (.invokestatic 157, 3) := dk_184 0 157 (dk_at dksX0_isSeen_0 1 rfl rfl)
theorem dX0_isSeen_4 : decode cX0_isSeen 4 = .ok (.ifCond .eq 29, 3) := dk_153 0 29 (dk_at dksX0_isSeen_0 4 rfl rfl)
theorem dX0_isSeen_7 : decode cX0_isSeen 7 = .ok (.iload_n 1, 1) := dk_27 (dk_at dksX0_isSeen_0 7 rfl rfl)
theorem dX0_isSeen_8 : decode cX0_isSeen 8 = .ok (.iconst 0, 1) := dk_3 (dk_at dksX0_isSeen_0 8 rfl rfl)
theorem dX0_isSeen_9 : decode cX0_isSeen 9 = .ok (.sipush 9999, 3) := dk_17 39 15 (dk_at dksX0_isSeen_0 9 rfl rfl)
theorem dX0_isSeen_12 : decode cX0_isSeen 12 = .ok (.invokestatic 73, 3) := dk_184 0 73 (dk_at dksX0_isSeen_0 12 rfl rfl)
theorem dX0_isSeen_15 : decode cX0_isSeen 15 = .ok (.ifCond .eq 18, 3) := dk_153 0 18 (dk_at dksX0_isSeen_0 15 rfl rfl)
theorem dX0_isSeen_18 : decode cX0_isSeen 18 = .ok (.iload_n 2, 1) := dk_28 (dk_at dksX0_isSeen_0 18 rfl rfl)
theorem dX0_isSeen_19 : decode cX0_isSeen 19 = .ok (.ldc 226, 2) := dk_18 226 (dk_at dksX0_isSeen_0 19 rfl rfl)
theorem dX0_isSeen_21 : decode cX0_isSeen 21 = .ok (.ldc 227, 2) := dk_18 227 (dk_at dksX0_isSeen_0 21 rfl rfl)
theorem dX0_isSeen_23 : decode cX0_isSeen 23 = .ok (.invokestatic 73, 3) := dk_184 0 73 (dk_at dksX0_isSeen_1 0 rfl rfl)
theorem dX0_isSeen_26 : decode cX0_isSeen 26 = .ok (.ifCond .eq 7, 3) := dk_153 0 7 (dk_at dksX0_isSeen_1 3 rfl rfl)
theorem dX0_isSeen_29 : decode cX0_isSeen 29 = .ok (.iconst 1, 1) := dk_4 (dk_at dksX0_isSeen_1 6 rfl rfl)
theorem dX0_isSeen_30 : decode cX0_isSeen 30 = .ok (.goto 4, 3) := dk_167 0 4 (dk_at dksX0_isSeen_1 7 rfl rfl)
theorem dX0_isSeen_33 : decode cX0_isSeen 33 = .ok (.iconst 0, 1) := dk_3 (dk_at dksX0_isSeen_1 10 rfl rfl)
theorem dX0_isSeen_34 : decode cX0_isSeen 34 = .ok (.ireturn, 1) := dk_172 (dk_at dksX0_isSeen_1 11 rfl rfl)
abbrev cX0_asks : ByteArray := prog_1_method_29_code
def yX0_asks : MethodName := ⟨RX0, "asks", "(III)I"⟩
def dkwX0_asks_7 : List UInt8 := [172, 58, 5, 21, 4, 172, 21, 4, 172]
abbrev dktX0_asks_7 : List UInt8 := dkwX0_asks_7 ++ []
def dkwX0_asks_6 : List UInt8 := [21, 4, 172, 132, 4, 1, 132, 6, 1, 167, 255, 143, 167, 0, 18, 58, 5, 16, 244, 172, 58, 5, 21, 4]
abbrev dktX0_asks_6 : List UInt8 := dkwX0_asks_6 ++ dktX0_asks_7
def dkwX0_asks_5 : List UInt8 := [153, 0, 23, 42, 17, 39, 16, 21, 8, 104, 21, 9, 96, 21, 10, 21, 11, 182, 0, 246, 156, 0, 6]
abbrev dktX0_asks_5 : List UInt8 := dkwX0_asks_5 ++ dktX0_asks_6
def dkwX0_asks_4 : List UInt8 := [54, 11, 21, 8, 4, 17, 39, 15, 184, 0, 73, 153, 0, 35, 21, 9, 4, 17, 39, 15, 184, 0, 73]
abbrev dktX0_asks_4 : List UInt8 := dkwX0_asks_4 ++ dktX0_asks_5
def dkwX0_asks_3 : List UInt8 := [54, 9, 25, 5, 21, 7, 5, 96, 182, 0, 242, 136, 54, 10, 25, 5, 21, 7, 6, 96, 182, 0, 242, 136]
abbrev dktX0_asks_3 : List UInt8 := dkwX0_asks_3 ++ dktX0_asks_4
def dkwX0_asks_2 : List UInt8 := [96, 54, 7, 25, 5, 21, 7, 182, 0, 242, 136, 54, 8, 25, 5, 21, 7, 4, 96, 182, 0, 242, 136]
abbrev dktX0_asks_2 : List UInt8 := dkwX0_asks_2 ++ dktX0_asks_3
def dkwX0_asks_1 : List UInt8 := [180, 0, 67, 27, 50, 192, 0, 240, 58, 5, 3, 54, 6, 21, 6, 29, 162, 0, 113, 28, 7, 21, 6, 104]
abbrev dktX0_asks_1 : List UInt8 := dkwX0_asks_1 ++ dktX0_asks_2
def dkwX0_asks_0 : List UInt8 := [27, 184, 0, 237, 153, 0, 13, 29, 4, 16, 15, 184, 0, 73, 154, 0, 5, 2, 172, 3, 54, 4, 42]
abbrev dktX0_asks_0 : List UInt8 := dkwX0_asks_0 ++ dktX0_asks_1
theorem dksX0_asks_0 : cX0_asks.data.toList.drop 0 = dktX0_asks_0 := by decide +kernel
theorem dksX0_asks_1 : cX0_asks.data.toList.drop 23 = dktX0_asks_1 := dk_seg dksX0_asks_0 23 rfl rfl
theorem dksX0_asks_2 : cX0_asks.data.toList.drop 47 = dktX0_asks_2 := dk_seg dksX0_asks_1 24 rfl rfl
theorem dksX0_asks_3 : cX0_asks.data.toList.drop 70 = dktX0_asks_3 := dk_seg dksX0_asks_2 23 rfl rfl
theorem dksX0_asks_4 : cX0_asks.data.toList.drop 94 = dktX0_asks_4 := dk_seg dksX0_asks_3 24 rfl rfl
theorem dksX0_asks_5 : cX0_asks.data.toList.drop 117 = dktX0_asks_5 := dk_seg dksX0_asks_4 23 rfl rfl
theorem dksX0_asks_6 : cX0_asks.data.toList.drop 140 = dktX0_asks_6 := dk_seg dksX0_asks_5 23 rfl rfl
theorem dksX0_asks_7 : cX0_asks.data.toList.drop 164 = dktX0_asks_7 := dk_seg dksX0_asks_6 24 rfl rfl
theorem dX0_asks_0 : decode cX0_asks 0 = .ok (.iload_n 1, 1) := dk_27 (dk_at dksX0_asks_0 0 rfl rfl)
theorem dX0_asks_1 : decode cX0_asks 1 = .ok (.invokestatic 237, 3) := dk_184 0 237 (dk_at dksX0_asks_0 1 rfl rfl)
theorem dX0_asks_4 : decode cX0_asks 4 = .ok (.ifCond .eq 13, 3) := dk_153 0 13 (dk_at dksX0_asks_0 4 rfl rfl)
theorem dX0_asks_7 : decode cX0_asks 7 = .ok (.iload_n 3, 1) := dk_29 (dk_at dksX0_asks_0 7 rfl rfl)
theorem dX0_asks_8 : decode cX0_asks 8 = .ok (.iconst 1, 1) := dk_4 (dk_at dksX0_asks_0 8 rfl rfl)
theorem dX0_asks_9 : decode cX0_asks 9 = .ok (.bipush 15, 2) := dk_16 15 (dk_at dksX0_asks_0 9 rfl rfl)
theorem dX0_asks_11 : decode cX0_asks 11 = .ok (.invokestatic 73, 3) := dk_184 0 73 (dk_at dksX0_asks_0 11 rfl rfl)
theorem dX0_asks_14 : decode cX0_asks 14 = .ok (.ifCond .ne 5, 3) := dk_154 0 5 (dk_at dksX0_asks_0 14 rfl rfl)
theorem dX0_asks_17 : decode cX0_asks 17 = .ok (.iconst (-1), 1) := dk_2 (dk_at dksX0_asks_0 17 rfl rfl)
theorem dX0_asks_18 : decode cX0_asks 18 = .ok (.ireturn, 1) := dk_172 (dk_at dksX0_asks_0 18 rfl rfl)
theorem dX0_asks_19 : decode cX0_asks 19 = .ok (.iconst 0, 1) := dk_3 (dk_at dksX0_asks_0 19 rfl rfl)
theorem dX0_asks_20 : decode cX0_asks 20 = .ok (.istore 4, 2) := dk_54 4 (dk_at dksX0_asks_0 20 rfl rfl)
theorem dX0_asks_22 : decode cX0_asks 22 = .ok (.aload_n 0, 1) := dk_42 (dk_at dksX0_asks_0 22 rfl rfl)
theorem dX0_asks_23 : decode cX0_asks 23 = .ok (.getfield 67, 3) := dk_180 0 67 (dk_at dksX0_asks_1 0 rfl rfl)
theorem dX0_asks_26 : decode cX0_asks 26 = .ok (.iload_n 1, 1) := dk_27 (dk_at dksX0_asks_1 3 rfl rfl)
theorem dX0_asks_27 : decode cX0_asks 27 = .ok (.aaload, 1) := dk_50 (dk_at dksX0_asks_1 4 rfl rfl)
theorem dX0_asks_28 : decode cX0_asks 28 = .ok (.checkcast 240, 3) := dk_192 0 240 (dk_at dksX0_asks_1 5 rfl rfl)
theorem dX0_asks_31 : decode cX0_asks 31 = .ok (.astore 5, 2) := dk_58 5 (dk_at dksX0_asks_1 8 rfl rfl)
theorem dX0_asks_33 : decode cX0_asks 33 = .ok (.iconst 0, 1) := dk_3 (dk_at dksX0_asks_1 10 rfl rfl)
theorem dX0_asks_34 : decode cX0_asks 34 = .ok (.istore 6, 2) := dk_54 6 (dk_at dksX0_asks_1 11 rfl rfl)
theorem dX0_asks_36 : decode cX0_asks 36 = .ok (.iload 6, 2) := dk_21 6 (dk_at dksX0_asks_1 13 rfl rfl)
theorem dX0_asks_38 : decode cX0_asks 38 = .ok (.iload_n 3, 1) := dk_29 (dk_at dksX0_asks_1 15 rfl rfl)
theorem dX0_asks_39 : decode cX0_asks 39 = .ok (.if_icmp .ge 113, 3) := dk_162 0 113 (dk_at dksX0_asks_1 16 rfl rfl)
theorem dX0_asks_42 : decode cX0_asks 42 = .ok (.iload_n 2, 1) := dk_28 (dk_at dksX0_asks_1 19 rfl rfl)
theorem dX0_asks_43 : decode cX0_asks 43 = .ok (.iconst 4, 1) := dk_7 (dk_at dksX0_asks_1 20 rfl rfl)
theorem dX0_asks_44 : decode cX0_asks 44 = .ok (.iload 6, 2) := dk_21 6 (dk_at dksX0_asks_1 21 rfl rfl)
theorem dX0_asks_46 : decode cX0_asks 46 = .ok (.imul, 1) := dk_104 (dk_at dksX0_asks_1 23 rfl rfl)
theorem dX0_asks_47 : decode cX0_asks 47 = .ok (.iadd, 1) := dk_96 (dk_at dksX0_asks_2 0 rfl rfl)
theorem dX0_asks_48 : decode cX0_asks 48 = .ok (.istore 7, 2) := dk_54 7 (dk_at dksX0_asks_2 1 rfl rfl)
theorem dX0_asks_50 : decode cX0_asks 50 = .ok (.aload 5, 2) := dk_25 5 (dk_at dksX0_asks_2 3 rfl rfl)
theorem dX0_asks_52 : decode cX0_asks 52 = .ok (.iload 7, 2) := dk_21 7 (dk_at dksX0_asks_2 5 rfl rfl)
theorem dX0_asks_54 : decode cX0_asks 54 = .ok (.invokevirtual 242, 3) := dk_182 0 242 (dk_at dksX0_asks_2 7 rfl rfl)
theorem dX0_asks_57 : decode cX0_asks 57 = .ok (.l2i, 1) := dk_136 (dk_at dksX0_asks_2 10 rfl rfl)
theorem dX0_asks_58 : decode cX0_asks 58 = .ok (.istore 8, 2) := dk_54 8 (dk_at dksX0_asks_2 11 rfl rfl)
theorem dX0_asks_60 : decode cX0_asks 60 = .ok (.aload 5, 2) := dk_25 5 (dk_at dksX0_asks_2 13 rfl rfl)
theorem dX0_asks_62 : decode cX0_asks 62 = .ok (.iload 7, 2) := dk_21 7 (dk_at dksX0_asks_2 15 rfl rfl)
theorem dX0_asks_64 : decode cX0_asks 64 = .ok (.iconst 1, 1) := dk_4 (dk_at dksX0_asks_2 17 rfl rfl)
theorem dX0_asks_65 : decode cX0_asks 65 = .ok (.iadd, 1) := dk_96 (dk_at dksX0_asks_2 18 rfl rfl)
theorem dX0_asks_66 : decode cX0_asks 66 = .ok (.invokevirtual 242, 3) := dk_182 0 242 (dk_at dksX0_asks_2 19 rfl rfl)
theorem dX0_asks_69 : decode cX0_asks 69 = .ok (.l2i, 1) := dk_136 (dk_at dksX0_asks_2 22 rfl rfl)
theorem dX0_asks_70 : decode cX0_asks 70 = .ok (.istore 9, 2) := dk_54 9 (dk_at dksX0_asks_3 0 rfl rfl)
theorem dX0_asks_72 : decode cX0_asks 72 = .ok (.aload 5, 2) := dk_25 5 (dk_at dksX0_asks_3 2 rfl rfl)
theorem dX0_asks_74 : decode cX0_asks 74 = .ok (.iload 7, 2) := dk_21 7 (dk_at dksX0_asks_3 4 rfl rfl)
theorem dX0_asks_76 : decode cX0_asks 76 = .ok (.iconst 2, 1) := dk_5 (dk_at dksX0_asks_3 6 rfl rfl)
theorem dX0_asks_77 : decode cX0_asks 77 = .ok (.iadd, 1) := dk_96 (dk_at dksX0_asks_3 7 rfl rfl)
theorem dX0_asks_78 : decode cX0_asks 78 = .ok (.invokevirtual 242, 3) := dk_182 0 242 (dk_at dksX0_asks_3 8 rfl rfl)
theorem dX0_asks_81 : decode cX0_asks 81 = .ok (.l2i, 1) := dk_136 (dk_at dksX0_asks_3 11 rfl rfl)
theorem dX0_asks_82 : decode cX0_asks 82 = .ok (.istore 10, 2) := dk_54 10 (dk_at dksX0_asks_3 12 rfl rfl)
theorem dX0_asks_84 : decode cX0_asks 84 = .ok (.aload 5, 2) := dk_25 5 (dk_at dksX0_asks_3 14 rfl rfl)
theorem dX0_asks_86 : decode cX0_asks 86 = .ok (.iload 7, 2) := dk_21 7 (dk_at dksX0_asks_3 16 rfl rfl)
theorem dX0_asks_88 : decode cX0_asks 88 = .ok (.iconst 3, 1) := dk_6 (dk_at dksX0_asks_3 18 rfl rfl)
theorem dX0_asks_89 : decode cX0_asks 89 = .ok (.iadd, 1) := dk_96 (dk_at dksX0_asks_3 19 rfl rfl)
theorem dX0_asks_90 : decode cX0_asks 90 = .ok (.invokevirtual 242, 3) := dk_182 0 242 (dk_at dksX0_asks_3 20 rfl rfl)
theorem dX0_asks_93 : decode cX0_asks 93 = .ok (.l2i, 1) := dk_136 (dk_at dksX0_asks_3 23 rfl rfl)
theorem dX0_asks_94 : decode cX0_asks 94 = .ok (.istore 11, 2) := dk_54 11 (dk_at dksX0_asks_4 0 rfl rfl)
theorem dX0_asks_96 : decode cX0_asks 96 = .ok (.iload 8, 2) := dk_21 8 (dk_at dksX0_asks_4 2 rfl rfl)
theorem dX0_asks_98 : decode cX0_asks 98 = .ok (.iconst 1, 1) := dk_4 (dk_at dksX0_asks_4 4 rfl rfl)
theorem dX0_asks_99 : decode cX0_asks 99 = .ok (.sipush 9999, 3) := dk_17 39 15 (dk_at dksX0_asks_4 5 rfl rfl)
theorem dX0_asks_102 : decode cX0_asks 102 = .ok (.invokestatic 73, 3) := dk_184 0 73 (dk_at dksX0_asks_4 8 rfl rfl)
theorem dX0_asks_105 : decode cX0_asks 105 = .ok (.ifCond .eq 35, 3) := dk_153 0 35 (dk_at dksX0_asks_4 11 rfl rfl)
theorem dX0_asks_108 : decode cX0_asks 108 = .ok (.iload 9, 2) := dk_21 9 (dk_at dksX0_asks_4 14 rfl rfl)
theorem dX0_asks_110 : decode cX0_asks 110 = .ok (.iconst 1, 1) := dk_4 (dk_at dksX0_asks_4 16 rfl rfl)
theorem dX0_asks_111 : decode cX0_asks 111 = .ok (.sipush 9999, 3) := dk_17 39 15 (dk_at dksX0_asks_4 17 rfl rfl)
theorem dX0_asks_114 : decode cX0_asks 114 = .ok (.invokestatic 73, 3) := dk_184 0 73 (dk_at dksX0_asks_4 20 rfl rfl)
theorem dX0_asks_117 : decode cX0_asks 117 = .ok (.ifCond .eq 23, 3) := dk_153 0 23 (dk_at dksX0_asks_5 0 rfl rfl)
theorem dX0_asks_120 : decode cX0_asks 120 = .ok (.aload_n 0, 1) := dk_42 (dk_at dksX0_asks_5 3 rfl rfl)
theorem dX0_asks_121 : decode cX0_asks 121 = .ok (.sipush 10000, 3) := dk_17 39 16 (dk_at dksX0_asks_5 4 rfl rfl)
theorem dX0_asks_124 : decode cX0_asks 124 = .ok (.iload 8, 2) := dk_21 8 (dk_at dksX0_asks_5 7 rfl rfl)
theorem dX0_asks_126 : decode cX0_asks 126 = .ok (.imul, 1) := dk_104 (dk_at dksX0_asks_5 9 rfl rfl)
theorem dX0_asks_127 : decode cX0_asks 127 = .ok (.iload 9, 2) := dk_21 9 (dk_at dksX0_asks_5 10 rfl rfl)
theorem dX0_asks_129 : decode cX0_asks 129 = .ok (.iadd, 1) := dk_96 (dk_at dksX0_asks_5 12 rfl rfl)
theorem dX0_asks_130 : decode cX0_asks 130 = .ok (.iload 10, 2) := dk_21 10 (dk_at dksX0_asks_5 13 rfl rfl)
theorem dX0_asks_132 : decode cX0_asks 132 = .ok (.iload 11, 2) := dk_21 11 (dk_at dksX0_asks_5 15 rfl rfl)
theorem dX0_asks_134 : decode cX0_asks 134 = .ok (.invokevirtual 246, 3) := dk_182 0 246 (dk_at dksX0_asks_5 17 rfl rfl)
theorem dX0_asks_137 : decode cX0_asks 137 = .ok (.ifCond .ge 6, 3) := dk_156 0 6 (dk_at dksX0_asks_5 20 rfl rfl)
theorem dX0_asks_140 : decode cX0_asks 140 = .ok (.iload 4, 2) := dk_21 4 (dk_at dksX0_asks_6 0 rfl rfl)
theorem dX0_asks_142 : decode cX0_asks 142 = .ok (.ireturn, 1) := dk_172 (dk_at dksX0_asks_6 2 rfl rfl)
theorem dX0_asks_143 : decode cX0_asks 143 = .ok (.iinc 4 1, 3) := dk_132 4 1 (dk_at dksX0_asks_6 3 rfl rfl)
theorem dX0_asks_146 : decode cX0_asks 146 = .ok (.iinc 6 1, 3) := dk_132 6 1 (dk_at dksX0_asks_6 6 rfl rfl)
theorem dX0_asks_149 : decode cX0_asks 149 = .ok (.goto (-113), 3) := dk_167 255 143 (dk_at dksX0_asks_6 9 rfl rfl)
theorem dX0_asks_152 : decode cX0_asks 152 = .ok (.goto 18, 3) := dk_167 0 18 (dk_at dksX0_asks_6 12 rfl rfl)
theorem dX0_asks_155 : decode cX0_asks 155 = .ok (.astore 5, 2) := dk_58 5 (dk_at dksX0_asks_6 15 rfl rfl)
theorem dX0_asks_157 : decode cX0_asks 157 = .ok (.bipush (-12), 2) := dk_16 244 (dk_at dksX0_asks_6 17 rfl rfl)
theorem dX0_asks_159 : decode cX0_asks 159 = .ok (.ireturn, 1) := dk_172 (dk_at dksX0_asks_6 19 rfl rfl)
theorem dX0_asks_160 : decode cX0_asks 160 = .ok (.astore 5, 2) := dk_58 5 (dk_at dksX0_asks_6 20 rfl rfl)
theorem dX0_asks_162 : decode cX0_asks 162 = .ok (.iload 4, 2) := dk_21 4 (dk_at dksX0_asks_6 22 rfl rfl)
theorem dX0_asks_164 : decode cX0_asks 164 = .ok (.ireturn, 1) := dk_172 (dk_at dksX0_asks_7 0 rfl rfl)
theorem dX0_asks_165 : decode cX0_asks 165 = .ok (.astore 5, 2) := dk_58 5 (dk_at dksX0_asks_7 1 rfl rfl)
theorem dX0_asks_167 : decode cX0_asks 167 = .ok (.iload 4, 2) := dk_21 4 (dk_at dksX0_asks_7 3 rfl rfl)
theorem dX0_asks_169 : decode cX0_asks 169 = .ok (.ireturn, 1) := dk_172 (dk_at dksX0_asks_7 5 rfl rfl)
theorem dX0_asks_170 : decode cX0_asks 170 = .ok (.iload 4, 2) := dk_21 4 (dk_at dksX0_asks_7 6 rfl rfl)
theorem dX0_asks_172 : decode cX0_asks 172 = .ok (.ireturn, 1) := dk_172 (dk_at dksX0_asks_7 8 rfl rfl)
abbrev cX0_isShelf : ByteArray := prog_1_method_62_code
def yX0_isShelf : MethodName := ⟨RX0, "isShelf", "(I)Z"⟩
def dkwX0_isShelf_0 : List UInt8 := [26, 3, 8, 184, 0, 73, 172]
abbrev dktX0_isShelf_0 : List UInt8 := dkwX0_isShelf_0 ++ []
theorem dksX0_isShelf_0 : cX0_isShelf.data.toList.drop 0 = dktX0_isShelf_0 := by decide +kernel
theorem dX0_isShelf_0 : decode cX0_isShelf 0 = .ok (.iload_n 0, 1) := dk_26 (dk_at dksX0_isShelf_0 0 rfl rfl)
theorem dX0_isShelf_1 : decode cX0_isShelf 1 = .ok (.iconst 0, 1) := dk_3 (dk_at dksX0_isShelf_0 1 rfl rfl)
theorem dX0_isShelf_2 : decode cX0_isShelf 2 = .ok (.iconst 5, 1) := dk_8 (dk_at dksX0_isShelf_0 2 rfl rfl)
theorem dX0_isShelf_3 : decode cX0_isShelf 3 = .ok (.invokestatic 73, 3) := dk_184 0 73 (dk_at dksX0_isShelf_0 3 rfl rfl)
theorem dX0_isShelf_6 : decode cX0_isShelf 6 = .ok (.ireturn, 1) := dk_172 (dk_at dksX0_isShelf_0 6 rfl rfl)
abbrev cX0_seen : ByteArray := prog_1_method_31_code
def yX0_seen : MethodName := ⟨RX0, "seen", "(II)I"⟩
def dkwX0_seen_2 : List UInt8 := [180, 1, 9, 167, 0, 18, 28, 6, 160, 0, 11, 45, 182, 1, 12, 136, 167, 0, 5, 18, 172, 172]
abbrev dktX0_seen_2 : List UInt8 := dkwX0_seen_2 ++ []
def dkwX0_seen_1 : List UInt8 := [180, 1, 3, 167, 0, 42, 28, 4, 160, 0, 10, 45, 180, 1, 6, 167, 0, 30, 28, 5, 160, 0, 10, 45]
abbrev dktX0_seen_1 : List UInt8 := dkwX0_seen_1 ++ dktX0_seen_2
def dkwX0_seen_0 : List UInt8 := [42, 27, 182, 1, 0, 154, 0, 6, 18, 172, 172, 42, 180, 0, 43, 27, 50, 78, 28, 154, 0, 10, 45]
abbrev dktX0_seen_0 : List UInt8 := dkwX0_seen_0 ++ dktX0_seen_1
theorem dksX0_seen_0 : cX0_seen.data.toList.drop 0 = dktX0_seen_0 := by decide +kernel
theorem dksX0_seen_1 : cX0_seen.data.toList.drop 23 = dktX0_seen_1 := dk_seg dksX0_seen_0 23 rfl rfl
theorem dksX0_seen_2 : cX0_seen.data.toList.drop 47 = dktX0_seen_2 := dk_seg dksX0_seen_1 24 rfl rfl
theorem dX0_seen_0 : decode cX0_seen 0 = .ok (.aload_n 0, 1) := dk_42 (dk_at dksX0_seen_0 0 rfl rfl)
theorem dX0_seen_1 : decode cX0_seen 1 = .ok (.iload_n 1, 1) := dk_27 (dk_at dksX0_seen_0 1 rfl rfl)
theorem dX0_seen_2 : decode cX0_seen 2 = .ok (.invokevirtual 256, 3) := dk_182 1 0 (dk_at dksX0_seen_0 2 rfl rfl)
theorem dX0_seen_5 : decode cX0_seen 5 = .ok (.ifCond .ne 6, 3) := dk_154 0 6 (dk_at dksX0_seen_0 5 rfl rfl)
theorem dX0_seen_8 : decode cX0_seen 8 = .ok (.ldc 172, 2) := dk_18 172 (dk_at dksX0_seen_0 8 rfl rfl)
theorem dX0_seen_10 : decode cX0_seen 10 = .ok (.ireturn, 1) := dk_172 (dk_at dksX0_seen_0 10 rfl rfl)
theorem dX0_seen_11 : decode cX0_seen 11 = .ok (.aload_n 0, 1) := dk_42 (dk_at dksX0_seen_0 11 rfl rfl)
theorem dX0_seen_12 : decode cX0_seen 12 = .ok (.getfield 43, 3) := dk_180 0 43 (dk_at dksX0_seen_0 12 rfl rfl)
theorem dX0_seen_15 : decode cX0_seen 15 = .ok (.iload_n 1, 1) := dk_27 (dk_at dksX0_seen_0 15 rfl rfl)
theorem dX0_seen_16 : decode cX0_seen 16 = .ok (.aaload, 1) := dk_50 (dk_at dksX0_seen_0 16 rfl rfl)
theorem dX0_seen_17 : decode cX0_seen 17 = .ok (.astore_n 3, 1) := dk_78 (dk_at dksX0_seen_0 17 rfl rfl)
theorem dX0_seen_18 : decode cX0_seen 18 = .ok (.iload_n 2, 1) := dk_28 (dk_at dksX0_seen_0 18 rfl rfl)
theorem dX0_seen_19 : decode cX0_seen 19 = .ok (.ifCond .ne 10, 3) := dk_154 0 10 (dk_at dksX0_seen_0 19 rfl rfl)
theorem dX0_seen_22 : decode cX0_seen 22 = .ok (.aload_n 3, 1) := dk_45 (dk_at dksX0_seen_0 22 rfl rfl)
theorem dX0_seen_23 : decode cX0_seen 23 = .ok (.getfield 259, 3) := dk_180 1 3 (dk_at dksX0_seen_1 0 rfl rfl)
theorem dX0_seen_26 : decode cX0_seen 26 = .ok (.goto 42, 3) := dk_167 0 42 (dk_at dksX0_seen_1 3 rfl rfl)
theorem dX0_seen_29 : decode cX0_seen 29 = .ok (.iload_n 2, 1) := dk_28 (dk_at dksX0_seen_1 6 rfl rfl)
theorem dX0_seen_30 : decode cX0_seen 30 = .ok (.iconst 1, 1) := dk_4 (dk_at dksX0_seen_1 7 rfl rfl)
theorem dX0_seen_31 : decode cX0_seen 31 = .ok (.if_icmp .ne 10, 3) := dk_160 0 10 (dk_at dksX0_seen_1 8 rfl rfl)
theorem dX0_seen_34 : decode cX0_seen 34 = .ok (.aload_n 3, 1) := dk_45 (dk_at dksX0_seen_1 11 rfl rfl)
theorem dX0_seen_35 : decode cX0_seen 35 = .ok (.getfield 262, 3) := dk_180 1 6 (dk_at dksX0_seen_1 12 rfl rfl)
theorem dX0_seen_38 : decode cX0_seen 38 = .ok (.goto 30, 3) := dk_167 0 30 (dk_at dksX0_seen_1 15 rfl rfl)
theorem dX0_seen_41 : decode cX0_seen 41 = .ok (.iload_n 2, 1) := dk_28 (dk_at dksX0_seen_1 18 rfl rfl)
theorem dX0_seen_42 : decode cX0_seen 42 = .ok (.iconst 2, 1) := dk_5 (dk_at dksX0_seen_1 19 rfl rfl)
theorem dX0_seen_43 : decode cX0_seen 43 = .ok (.if_icmp .ne 10, 3) := dk_160 0 10 (dk_at dksX0_seen_1 20 rfl rfl)
theorem dX0_seen_46 : decode cX0_seen 46 = .ok (.aload_n 3, 1) := dk_45 (dk_at dksX0_seen_1 23 rfl rfl)
theorem dX0_seen_47 : decode cX0_seen 47 = .ok (.getfield 265, 3) := dk_180 1 9 (dk_at dksX0_seen_2 0 rfl rfl)
theorem dX0_seen_50 : decode cX0_seen 50 = .ok (.goto 18, 3) := dk_167 0 18 (dk_at dksX0_seen_2 3 rfl rfl)
theorem dX0_seen_53 : decode cX0_seen 53 = .ok (.iload_n 2, 1) := dk_28 (dk_at dksX0_seen_2 6 rfl rfl)
theorem dX0_seen_54 : decode cX0_seen 54 = .ok (.iconst 3, 1) := dk_6 (dk_at dksX0_seen_2 7 rfl rfl)
theorem dX0_seen_55 : decode cX0_seen 55 = .ok (.if_icmp .ne 11, 3) := dk_160 0 11 (dk_at dksX0_seen_2 8 rfl rfl)
theorem dX0_seen_58 : decode cX0_seen 58 = .ok (.aload_n 3, 1) := dk_45 (dk_at dksX0_seen_2 11 rfl rfl)
theorem dX0_seen_59 : decode cX0_seen 59 = .ok (.invokevirtual 268, 3) := dk_182 1 12 (dk_at dksX0_seen_2 12 rfl rfl)
theorem dX0_seen_62 : decode cX0_seen 62 = .ok (.l2i, 1) := dk_136 (dk_at dksX0_seen_2 15 rfl rfl)
theorem dX0_seen_63 : decode cX0_seen 63 = .ok (.goto 5, 3) := dk_167 0 5 (dk_at dksX0_seen_2 16 rfl rfl)
theorem dX0_seen_66 : decode cX0_seen 66 = .ok (.ldc 172, 2) := dk_18 172 (dk_at dksX0_seen_2 19 rfl rfl)
theorem dX0_seen_68 : decode cX0_seen 68 = .ok (.ireturn, 1) := dk_172 (dk_at dksX0_seen_2 21 rfl rfl)
abbrev cX0_isAsk : ByteArray := prog_1_method_30_code
def yX0_isAsk : MethodName := ⟨RX0, "isAsk", "(I)Z"⟩
def dkwX0_isAsk_0 : List UInt8 := [27, 3, 42, 180, 0, 231, 4, 100, 184, 0, 73, 172]
abbrev dktX0_isAsk_0 : List UInt8 := dkwX0_isAsk_0 ++ []
theorem dksX0_isAsk_0 : cX0_isAsk.data.toList.drop 0 = dktX0_isAsk_0 := by decide +kernel
theorem dX0_isAsk_0 : decode cX0_isAsk 0 = .ok (.iload_n 1, 1) := dk_27 (dk_at dksX0_isAsk_0 0 rfl rfl)
theorem dX0_isAsk_1 : decode cX0_isAsk 1 = .ok (.iconst 0, 1) := dk_3 (dk_at dksX0_isAsk_0 1 rfl rfl)
theorem dX0_isAsk_2 : decode cX0_isAsk 2 = .ok (.aload_n 0, 1) := dk_42 (dk_at dksX0_isAsk_0 2 rfl rfl)
theorem dX0_isAsk_3 : decode cX0_isAsk 3 = .ok (.getfield 231, 3) := dk_180 0 231 (dk_at dksX0_isAsk_0 3 rfl rfl)
theorem dX0_isAsk_6 : decode cX0_isAsk 6 = .ok (.iconst 1, 1) := dk_4 (dk_at dksX0_isAsk_0 6 rfl rfl)
theorem dX0_isAsk_7 : decode cX0_isAsk 7 = .ok (.isub, 1) := dk_100 (dk_at dksX0_isAsk_0 7 rfl rfl)
theorem dX0_isAsk_8 : decode cX0_isAsk 8 = .ok (.invokestatic 73, 3) := dk_184 0 73 (dk_at dksX0_isAsk_0 8 rfl rfl)
theorem dX0_isAsk_11 : decode cX0_isAsk 11 = .ok (.ireturn, 1) := dk_172 (dk_at dksX0_isAsk_0 11 rfl rfl)
abbrev cX0_fits : ByteArray := prog_1_method_34_code
def yX0_fits : MethodName := ⟨RX0, "fits", "(II)I"⟩
def dkwX0_fits_3 : List UInt8 := [167, 255, 223, 29, 172]
abbrev dktX0_fits_3 : List UInt8 := dkwX0_fits_3 ++ []
def dkwX0_fits_2 : List UInt8 := [180, 0, 15, 27, 50, 21, 4, 28, 182, 1, 24, 153, 0, 10, 29, 4, 21, 4, 120, 128, 62, 132, 4, 1]
abbrev dktX0_fits_2 : List UInt8 := dkwX0_fits_2 ++ dktX0_fits_3
def dkwX0_fits_1 : List UInt8 := [180, 0, 231, 154, 0, 6, 16, 251, 172, 3, 62, 3, 54, 4, 21, 4, 16, 7, 162, 0, 32, 42, 42]
abbrev dktX0_fits_1 : List UInt8 := dkwX0_fits_1 ++ dktX0_fits_2
def dkwX0_fits_0 : List UInt8 := [42, 27, 182, 0, 89, 153, 0, 14, 28, 3, 17, 39, 15, 184, 0, 73, 154, 0, 5, 2, 172, 42]
abbrev dktX0_fits_0 : List UInt8 := dkwX0_fits_0 ++ dktX0_fits_1
theorem dksX0_fits_0 : cX0_fits.data.toList.drop 0 = dktX0_fits_0 := by decide +kernel
theorem dksX0_fits_1 : cX0_fits.data.toList.drop 22 = dktX0_fits_1 := dk_seg dksX0_fits_0 22 rfl rfl
theorem dksX0_fits_2 : cX0_fits.data.toList.drop 45 = dktX0_fits_2 := dk_seg dksX0_fits_1 23 rfl rfl
theorem dksX0_fits_3 : cX0_fits.data.toList.drop 69 = dktX0_fits_3 := dk_seg dksX0_fits_2 24 rfl rfl
theorem dX0_fits_0 : decode cX0_fits 0 = .ok (.aload_n 0, 1) := dk_42 (dk_at dksX0_fits_0 0 rfl rfl)
theorem dX0_fits_1 : decode cX0_fits 1 = .ok (.iload_n 1, 1) := dk_27 (dk_at dksX0_fits_0 1 rfl rfl)
theorem dX0_fits_2 : decode cX0_fits 2 = .ok (.invokevirtual 89, 3) := dk_182 0 89 (dk_at dksX0_fits_0 2 rfl rfl)
theorem dX0_fits_5 : decode cX0_fits 5 = .ok (.ifCond .eq 14, 3) := dk_153 0 14 (dk_at dksX0_fits_0 5 rfl rfl)
theorem dX0_fits_8 : decode cX0_fits 8 = .ok (.iload_n 2, 1) := dk_28 (dk_at dksX0_fits_0 8 rfl rfl)
theorem dX0_fits_9 : decode cX0_fits 9 = .ok (.iconst 0, 1) := dk_3 (dk_at dksX0_fits_0 9 rfl rfl)
theorem dX0_fits_10 : decode cX0_fits 10 = .ok (.sipush 9999, 3) := dk_17 39 15 (dk_at dksX0_fits_0 10 rfl rfl)
theorem dX0_fits_13 : decode cX0_fits 13 = .ok (.invokestatic 73, 3) := dk_184 0 73 (dk_at dksX0_fits_0 13 rfl rfl)
theorem dX0_fits_16 : decode cX0_fits 16 = .ok (.ifCond .ne 5, 3) := dk_154 0 5 (dk_at dksX0_fits_0 16 rfl rfl)
theorem dX0_fits_19 : decode cX0_fits 19 = .ok (.iconst (-1), 1) := dk_2 (dk_at dksX0_fits_0 19 rfl rfl)
theorem dX0_fits_20 : decode cX0_fits 20 = .ok (.ireturn, 1) := dk_172 (dk_at dksX0_fits_0 20 rfl rfl)
theorem dX0_fits_21 : decode cX0_fits 21 = .ok (.aload_n 0, 1) := dk_42 (dk_at dksX0_fits_0 21 rfl rfl)
theorem dX0_fits_22 : decode cX0_fits 22 = .ok (.getfield 231, 3) := dk_180 0 231 (dk_at dksX0_fits_1 0 rfl rfl)
theorem dX0_fits_25 : decode cX0_fits 25 = .ok (.ifCond .ne 6, 3) := dk_154 0 6 (dk_at dksX0_fits_1 3 rfl rfl)
theorem dX0_fits_28 : decode cX0_fits 28 = .ok (.bipush (-5), 2) := dk_16 251 (dk_at dksX0_fits_1 6 rfl rfl)
theorem dX0_fits_30 : decode cX0_fits 30 = .ok (.ireturn, 1) := dk_172 (dk_at dksX0_fits_1 8 rfl rfl)
theorem dX0_fits_31 : decode cX0_fits 31 = .ok (.iconst 0, 1) := dk_3 (dk_at dksX0_fits_1 9 rfl rfl)
theorem dX0_fits_32 : decode cX0_fits 32 = .ok (.istore_n 3, 1) := dk_62 (dk_at dksX0_fits_1 10 rfl rfl)
theorem dX0_fits_33 : decode cX0_fits 33 = .ok (.iconst 0, 1) := dk_3 (dk_at dksX0_fits_1 11 rfl rfl)
theorem dX0_fits_34 : decode cX0_fits 34 = .ok (.istore 4, 2) := dk_54 4 (dk_at dksX0_fits_1 12 rfl rfl)
theorem dX0_fits_36 : decode cX0_fits 36 = .ok (.iload 4, 2) := dk_21 4 (dk_at dksX0_fits_1 14 rfl rfl)
theorem dX0_fits_38 : decode cX0_fits 38 = .ok (.bipush 7, 2) := dk_16 7 (dk_at dksX0_fits_1 16 rfl rfl)
theorem dX0_fits_40 : decode cX0_fits 40 = .ok (.if_icmp .ge 32, 3) := dk_162 0 32 (dk_at dksX0_fits_1 18 rfl rfl)
theorem dX0_fits_43 : decode cX0_fits 43 = .ok (.aload_n 0, 1) := dk_42 (dk_at dksX0_fits_1 21 rfl rfl)
theorem dX0_fits_44 : decode cX0_fits 44 = .ok (.aload_n 0, 1) := dk_42 (dk_at dksX0_fits_1 22 rfl rfl)
theorem dX0_fits_45 : decode cX0_fits 45 = .ok (.getfield 15, 3) := dk_180 0 15 (dk_at dksX0_fits_2 0 rfl rfl)
theorem dX0_fits_48 : decode cX0_fits 48 = .ok (.iload_n 1, 1) := dk_27 (dk_at dksX0_fits_2 3 rfl rfl)
theorem dX0_fits_49 : decode cX0_fits 49 = .ok (.aaload, 1) := dk_50 (dk_at dksX0_fits_2 4 rfl rfl)
theorem dX0_fits_50 : decode cX0_fits 50 = .ok (.iload 4, 2) := dk_21 4 (dk_at dksX0_fits_2 5 rfl rfl)
theorem dX0_fits_52 : decode cX0_fits 52 = .ok (.iload_n 2, 1) := dk_28 (dk_at dksX0_fits_2 7 rfl rfl)
theorem dX0_fits_53 : decode cX0_fits 53 = .ok (.invokevirtual 280, 3) := dk_182 1 24 (dk_at dksX0_fits_2 8 rfl rfl)
theorem dX0_fits_56 : decode cX0_fits 56 = .ok (.ifCond .eq 10, 3) := dk_153 0 10 (dk_at dksX0_fits_2 11 rfl rfl)
theorem dX0_fits_59 : decode cX0_fits 59 = .ok (.iload_n 3, 1) := dk_29 (dk_at dksX0_fits_2 14 rfl rfl)
theorem dX0_fits_60 : decode cX0_fits 60 = .ok (.iconst 1, 1) := dk_4 (dk_at dksX0_fits_2 15 rfl rfl)
theorem dX0_fits_61 : decode cX0_fits 61 = .ok (.iload 4, 2) := dk_21 4 (dk_at dksX0_fits_2 16 rfl rfl)
theorem dX0_fits_63 : decode cX0_fits 63 = .ok (.ishl, 1) := dk_120 (dk_at dksX0_fits_2 18 rfl rfl)
theorem dX0_fits_64 : decode cX0_fits 64 = .ok (.ior, 1) := dk_128 (dk_at dksX0_fits_2 19 rfl rfl)
theorem dX0_fits_65 : decode cX0_fits 65 = .ok (.istore_n 3, 1) := dk_62 (dk_at dksX0_fits_2 20 rfl rfl)
theorem dX0_fits_66 : decode cX0_fits 66 = .ok (.iinc 4 1, 3) := dk_132 4 1 (dk_at dksX0_fits_2 21 rfl rfl)
theorem dX0_fits_69 : decode cX0_fits 69 = .ok (.goto (-33), 3) := dk_167 255 223 (dk_at dksX0_fits_3 0 rfl rfl)
theorem dX0_fits_72 : decode cX0_fits 72 = .ok (.iload_n 3, 1) := dk_29 (dk_at dksX0_fits_3 3 rfl rfl)
theorem dX0_fits_73 : decode cX0_fits 73 = .ok (.ireturn, 1) := dk_172 (dk_at dksX0_fits_3 4 rfl rfl)
abbrev cX0_doesFit : ByteArray := prog_1_method_33_code
def yX0_doesFit : MethodName := ⟨RX0, "doesFit", "(LHeadReckons$Head;II)Z"⟩
def dkwX0_doesFit_4 : List UInt8 := [172]
abbrev dktX0_doesFit_4 : List UInt8 := dkwX0_doesFit_4 ++ []
def dkwX0_doesFit_3 : List UInt8 := [180, 0, 43, 21, 4, 50, 182, 1, 12, 182, 1, 20, 154, 0, 5, 3, 172, 132, 4, 1, 167, 255, 168, 4]
abbrev dktX0_doesFit_3 : List UInt8 := dkwX0_doesFit_3 ++ dktX0_doesFit_4
def dkwX0_doesFit_2 : List UInt8 := [180, 0, 163, 42, 180, 0, 43, 21, 4, 50, 180, 1, 9, 100, 184, 0, 196, 29, 163, 0, 20, 42, 42]
abbrev dktX0_doesFit_2 : List UInt8 := dkwX0_doesFit_2 ++ dktX0_doesFit_3
def dkwX0_doesFit_1 : List UInt8 := [50, 180, 1, 3, 42, 180, 0, 43, 21, 4, 50, 180, 1, 6, 182, 0, 150, 153, 0, 45, 42, 180, 0, 37]
abbrev dktX0_doesFit_1 : List UInt8 := dkwX0_doesFit_1 ++ dktX0_doesFit_2
def dkwX0_doesFit_0 : List UInt8 := [3, 54, 4, 21, 4, 42, 180, 0, 231, 162, 0, 85, 42, 180, 0, 37, 43, 28, 42, 180, 0, 43, 21, 4]
abbrev dktX0_doesFit_0 : List UInt8 := dkwX0_doesFit_0 ++ dktX0_doesFit_1
theorem dksX0_doesFit_0 : cX0_doesFit.data.toList.drop 0 = dktX0_doesFit_0 := by decide +kernel
theorem dksX0_doesFit_1 : cX0_doesFit.data.toList.drop 24 = dktX0_doesFit_1 := dk_seg dksX0_doesFit_0 24 rfl rfl
theorem dksX0_doesFit_2 : cX0_doesFit.data.toList.drop 48 = dktX0_doesFit_2 := dk_seg dksX0_doesFit_1 24 rfl rfl
theorem dksX0_doesFit_3 : cX0_doesFit.data.toList.drop 71 = dktX0_doesFit_3 := dk_seg dksX0_doesFit_2 23 rfl rfl
theorem dksX0_doesFit_4 : cX0_doesFit.data.toList.drop 95 = dktX0_doesFit_4 := dk_seg dksX0_doesFit_3 24 rfl rfl
theorem dX0_doesFit_0 : decode cX0_doesFit 0 = .ok (.iconst 0, 1) := dk_3 (dk_at dksX0_doesFit_0 0 rfl rfl)
theorem dX0_doesFit_1 : decode cX0_doesFit 1 = .ok (.istore 4, 2) := dk_54 4 (dk_at dksX0_doesFit_0 1 rfl rfl)
theorem dX0_doesFit_3 : decode cX0_doesFit 3 = .ok (.iload 4, 2) := dk_21 4 (dk_at dksX0_doesFit_0 3 rfl rfl)
theorem dX0_doesFit_5 : decode cX0_doesFit 5 = .ok (.aload_n 0, 1) := dk_42 (dk_at dksX0_doesFit_0 5 rfl rfl)
theorem dX0_doesFit_6 : decode cX0_doesFit 6 = .ok (.getfield 231, 3) := dk_180 0 231 (dk_at dksX0_doesFit_0 6 rfl rfl)
theorem dX0_doesFit_9 : decode cX0_doesFit 9 = .ok (.if_icmp .ge 85, 3) := dk_162 0 85 (dk_at dksX0_doesFit_0 9 rfl rfl)
theorem dX0_doesFit_12 : decode cX0_doesFit 12 = .ok (.aload_n 0, 1) := dk_42 (dk_at dksX0_doesFit_0 12 rfl rfl)
theorem dX0_doesFit_13 : decode cX0_doesFit 13 = .ok (.getfield 37, 3) := dk_180 0 37 (dk_at dksX0_doesFit_0 13 rfl rfl)
theorem dX0_doesFit_16 : decode cX0_doesFit 16 = .ok (.aload_n 1, 1) := dk_43 (dk_at dksX0_doesFit_0 16 rfl rfl)
theorem dX0_doesFit_17 : decode cX0_doesFit 17 = .ok (.iload_n 2, 1) := dk_28 (dk_at dksX0_doesFit_0 17 rfl rfl)
theorem dX0_doesFit_18 : decode cX0_doesFit 18 = .ok (.aload_n 0, 1) := dk_42 (dk_at dksX0_doesFit_0 18 rfl rfl)
theorem dX0_doesFit_19 : decode cX0_doesFit 19 = .ok (.getfield 43, 3) := dk_180 0 43 (dk_at dksX0_doesFit_0 19 rfl rfl)
theorem dX0_doesFit_22 : decode cX0_doesFit 22 = .ok (.iload 4, 2) := dk_21 4 (dk_at dksX0_doesFit_0 22 rfl rfl)
theorem dX0_doesFit_24 : decode cX0_doesFit 24 = .ok (.aaload, 1) := dk_50 (dk_at dksX0_doesFit_1 0 rfl rfl)
theorem dX0_doesFit_25 : decode cX0_doesFit 25 = .ok (.getfield 259, 3) := dk_180 1 3 (dk_at dksX0_doesFit_1 1 rfl rfl)
theorem dX0_doesFit_28 : decode cX0_doesFit 28 = .ok (.aload_n 0, 1) := dk_42 (dk_at dksX0_doesFit_1 4 rfl rfl)
theorem dX0_doesFit_29 : decode cX0_doesFit 29 = .ok (.getfield 43, 3) := dk_180 0 43 (dk_at dksX0_doesFit_1 5 rfl rfl)
theorem dX0_doesFit_32 : decode cX0_doesFit 32 = .ok (.iload 4, 2) := dk_21 4 (dk_at dksX0_doesFit_1 8 rfl rfl)
theorem dX0_doesFit_34 : decode cX0_doesFit 34 = .ok (.aaload, 1) := dk_50 (dk_at dksX0_doesFit_1 10 rfl rfl)
theorem dX0_doesFit_35 : decode cX0_doesFit 35 = .ok (.getfield 262, 3) := dk_180 1 6 (dk_at dksX0_doesFit_1 11 rfl rfl)
theorem dX0_doesFit_38 : decode cX0_doesFit 38 = .ok (.invokevirtual 150, 3) := dk_182 0 150 (dk_at dksX0_doesFit_1 14 rfl rfl)
theorem dX0_doesFit_41 : decode cX0_doesFit 41 = .ok (.ifCond .eq 45, 3) := dk_153 0 45 (dk_at dksX0_doesFit_1 17 rfl rfl)
theorem dX0_doesFit_44 : decode cX0_doesFit 44 = .ok (.aload_n 0, 1) := dk_42 (dk_at dksX0_doesFit_1 20 rfl rfl)
theorem dX0_doesFit_45 : decode cX0_doesFit 45 = .ok (.getfield 37, 3) := dk_180 0 37 (dk_at dksX0_doesFit_1 21 rfl rfl)
theorem dX0_doesFit_48 : decode cX0_doesFit 48 = .ok (.getfield 163, 3) := dk_180 0 163 (dk_at dksX0_doesFit_2 0 rfl rfl)
theorem dX0_doesFit_51 : decode cX0_doesFit 51 = .ok (.aload_n 0, 1) := dk_42 (dk_at dksX0_doesFit_2 3 rfl rfl)
theorem dX0_doesFit_52 : decode cX0_doesFit 52 = .ok (.getfield 43, 3) := dk_180 0 43 (dk_at dksX0_doesFit_2 4 rfl rfl)
theorem dX0_doesFit_55 : decode cX0_doesFit 55 = .ok (.iload 4, 2) := dk_21 4 (dk_at dksX0_doesFit_2 7 rfl rfl)
theorem dX0_doesFit_57 : decode cX0_doesFit 57 = .ok (.aaload, 1) := dk_50 (dk_at dksX0_doesFit_2 9 rfl rfl)
theorem dX0_doesFit_58 : decode cX0_doesFit 58 = .ok (.getfield 265, 3) := dk_180 1 9 (dk_at dksX0_doesFit_2 10 rfl rfl)
theorem dX0_doesFit_61 : decode cX0_doesFit 61 = .ok (.isub, 1) := dk_100 (dk_at dksX0_doesFit_2 13 rfl rfl)
theorem dX0_doesFit_62 : decode cX0_doesFit 62 = .ok (.invokestatic 196, 3) := dk_184 0 196 (dk_at dksX0_doesFit_2 14 rfl rfl)
theorem dX0_doesFit_65 : decode cX0_doesFit 65 = .ok (.iload_n 3, 1) := dk_29 (dk_at dksX0_doesFit_2 17 rfl rfl)
theorem dX0_doesFit_66 : decode cX0_doesFit 66 = .ok (.if_icmp .gt 20, 3) := dk_163 0 20 (dk_at dksX0_doesFit_2 18 rfl rfl)
theorem dX0_doesFit_69 : decode cX0_doesFit 69 = .ok (.aload_n 0, 1) := dk_42 (dk_at dksX0_doesFit_2 21 rfl rfl)
theorem dX0_doesFit_70 : decode cX0_doesFit 70 = .ok (.aload_n 0, 1) := dk_42 (dk_at dksX0_doesFit_2 22 rfl rfl)
theorem dX0_doesFit_71 : decode cX0_doesFit 71 = .ok (.getfield 43, 3) := dk_180 0 43 (dk_at dksX0_doesFit_3 0 rfl rfl)
theorem dX0_doesFit_74 : decode cX0_doesFit 74 = .ok (.iload 4, 2) := dk_21 4 (dk_at dksX0_doesFit_3 3 rfl rfl)
theorem dX0_doesFit_76 : decode cX0_doesFit 76 = .ok (.aaload, 1) := dk_50 (dk_at dksX0_doesFit_3 5 rfl rfl)
theorem dX0_doesFit_77 : decode cX0_doesFit 77 = .ok (.invokevirtual 268, 3) := dk_182 1 12 (dk_at dksX0_doesFit_3 6 rfl rfl)
theorem dX0_doesFit_80 : decode cX0_doesFit 80 = .ok (.invokevirtual 276, 3) := dk_182 1 20 (dk_at dksX0_doesFit_3 9 rfl rfl)
theorem dX0_doesFit_83 : decode cX0_doesFit 83 = .ok (.ifCond .ne 5, 3) := dk_154 0 5 (dk_at dksX0_doesFit_3 12 rfl rfl)
theorem dX0_doesFit_86 : decode cX0_doesFit 86 = .ok (.iconst 0, 1) := dk_3 (dk_at dksX0_doesFit_3 15 rfl rfl)
theorem dX0_doesFit_87 : decode cX0_doesFit 87 = .ok (.ireturn, 1) := dk_172 (dk_at dksX0_doesFit_3 16 rfl rfl)
theorem dX0_doesFit_88 : decode cX0_doesFit 88 = .ok (.iinc 4 1, 3) := dk_132 4 1 (dk_at dksX0_doesFit_3 17 rfl rfl)
theorem dX0_doesFit_91 : decode cX0_doesFit 91 = .ok (.goto (-88), 3) := dk_167 255 168 (dk_at dksX0_doesFit_3 20 rfl rfl)
theorem dX0_doesFit_94 : decode cX0_doesFit 94 = .ok (.iconst 1, 1) := dk_4 (dk_at dksX0_doesFit_3 23 rfl rfl)
theorem dX0_doesFit_95 : decode cX0_doesFit 95 = .ok (.ireturn, 1) := dk_172 (dk_at dksX0_doesFit_4 0 rfl rfl)
abbrev cX0_isBySlip : ByteArray := prog_1_method_32_code
def yX0_isBySlip : MethodName := ⟨RX0, "isBySlip", "(J)Z"⟩
def dkwX0_isBySlip_1 : List UInt8 := [180, 0, 37, 29, 31, 182, 1, 16, 153, 0, 5, 4, 172, 132, 3, 1, 167, 255, 228, 3, 172]
abbrev dktX0_isBySlip_1 : List UInt8 := dkwX0_isBySlip_1 ++ []
def dkwX0_isBySlip_0 : List UInt8 := [31, 9, 148, 154, 0, 5, 4, 172, 3, 62, 29, 42, 180, 0, 37, 180, 0, 169, 162, 0, 23, 42]
abbrev dktX0_isBySlip_0 : List UInt8 := dkwX0_isBySlip_0 ++ dktX0_isBySlip_1
theorem dksX0_isBySlip_0 : cX0_isBySlip.data.toList.drop 0 = dktX0_isBySlip_0 := by decide +kernel
theorem dksX0_isBySlip_1 : cX0_isBySlip.data.toList.drop 22 = dktX0_isBySlip_1 := dk_seg dksX0_isBySlip_0 22 rfl rfl
theorem dX0_isBySlip_0 : decode cX0_isBySlip 0 = .ok (.lload_n 1, 1) := dk_31 (dk_at dksX0_isBySlip_0 0 rfl rfl)
theorem dX0_isBySlip_1 : decode cX0_isBySlip 1 = .ok (.lconst 0, 1) := dk_9 (dk_at dksX0_isBySlip_0 1 rfl rfl)
theorem dX0_isBySlip_2 : decode cX0_isBySlip 2 = .ok (.lcmp, 1) := dk_148 (dk_at dksX0_isBySlip_0 2 rfl rfl)
theorem dX0_isBySlip_3 : decode cX0_isBySlip 3 = .ok (.ifCond .ne 5, 3) := dk_154 0 5 (dk_at dksX0_isBySlip_0 3 rfl rfl)
theorem dX0_isBySlip_6 : decode cX0_isBySlip 6 = .ok (.iconst 1, 1) := dk_4 (dk_at dksX0_isBySlip_0 6 rfl rfl)
theorem dX0_isBySlip_7 : decode cX0_isBySlip 7 = .ok (.ireturn, 1) := dk_172 (dk_at dksX0_isBySlip_0 7 rfl rfl)
theorem dX0_isBySlip_8 : decode cX0_isBySlip 8 = .ok (.iconst 0, 1) := dk_3 (dk_at dksX0_isBySlip_0 8 rfl rfl)
theorem dX0_isBySlip_9 : decode cX0_isBySlip 9 = .ok (.istore_n 3, 1) := dk_62 (dk_at dksX0_isBySlip_0 9 rfl rfl)
theorem dX0_isBySlip_10 : decode cX0_isBySlip 10 = .ok (.iload_n 3, 1) := dk_29 (dk_at dksX0_isBySlip_0 10 rfl rfl)
theorem dX0_isBySlip_11 : decode cX0_isBySlip 11 = .ok (.aload_n 0, 1) := dk_42 (dk_at dksX0_isBySlip_0 11 rfl rfl)
theorem dX0_isBySlip_12 : decode cX0_isBySlip 12 = .ok (.getfield 37, 3) := dk_180 0 37 (dk_at dksX0_isBySlip_0 12 rfl rfl)
theorem dX0_isBySlip_15 : decode cX0_isBySlip 15 = .ok (.getfield 169, 3) := dk_180 0 169 (dk_at dksX0_isBySlip_0 15 rfl rfl)
theorem dX0_isBySlip_18 : decode cX0_isBySlip 18 = .ok (.if_icmp .ge 23, 3) := dk_162 0 23 (dk_at dksX0_isBySlip_0 18 rfl rfl)
theorem dX0_isBySlip_21 : decode cX0_isBySlip 21 = .ok (.aload_n 0, 1) := dk_42 (dk_at dksX0_isBySlip_0 21 rfl rfl)
theorem dX0_isBySlip_22 : decode cX0_isBySlip 22 = .ok (.getfield 37, 3) := dk_180 0 37 (dk_at dksX0_isBySlip_1 0 rfl rfl)
theorem dX0_isBySlip_25 : decode cX0_isBySlip 25 = .ok (.iload_n 3, 1) := dk_29 (dk_at dksX0_isBySlip_1 3 rfl rfl)
theorem dX0_isBySlip_26 : decode cX0_isBySlip 26 = .ok (.lload_n 1, 1) := dk_31 (dk_at dksX0_isBySlip_1 4 rfl rfl)
theorem dX0_isBySlip_27 : decode cX0_isBySlip 27 = .ok (.invokevirtual 272, 3) := dk_182 1 16 (dk_at dksX0_isBySlip_1 5 rfl rfl)
theorem dX0_isBySlip_30 : decode cX0_isBySlip 30 = .ok (.ifCond .eq 5, 3) := dk_153 0 5 (dk_at dksX0_isBySlip_1 8 rfl rfl)
theorem dX0_isBySlip_33 : decode cX0_isBySlip 33 = .ok (.iconst 1, 1) := dk_4 (dk_at dksX0_isBySlip_1 11 rfl rfl)
theorem dX0_isBySlip_34 : decode cX0_isBySlip 34 = .ok (.ireturn, 1) := dk_172 (dk_at dksX0_isBySlip_1 12 rfl rfl)
theorem dX0_isBySlip_35 : decode cX0_isBySlip 35 = .ok (.iinc 3 1, 3) := dk_132 3 1 (dk_at dksX0_isBySlip_1 13 rfl rfl)
theorem dX0_isBySlip_38 : decode cX0_isBySlip 38 = .ok (.goto (-28), 3) := dk_167 255 228 (dk_at dksX0_isBySlip_1 16 rfl rfl)
theorem dX0_isBySlip_41 : decode cX0_isBySlip 41 = .ok (.iconst 0, 1) := dk_3 (dk_at dksX0_isBySlip_1 19 rfl rfl)
theorem dX0_isBySlip_42 : decode cX0_isBySlip 42 = .ok (.ireturn, 1) := dk_172 (dk_at dksX0_isBySlip_1 20 rfl rfl)
abbrev cX0_best : ByteArray := prog_1_method_36_code
def yX0_best : MethodName := ⟨RX0, "best", "(II)I"⟩
def dkwX0_best_4 : List UInt8 := [154, 0, 7, 29, 167, 0, 5, 21, 4, 172]
abbrev dktX0_best_4 : List UInt8 := dkwX0_best_4 ++ []
def dkwX0_best_3 : List UInt8 := [21, 4, 161, 0, 6, 167, 0, 10, 21, 5, 62, 21, 6, 54, 4, 132, 5, 1, 167, 255, 206, 28]
abbrev dktX0_best_3 : List UInt8 := dkwX0_best_3 ++ dktX0_best_4
def dkwX0_best_2 : List UInt8 := [180, 0, 15, 27, 50, 21, 5, 182, 1, 28, 54, 6, 21, 6, 155, 0, 24, 29, 155, 0, 13, 21, 6]
abbrev dktX0_best_2 : List UInt8 := dkwX0_best_2 ++ dktX0_best_3
def dkwX0_best_1 : List UInt8 := [154, 0, 6, 16, 251, 172, 2, 62, 3, 54, 4, 3, 54, 5, 21, 5, 16, 7, 163, 0, 49, 42, 42]
abbrev dktX0_best_1 : List UInt8 := dkwX0_best_1 ++ dktX0_best_2
def dkwX0_best_0 : List UInt8 := [42, 27, 182, 0, 89, 153, 0, 12, 28, 3, 4, 184, 0, 73, 154, 0, 5, 2, 172, 42, 180, 0, 231]
abbrev dktX0_best_0 : List UInt8 := dkwX0_best_0 ++ dktX0_best_1
theorem dksX0_best_0 : cX0_best.data.toList.drop 0 = dktX0_best_0 := by decide +kernel
theorem dksX0_best_1 : cX0_best.data.toList.drop 23 = dktX0_best_1 := dk_seg dksX0_best_0 23 rfl rfl
theorem dksX0_best_2 : cX0_best.data.toList.drop 46 = dktX0_best_2 := dk_seg dksX0_best_1 23 rfl rfl
theorem dksX0_best_3 : cX0_best.data.toList.drop 69 = dktX0_best_3 := dk_seg dksX0_best_2 23 rfl rfl
theorem dksX0_best_4 : cX0_best.data.toList.drop 91 = dktX0_best_4 := dk_seg dksX0_best_3 22 rfl rfl
theorem dX0_best_0 : decode cX0_best 0 = .ok (.aload_n 0, 1) := dk_42 (dk_at dksX0_best_0 0 rfl rfl)
theorem dX0_best_1 : decode cX0_best 1 = .ok (.iload_n 1, 1) := dk_27 (dk_at dksX0_best_0 1 rfl rfl)
theorem dX0_best_2 : decode cX0_best 2 = .ok (.invokevirtual 89, 3) := dk_182 0 89 (dk_at dksX0_best_0 2 rfl rfl)
theorem dX0_best_5 : decode cX0_best 5 = .ok (.ifCond .eq 12, 3) := dk_153 0 12 (dk_at dksX0_best_0 5 rfl rfl)
theorem dX0_best_8 : decode cX0_best 8 = .ok (.iload_n 2, 1) := dk_28 (dk_at dksX0_best_0 8 rfl rfl)
theorem dX0_best_9 : decode cX0_best 9 = .ok (.iconst 0, 1) := dk_3 (dk_at dksX0_best_0 9 rfl rfl)
theorem dX0_best_10 : decode cX0_best 10 = .ok (.iconst 1, 1) := dk_4 (dk_at dksX0_best_0 10 rfl rfl)
theorem dX0_best_11 : decode cX0_best 11 = .ok (.invokestatic 73, 3) := dk_184 0 73 (dk_at dksX0_best_0 11 rfl rfl)
theorem dX0_best_14 : decode cX0_best 14 = .ok (.ifCond .ne 5, 3) := dk_154 0 5 (dk_at dksX0_best_0 14 rfl rfl)
theorem dX0_best_17 : decode cX0_best 17 = .ok (.iconst (-1), 1) := dk_2 (dk_at dksX0_best_0 17 rfl rfl)
theorem dX0_best_18 : decode cX0_best 18 = .ok (.ireturn, 1) := dk_172 (dk_at dksX0_best_0 18 rfl rfl)
theorem dX0_best_19 : decode cX0_best 19 = .ok (.aload_n 0, 1) := dk_42 (dk_at dksX0_best_0 19 rfl rfl)
theorem dX0_best_20 : decode cX0_best 20 = .ok (.getfield 231, 3) := dk_180 0 231 (dk_at dksX0_best_0 20 rfl rfl)
theorem dX0_best_23 : decode cX0_best 23 = .ok (.ifCond .ne 6, 3) := dk_154 0 6 (dk_at dksX0_best_1 0 rfl rfl)
theorem dX0_best_26 : decode cX0_best 26 = .ok (.bipush (-5), 2) := dk_16 251 (dk_at dksX0_best_1 3 rfl rfl)
theorem dX0_best_28 : decode cX0_best 28 = .ok (.ireturn, 1) := dk_172 (dk_at dksX0_best_1 5 rfl rfl)
theorem dX0_best_29 : decode cX0_best 29 = .ok (.iconst (-1), 1) := dk_2 (dk_at dksX0_best_1 6 rfl rfl)
theorem dX0_best_30 : decode cX0_best 30 = .ok (.istore_n 3, 1) := dk_62 (dk_at dksX0_best_1 7 rfl rfl)
theorem dX0_best_31 : decode cX0_best 31 = .ok (.iconst 0, 1) := dk_3 (dk_at dksX0_best_1 8 rfl rfl)
theorem dX0_best_32 : decode cX0_best 32 = .ok (.istore 4, 2) := dk_54 4 (dk_at dksX0_best_1 9 rfl rfl)
theorem dX0_best_34 : decode cX0_best 34 = .ok (.iconst 0, 1) := dk_3 (dk_at dksX0_best_1 11 rfl rfl)
theorem dX0_best_35 : decode cX0_best 35 = .ok (.istore 5, 2) := dk_54 5 (dk_at dksX0_best_1 12 rfl rfl)
theorem dX0_best_37 : decode cX0_best 37 = .ok (.iload 5, 2) := dk_21 5 (dk_at dksX0_best_1 14 rfl rfl)
theorem dX0_best_39 : decode cX0_best 39 = .ok (.bipush 7, 2) := dk_16 7 (dk_at dksX0_best_1 16 rfl rfl)
theorem dX0_best_41 : decode cX0_best 41 = .ok (.if_icmp .gt 49, 3) := dk_163 0 49 (dk_at dksX0_best_1 18 rfl rfl)
theorem dX0_best_44 : decode cX0_best 44 = .ok (.aload_n 0, 1) := dk_42 (dk_at dksX0_best_1 21 rfl rfl)
theorem dX0_best_45 : decode cX0_best 45 = .ok (.aload_n 0, 1) := dk_42 (dk_at dksX0_best_1 22 rfl rfl)
theorem dX0_best_46 : decode cX0_best 46 = .ok (.getfield 15, 3) := dk_180 0 15 (dk_at dksX0_best_2 0 rfl rfl)
theorem dX0_best_49 : decode cX0_best 49 = .ok (.iload_n 1, 1) := dk_27 (dk_at dksX0_best_2 3 rfl rfl)
theorem dX0_best_50 : decode cX0_best 50 = .ok (.aaload, 1) := dk_50 (dk_at dksX0_best_2 4 rfl rfl)
theorem dX0_best_51 : decode cX0_best 51 = .ok (.iload 5, 2) := dk_21 5 (dk_at dksX0_best_2 5 rfl rfl)
theorem dX0_best_53 : decode cX0_best 53 = .ok (.invokevirtual 284, 3) := dk_182 1 28 (dk_at dksX0_best_2 7 rfl rfl)
theorem dX0_best_56 : decode cX0_best 56 = .ok (.istore 6, 2) := dk_54 6 (dk_at dksX0_best_2 10 rfl rfl)
theorem dX0_best_58 : decode cX0_best 58 = .ok (.iload 6, 2) := dk_21 6 (dk_at dksX0_best_2 12 rfl rfl)
theorem dX0_best_60 : decode cX0_best 60 = .ok (.ifCond .lt 24, 3) := dk_155 0 24 (dk_at dksX0_best_2 14 rfl rfl)
theorem dX0_best_63 : decode cX0_best 63 = .ok (.iload_n 3, 1) := dk_29 (dk_at dksX0_best_2 17 rfl rfl)
theorem dX0_best_64 : decode cX0_best 64 = .ok (.ifCond .lt 13, 3) := dk_155 0 13 (dk_at dksX0_best_2 18 rfl rfl)
theorem dX0_best_67 : decode cX0_best 67 = .ok (.iload 6, 2) := dk_21 6 (dk_at dksX0_best_2 21 rfl rfl)
theorem dX0_best_69 : decode cX0_best 69 = .ok (.iload 4, 2) := dk_21 4 (dk_at dksX0_best_3 0 rfl rfl)
theorem dX0_best_71 : decode cX0_best 71 = .ok (.if_icmp .lt 6, 3) := dk_161 0 6 (dk_at dksX0_best_3 2 rfl rfl)
theorem dX0_best_74 : decode cX0_best 74 = .ok (.goto 10, 3) := dk_167 0 10 (dk_at dksX0_best_3 5 rfl rfl)
theorem dX0_best_77 : decode cX0_best 77 = .ok (.iload 5, 2) := dk_21 5 (dk_at dksX0_best_3 8 rfl rfl)
theorem dX0_best_79 : decode cX0_best 79 = .ok (.istore_n 3, 1) := dk_62 (dk_at dksX0_best_3 10 rfl rfl)
theorem dX0_best_80 : decode cX0_best 80 = .ok (.iload 6, 2) := dk_21 6 (dk_at dksX0_best_3 11 rfl rfl)
theorem dX0_best_82 : decode cX0_best 82 = .ok (.istore 4, 2) := dk_54 4 (dk_at dksX0_best_3 13 rfl rfl)
theorem dX0_best_84 : decode cX0_best 84 = .ok (.iinc 5 1, 3) := dk_132 5 1 (dk_at dksX0_best_3 15 rfl rfl)
theorem dX0_best_87 : decode cX0_best 87 = .ok (.goto (-50), 3) := dk_167 255 206 (dk_at dksX0_best_3 18 rfl rfl)
theorem dX0_best_90 : decode cX0_best 90 = .ok (.iload_n 2, 1) := dk_28 (dk_at dksX0_best_3 21 rfl rfl)
theorem dX0_best_91 : decode cX0_best 91 = .ok (.ifCond .ne 7, 3) := dk_154 0 7 (dk_at dksX0_best_4 0 rfl rfl)
theorem dX0_best_94 : decode cX0_best 94 = .ok (.iload_n 3, 1) := dk_29 (dk_at dksX0_best_4 3 rfl rfl)
theorem dX0_best_95 : decode cX0_best 95 = .ok (.goto 5, 3) := dk_167 0 5 (dk_at dksX0_best_4 4 rfl rfl)
theorem dX0_best_98 : decode cX0_best 98 = .ok (.iload 4, 2) := dk_21 4 (dk_at dksX0_best_4 7 rfl rfl)
theorem dX0_best_100 : decode cX0_best 100 = .ok (.ireturn, 1) := dk_172 (dk_at dksX0_best_4 9 rfl rfl)
abbrev cX0_differs : ByteArray := prog_1_method_35_code
def yX0_differs : MethodName := ⟨RX0, "differs", "(LHeadReckons$Head;I)I"⟩
def dkwX0_differs_5 : List UInt8 := [167, 255, 148, 29, 172]
abbrev dktX0_differs_5 : List UInt8 := dkwX0_differs_5 ++ []
def dkwX0_differs_4 : List UInt8 := [180, 0, 163, 42, 180, 0, 43, 21, 4, 50, 180, 1, 9, 100, 184, 0, 196, 96, 62, 132, 4, 1]
abbrev dktX0_differs_4 : List UInt8 := dkwX0_differs_4 ++ dktX0_differs_5
def dkwX0_differs_3 : List UInt8 := [180, 0, 43, 21, 4, 50, 180, 1, 6, 182, 0, 150, 154, 0, 5, 2, 172, 29, 42, 180, 0, 37]
abbrev dktX0_differs_3 : List UInt8 := dkwX0_differs_3 ++ dktX0_differs_4
def dkwX0_differs_2 : List UInt8 := [167, 0, 4, 28, 54, 5, 42, 180, 0, 37, 43, 21, 5, 42, 180, 0, 43, 21, 4, 50, 180, 1, 3, 42]
abbrev dktX0_differs_2 : List UInt8 := dkwX0_differs_2 ++ dktX0_differs_3
def dkwX0_differs_1 : List UInt8 := [180, 0, 43, 21, 4, 50, 180, 1, 3, 42, 180, 0, 43, 21, 4, 50, 180, 1, 6, 182, 0, 207]
abbrev dktX0_differs_1 : List UInt8 := dkwX0_differs_1 ++ dktX0_differs_2
def dkwX0_differs_0 : List UInt8 := [3, 62, 3, 54, 4, 21, 4, 42, 180, 0, 231, 162, 0, 105, 28, 16, 7, 160, 0, 31, 42, 43, 42]
abbrev dktX0_differs_0 : List UInt8 := dkwX0_differs_0 ++ dktX0_differs_1
theorem dksX0_differs_0 : cX0_differs.data.toList.drop 0 = dktX0_differs_0 := by decide +kernel
theorem dksX0_differs_1 : cX0_differs.data.toList.drop 23 = dktX0_differs_1 := dk_seg dksX0_differs_0 23 rfl rfl
theorem dksX0_differs_2 : cX0_differs.data.toList.drop 45 = dktX0_differs_2 := dk_seg dksX0_differs_1 22 rfl rfl
theorem dksX0_differs_3 : cX0_differs.data.toList.drop 69 = dktX0_differs_3 := dk_seg dksX0_differs_2 24 rfl rfl
theorem dksX0_differs_4 : cX0_differs.data.toList.drop 91 = dktX0_differs_4 := dk_seg dksX0_differs_3 22 rfl rfl
theorem dksX0_differs_5 : cX0_differs.data.toList.drop 113 = dktX0_differs_5 := dk_seg dksX0_differs_4 22 rfl rfl
theorem dX0_differs_0 : decode cX0_differs 0 = .ok (.iconst 0, 1) := dk_3 (dk_at dksX0_differs_0 0 rfl rfl)
theorem dX0_differs_1 : decode cX0_differs 1 = .ok (.istore_n 3, 1) := dk_62 (dk_at dksX0_differs_0 1 rfl rfl)
theorem dX0_differs_2 : decode cX0_differs 2 = .ok (.iconst 0, 1) := dk_3 (dk_at dksX0_differs_0 2 rfl rfl)
theorem dX0_differs_3 : decode cX0_differs 3 = .ok (.istore 4, 2) := dk_54 4 (dk_at dksX0_differs_0 3 rfl rfl)
theorem dX0_differs_5 : decode cX0_differs 5 = .ok (.iload 4, 2) := dk_21 4 (dk_at dksX0_differs_0 5 rfl rfl)
theorem dX0_differs_7 : decode cX0_differs 7 = .ok (.aload_n 0, 1) := dk_42 (dk_at dksX0_differs_0 7 rfl rfl)
theorem dX0_differs_8 : decode cX0_differs 8 = .ok (.getfield 231, 3) := dk_180 0 231 (dk_at dksX0_differs_0 8 rfl rfl)
theorem dX0_differs_11 : decode cX0_differs 11 = .ok (.if_icmp .ge 105, 3) := dk_162 0 105 (dk_at dksX0_differs_0 11 rfl rfl)
theorem dX0_differs_14 : decode cX0_differs 14 = .ok (.iload_n 2, 1) := dk_28 (dk_at dksX0_differs_0 14 rfl rfl)
theorem dX0_differs_15 : decode cX0_differs 15 = .ok (.bipush 7, 2) := dk_16 7 (dk_at dksX0_differs_0 15 rfl rfl)
theorem dX0_differs_17 : decode cX0_differs 17 = .ok (.if_icmp .ne 31, 3) := dk_160 0 31 (dk_at dksX0_differs_0 17 rfl rfl)
theorem dX0_differs_20 : decode cX0_differs 20 = .ok (.aload_n 0, 1) := dk_42 (dk_at dksX0_differs_0 20 rfl rfl)
theorem dX0_differs_21 : decode cX0_differs 21 = .ok (.aload_n 1, 1) := dk_43 (dk_at dksX0_differs_0 21 rfl rfl)
theorem dX0_differs_22 : decode cX0_differs 22 = .ok (.aload_n 0, 1) := dk_42 (dk_at dksX0_differs_0 22 rfl rfl)
theorem dX0_differs_23 : decode cX0_differs 23 = .ok (.getfield 43, 3) := dk_180 0 43 (dk_at dksX0_differs_1 0 rfl rfl)
theorem dX0_differs_26 : decode cX0_differs 26 = .ok (.iload 4, 2) := dk_21 4 (dk_at dksX0_differs_1 3 rfl rfl)
theorem dX0_differs_28 : decode cX0_differs 28 = .ok (.aaload, 1) := dk_50 (dk_at dksX0_differs_1 5 rfl rfl)
theorem dX0_differs_29 : decode cX0_differs 29 = .ok (.getfield 259, 3) := dk_180 1 3 (dk_at dksX0_differs_1 6 rfl rfl)
theorem dX0_differs_32 : decode cX0_differs 32 = .ok (.aload_n 0, 1) := dk_42 (dk_at dksX0_differs_1 9 rfl rfl)
theorem dX0_differs_33 : decode cX0_differs 33 = .ok (.getfield 43, 3) := dk_180 0 43 (dk_at dksX0_differs_1 10 rfl rfl)
theorem dX0_differs_36 : decode cX0_differs 36 = .ok (.iload 4, 2) := dk_21 4 (dk_at dksX0_differs_1 13 rfl rfl)
theorem dX0_differs_38 : decode cX0_differs 38 = .ok (.aaload, 1) := dk_50 (dk_at dksX0_differs_1 15 rfl rfl)
theorem dX0_differs_39 : decode cX0_differs 39 = .ok (.getfield 262, 3) := dk_180 1 6 (dk_at dksX0_differs_1 16 rfl rfl)
theorem dX0_differs_42 : decode cX0_differs 42 = .ok (.invokevirtual 207, 3) := dk_182 0 207 (dk_at dksX0_differs_1 19 rfl rfl)
theorem dX0_differs_45 : decode cX0_differs 45 = .ok (.goto 4, 3) := dk_167 0 4 (dk_at dksX0_differs_2 0 rfl rfl)
theorem dX0_differs_48 : decode cX0_differs 48 = .ok (.iload_n 2, 1) := dk_28 (dk_at dksX0_differs_2 3 rfl rfl)
theorem dX0_differs_49 : decode cX0_differs 49 = .ok (.istore 5, 2) := dk_54 5 (dk_at dksX0_differs_2 4 rfl rfl)
theorem dX0_differs_51 : decode cX0_differs 51 = .ok (.aload_n 0, 1) := dk_42 (dk_at dksX0_differs_2 6 rfl rfl)
theorem dX0_differs_52 : decode cX0_differs 52 = .ok (.getfield 37, 3) := dk_180 0 37 (dk_at dksX0_differs_2 7 rfl rfl)
theorem dX0_differs_55 : decode cX0_differs 55 = .ok (.aload_n 1, 1) := dk_43 (dk_at dksX0_differs_2 10 rfl rfl)
theorem dX0_differs_56 : decode cX0_differs 56 = .ok (.iload 5, 2) := dk_21 5 (dk_at dksX0_differs_2 11 rfl rfl)
theorem dX0_differs_58 : decode cX0_differs 58 = .ok (.aload_n 0, 1) := dk_42 (dk_at dksX0_differs_2 13 rfl rfl)
theorem dX0_differs_59 : decode cX0_differs 59 = .ok (.getfield 43, 3) := dk_180 0 43 (dk_at dksX0_differs_2 14 rfl rfl)
theorem dX0_differs_62 : decode cX0_differs 62 = .ok (.iload 4, 2) := dk_21 4 (dk_at dksX0_differs_2 17 rfl rfl)
theorem dX0_differs_64 : decode cX0_differs 64 = .ok (.aaload, 1) := dk_50 (dk_at dksX0_differs_2 19 rfl rfl)
theorem dX0_differs_65 : decode cX0_differs 65 = .ok (.getfield 259, 3) := dk_180 1 3 (dk_at dksX0_differs_2 20 rfl rfl)
theorem dX0_differs_68 : decode cX0_differs 68 = .ok (.aload_n 0, 1) := dk_42 (dk_at dksX0_differs_2 23 rfl rfl)
theorem dX0_differs_69 : decode cX0_differs 69 = .ok (.getfield 43, 3) := dk_180 0 43 (dk_at dksX0_differs_3 0 rfl rfl)
theorem dX0_differs_72 : decode cX0_differs 72 = .ok (.iload 4, 2) := dk_21 4 (dk_at dksX0_differs_3 3 rfl rfl)
theorem dX0_differs_74 : decode cX0_differs 74 = .ok (.aaload, 1) := dk_50 (dk_at dksX0_differs_3 5 rfl rfl)
theorem dX0_differs_75 : decode cX0_differs 75 = .ok (.getfield 262, 3) := dk_180 1 6 (dk_at dksX0_differs_3 6 rfl rfl)
theorem dX0_differs_78 : decode cX0_differs 78 = .ok (.invokevirtual 150, 3) := dk_182 0 150 (dk_at dksX0_differs_3 9 rfl rfl)
theorem dX0_differs_81 : decode cX0_differs 81 = .ok (.ifCond .ne 5, 3) := dk_154 0 5 (dk_at dksX0_differs_3 12 rfl rfl)
theorem dX0_differs_84 : decode cX0_differs 84 = .ok (.iconst (-1), 1) := dk_2 (dk_at dksX0_differs_3 15 rfl rfl)
theorem dX0_differs_85 : decode cX0_differs 85 = .ok (.ireturn, 1) := dk_172 (dk_at dksX0_differs_3 16 rfl rfl)
theorem dX0_differs_86 : decode cX0_differs 86 = .ok (.iload_n 3, 1) := dk_29 (dk_at dksX0_differs_3 17 rfl rfl)
theorem dX0_differs_87 : decode cX0_differs 87 = .ok (.aload_n 0, 1) := dk_42 (dk_at dksX0_differs_3 18 rfl rfl)
theorem dX0_differs_88 : decode cX0_differs 88 = .ok (.getfield 37, 3) := dk_180 0 37 (dk_at dksX0_differs_3 19 rfl rfl)
theorem dX0_differs_91 : decode cX0_differs 91 = .ok (.getfield 163, 3) := dk_180 0 163 (dk_at dksX0_differs_4 0 rfl rfl)
theorem dX0_differs_94 : decode cX0_differs 94 = .ok (.aload_n 0, 1) := dk_42 (dk_at dksX0_differs_4 3 rfl rfl)
theorem dX0_differs_95 : decode cX0_differs 95 = .ok (.getfield 43, 3) := dk_180 0 43 (dk_at dksX0_differs_4 4 rfl rfl)
theorem dX0_differs_98 : decode cX0_differs 98 = .ok (.iload 4, 2) := dk_21 4 (dk_at dksX0_differs_4 7 rfl rfl)
theorem dX0_differs_100 : decode cX0_differs 100 = .ok (.aaload, 1) := dk_50 (dk_at dksX0_differs_4 9 rfl rfl)
theorem dX0_differs_101 : decode cX0_differs 101 = .ok (.getfield 265, 3) := dk_180 1 9 (dk_at dksX0_differs_4 10 rfl rfl)
theorem dX0_differs_104 : decode cX0_differs 104 = .ok (.isub, 1) := dk_100 (dk_at dksX0_differs_4 13 rfl rfl)
theorem dX0_differs_105 : decode cX0_differs 105 = .ok (.invokestatic 196, 3) := dk_184 0 196 (dk_at dksX0_differs_4 14 rfl rfl)
theorem dX0_differs_108 : decode cX0_differs 108 = .ok (.iadd, 1) := dk_96 (dk_at dksX0_differs_4 17 rfl rfl)
theorem dX0_differs_109 : decode cX0_differs 109 = .ok (.istore_n 3, 1) := dk_62 (dk_at dksX0_differs_4 18 rfl rfl)
theorem dX0_differs_110 : decode cX0_differs 110 = .ok (.iinc 4 1, 3) := dk_132 4 1 (dk_at dksX0_differs_4 19 rfl rfl)
theorem dX0_differs_113 : decode cX0_differs 113 = .ok (.goto (-108), 3) := dk_167 255 148 (dk_at dksX0_differs_5 0 rfl rfl)
theorem dX0_differs_116 : decode cX0_differs 116 = .ok (.iload_n 3, 1) := dk_29 (dk_at dksX0_differs_5 3 rfl rfl)
theorem dX0_differs_117 : decode cX0_differs 117 = .ok (.ireturn, 1) := dk_172 (dk_at dksX0_differs_5 4 rfl rfl)
abbrev cX0_slip : ByteArray := prog_1_method_37_code
def yX0_slip : MethodName := ⟨RX0, "slip", "(III)I"⟩
def dkwX0_slip_6 : List UInt8 := [132, 7, 1, 167, 255, 209, 29, 154, 0, 8, 21, 5, 167, 0, 5, 21, 6, 172]
abbrev dktX0_slip_6 : List UInt8 := dkwX0_slip_6 ++ []
def dkwX0_slip_5 : List UInt8 := [182, 1, 12, 182, 1, 16, 154, 0, 6, 167, 0, 15, 21, 6, 154, 0, 7, 21, 7, 54, 5, 132, 6, 1]
abbrev dktX0_slip_5 : List UInt8 := dkwX0_slip_5 ++ dktX0_slip_6
def dkwX0_slip_4 : List UInt8 := [3, 54, 7, 21, 7, 42, 180, 0, 37, 180, 0, 169, 162, 0, 41, 42, 180, 0, 37, 21, 7, 25, 4]
abbrev dktX0_slip_4 : List UInt8 := dkwX0_slip_4 ++ dktX0_slip_5
def dkwX0_slip_3 : List UInt8 := [180, 1, 3, 25, 4, 180, 1, 6, 182, 0, 150, 154, 0, 6, 16, 254, 172, 16, 254, 54, 5, 3, 54, 6]
abbrev dktX0_slip_3 : List UInt8 := dkwX0_slip_3 ++ dktX0_slip_4
def dkwX0_slip_2 : List UInt8 := [50, 58, 4, 42, 180, 0, 37, 42, 180, 0, 15, 27, 16, 10, 108, 50, 27, 16, 10, 112, 25, 4]
abbrev dktX0_slip_2 : List UInt8 := dkwX0_slip_2 ++ dktX0_slip_3
def dkwX0_slip_1 : List UInt8 := [153, 0, 17, 42, 180, 0, 43, 28, 50, 182, 1, 12, 9, 148, 154, 0, 5, 2, 172, 42, 180, 0, 43, 28]
abbrev dktX0_slip_1 : List UInt8 := dkwX0_slip_1 ++ dktX0_slip_2
def dkwX0_slip_0 : List UInt8 := [42, 27, 182, 0, 154, 153, 0, 34, 42, 28, 182, 1, 0, 153, 0, 26, 29, 3, 4, 184, 0, 73]
abbrev dktX0_slip_0 : List UInt8 := dkwX0_slip_0 ++ dktX0_slip_1
theorem dksX0_slip_0 : cX0_slip.data.toList.drop 0 = dktX0_slip_0 := by decide +kernel
theorem dksX0_slip_1 : cX0_slip.data.toList.drop 22 = dktX0_slip_1 := dk_seg dksX0_slip_0 22 rfl rfl
theorem dksX0_slip_2 : cX0_slip.data.toList.drop 46 = dktX0_slip_2 := dk_seg dksX0_slip_1 24 rfl rfl
theorem dksX0_slip_3 : cX0_slip.data.toList.drop 68 = dktX0_slip_3 := dk_seg dksX0_slip_2 22 rfl rfl
theorem dksX0_slip_4 : cX0_slip.data.toList.drop 92 = dktX0_slip_4 := dk_seg dksX0_slip_3 24 rfl rfl
theorem dksX0_slip_5 : cX0_slip.data.toList.drop 115 = dktX0_slip_5 := dk_seg dksX0_slip_4 23 rfl rfl
theorem dksX0_slip_6 : cX0_slip.data.toList.drop 139 = dktX0_slip_6 := dk_seg dksX0_slip_5 24 rfl rfl
theorem dX0_slip_0 : decode cX0_slip 0 = .ok (.aload_n 0, 1) := dk_42 (dk_at dksX0_slip_0 0 rfl rfl)
theorem dX0_slip_1 : decode cX0_slip 1 = .ok (.iload_n 1, 1) := dk_27 (dk_at dksX0_slip_0 1 rfl rfl)
theorem dX0_slip_2 : decode cX0_slip 2 = .ok (.invokevirtual 154, 3) := dk_182 0 154 (dk_at dksX0_slip_0 2 rfl rfl)
theorem dX0_slip_5 : decode cX0_slip 5 = .ok (.ifCond .eq 34, 3) := dk_153 0 34 (dk_at dksX0_slip_0 5 rfl rfl)
theorem dX0_slip_8 : decode cX0_slip 8 = .ok (.aload_n 0, 1) := dk_42 (dk_at dksX0_slip_0 8 rfl rfl)
theorem dX0_slip_9 : decode cX0_slip 9 = .ok (.iload_n 2, 1) := dk_28 (dk_at dksX0_slip_0 9 rfl rfl)
theorem dX0_slip_10 : decode cX0_slip 10 = .ok (.invokevirtual 256, 3) := dk_182 1 0 (dk_at dksX0_slip_0 10 rfl rfl)
theorem dX0_slip_13 : decode cX0_slip 13 = .ok (.ifCond .eq 26, 3) := dk_153 0 26 (dk_at dksX0_slip_0 13 rfl rfl)
theorem dX0_slip_16 : decode cX0_slip 16 = .ok (.iload_n 3, 1) := dk_29 (dk_at dksX0_slip_0 16 rfl rfl)
theorem dX0_slip_17 : decode cX0_slip 17 = .ok (.iconst 0, 1) := dk_3 (dk_at dksX0_slip_0 17 rfl rfl)
theorem dX0_slip_18 : decode cX0_slip 18 = .ok (.iconst 1, 1) := dk_4 (dk_at dksX0_slip_0 18 rfl rfl)
theorem dX0_slip_19 : decode cX0_slip 19 = .ok (.invokestatic 73, 3) := dk_184 0 73 (dk_at dksX0_slip_0 19 rfl rfl)
theorem dX0_slip_22 : decode cX0_slip 22 = .ok (.ifCond .eq 17, 3) := dk_153 0 17 (dk_at dksX0_slip_1 0 rfl rfl)
theorem dX0_slip_25 : decode cX0_slip 25 = .ok (.aload_n 0, 1) := dk_42 (dk_at dksX0_slip_1 3 rfl rfl)
theorem dX0_slip_26 : decode cX0_slip 26 = .ok (.getfield 43, 3) := dk_180 0 43 (dk_at dksX0_slip_1 4 rfl rfl)
theorem dX0_slip_29 : decode cX0_slip 29 = .ok (.iload_n 2, 1) := dk_28 (dk_at dksX0_slip_1 7 rfl rfl)
theorem dX0_slip_30 : decode cX0_slip 30 = .ok (.aaload, 1) := dk_50 (dk_at dksX0_slip_1 8 rfl rfl)
theorem dX0_slip_31 : decode cX0_slip 31 = .ok (.invokevirtual 268, 3) := dk_182 1 12 (dk_at dksX0_slip_1 9 rfl rfl)
theorem dX0_slip_34 : decode cX0_slip 34 = .ok (.lconst 0, 1) := dk_9 (dk_at dksX0_slip_1 12 rfl rfl)
theorem dX0_slip_35 : decode cX0_slip 35 = .ok (.lcmp, 1) := dk_148 (dk_at dksX0_slip_1 13 rfl rfl)
theorem dX0_slip_36 : decode cX0_slip 36 = .ok (.ifCond .ne 5, 3) := dk_154 0 5 (dk_at dksX0_slip_1 14 rfl rfl)
theorem dX0_slip_39 : decode cX0_slip 39 = .ok (.iconst (-1), 1) := dk_2 (dk_at dksX0_slip_1 17 rfl rfl)
theorem dX0_slip_40 : decode cX0_slip 40 = .ok (.ireturn, 1) := dk_172 (dk_at dksX0_slip_1 18 rfl rfl)
theorem dX0_slip_41 : decode cX0_slip 41 = .ok (.aload_n 0, 1) := dk_42 (dk_at dksX0_slip_1 19 rfl rfl)
theorem dX0_slip_42 : decode cX0_slip 42 = .ok (.getfield 43, 3) := dk_180 0 43 (dk_at dksX0_slip_1 20 rfl rfl)
theorem dX0_slip_45 : decode cX0_slip 45 = .ok (.iload_n 2, 1) := dk_28 (dk_at dksX0_slip_1 23 rfl rfl)
theorem dX0_slip_46 : decode cX0_slip 46 = .ok (.aaload, 1) := dk_50 (dk_at dksX0_slip_2 0 rfl rfl)
theorem dX0_slip_47 : decode cX0_slip 47 = .ok (.astore 4, 2) := dk_58 4 (dk_at dksX0_slip_2 1 rfl rfl)
theorem dX0_slip_49 : decode cX0_slip 49 = .ok (.aload_n 0, 1) := dk_42 (dk_at dksX0_slip_2 3 rfl rfl)
theorem dX0_slip_50 : decode cX0_slip 50 = .ok (.getfield 37, 3) := dk_180 0 37 (dk_at dksX0_slip_2 4 rfl rfl)
theorem dX0_slip_53 : decode cX0_slip 53 = .ok (.aload_n 0, 1) := dk_42 (dk_at dksX0_slip_2 7 rfl rfl)
theorem dX0_slip_54 : decode cX0_slip 54 = .ok (.getfield 15, 3) := dk_180 0 15 (dk_at dksX0_slip_2 8 rfl rfl)
theorem dX0_slip_57 : decode cX0_slip 57 = .ok (.iload_n 1, 1) := dk_27 (dk_at dksX0_slip_2 11 rfl rfl)
theorem dX0_slip_58 : decode cX0_slip 58 = .ok (.bipush 10, 2) := dk_16 10 (dk_at dksX0_slip_2 12 rfl rfl)
theorem dX0_slip_60 : decode cX0_slip 60 = .ok (.idiv, 1) := dk_108 (dk_at dksX0_slip_2 14 rfl rfl)
theorem dX0_slip_61 : decode cX0_slip 61 = .ok (.aaload, 1) := dk_50 (dk_at dksX0_slip_2 15 rfl rfl)
theorem dX0_slip_62 : decode cX0_slip 62 = .ok (.iload_n 1, 1) := dk_27 (dk_at dksX0_slip_2 16 rfl rfl)
theorem dX0_slip_63 : decode cX0_slip 63 = .ok (.bipush 10, 2) := dk_16 10 (dk_at dksX0_slip_2 17 rfl rfl)
theorem dX0_slip_65 : decode cX0_slip 65 = .ok (.irem, 1) := dk_112 (dk_at dksX0_slip_2 19 rfl rfl)
theorem dX0_slip_66 : decode cX0_slip 66 = .ok (.aload 4, 2) := dk_25 4 (dk_at dksX0_slip_2 20 rfl rfl)
theorem dX0_slip_68 : decode cX0_slip 68 = .ok (.getfield 259, 3) := dk_180 1 3 (dk_at dksX0_slip_3 0 rfl rfl)
theorem dX0_slip_71 : decode cX0_slip 71 = .ok (.aload 4, 2) := dk_25 4 (dk_at dksX0_slip_3 3 rfl rfl)
theorem dX0_slip_73 : decode cX0_slip 73 = .ok (.getfield 262, 3) := dk_180 1 6 (dk_at dksX0_slip_3 5 rfl rfl)
theorem dX0_slip_76 : decode cX0_slip 76 = .ok (.invokevirtual 150, 3) := dk_182 0 150 (dk_at dksX0_slip_3 8 rfl rfl)
theorem dX0_slip_79 : decode cX0_slip 79 = .ok (.ifCond .ne 6, 3) := dk_154 0 6 (dk_at dksX0_slip_3 11 rfl rfl)
theorem dX0_slip_82 : decode cX0_slip 82 = .ok (.bipush (-2), 2) := dk_16 254 (dk_at dksX0_slip_3 14 rfl rfl)
theorem dX0_slip_84 : decode cX0_slip 84 = .ok (.ireturn, 1) := dk_172 (dk_at dksX0_slip_3 16 rfl rfl)
theorem dX0_slip_85 : decode cX0_slip 85 = .ok (.bipush (-2), 2) := dk_16 254 (dk_at dksX0_slip_3 17 rfl rfl)
theorem dX0_slip_87 : decode cX0_slip 87 = .ok (.istore 5, 2) := dk_54 5 (dk_at dksX0_slip_3 19 rfl rfl)
theorem dX0_slip_89 : decode cX0_slip 89 = .ok (.iconst 0, 1) := dk_3 (dk_at dksX0_slip_3 21 rfl rfl)
theorem dX0_slip_90 : decode cX0_slip 90 = .ok (.istore 6, 2) := dk_54 6 (dk_at dksX0_slip_3 22 rfl rfl)
theorem dX0_slip_92 : decode cX0_slip 92 = .ok (.iconst 0, 1) := dk_3 (dk_at dksX0_slip_4 0 rfl rfl)
theorem dX0_slip_93 : decode cX0_slip 93 = .ok (.istore 7, 2) := dk_54 7 (dk_at dksX0_slip_4 1 rfl rfl)
theorem dX0_slip_95 : decode cX0_slip 95 = .ok (.iload 7, 2) := dk_21 7 (dk_at dksX0_slip_4 3 rfl rfl)
theorem dX0_slip_97 : decode cX0_slip 97 = .ok (.aload_n 0, 1) := dk_42 (dk_at dksX0_slip_4 5 rfl rfl)
theorem dX0_slip_98 : decode cX0_slip 98 = .ok (.getfield 37, 3) := dk_180 0 37 (dk_at dksX0_slip_4 6 rfl rfl)
theorem dX0_slip_101 : decode cX0_slip 101 = .ok (.getfield 169, 3) := dk_180 0 169 (dk_at dksX0_slip_4 9 rfl rfl)
theorem dX0_slip_104 : decode cX0_slip 104 = .ok (.if_icmp .ge 41, 3) := dk_162 0 41 (dk_at dksX0_slip_4 12 rfl rfl)
theorem dX0_slip_107 : decode cX0_slip 107 = .ok (.aload_n 0, 1) := dk_42 (dk_at dksX0_slip_4 15 rfl rfl)
theorem dX0_slip_108 : decode cX0_slip 108 = .ok (.getfield 37, 3) := dk_180 0 37 (dk_at dksX0_slip_4 16 rfl rfl)
theorem dX0_slip_111 : decode cX0_slip 111 = .ok (.iload 7, 2) := dk_21 7 (dk_at dksX0_slip_4 19 rfl rfl)
theorem dX0_slip_113 : decode cX0_slip 113 = .ok (.aload 4, 2) := dk_25 4 (dk_at dksX0_slip_4 21 rfl rfl)
theorem dX0_slip_115 : decode cX0_slip 115 = .ok (.invokevirtual 268, 3) := dk_182 1 12 (dk_at dksX0_slip_5 0 rfl rfl)
theorem dX0_slip_118 : decode cX0_slip 118 = .ok (.invokevirtual 272, 3) := dk_182 1 16 (dk_at dksX0_slip_5 3 rfl rfl)
theorem dX0_slip_121 : decode cX0_slip 121 = .ok (.ifCond .ne 6, 3) := dk_154 0 6 (dk_at dksX0_slip_5 6 rfl rfl)
theorem dX0_slip_124 : decode cX0_slip 124 = .ok (.goto 15, 3) := dk_167 0 15 (dk_at dksX0_slip_5 9 rfl rfl)
theorem dX0_slip_127 : decode cX0_slip 127 = .ok (.iload 6, 2) := dk_21 6 (dk_at dksX0_slip_5 12 rfl rfl)
theorem dX0_slip_129 : decode cX0_slip 129 = .ok (.ifCond .ne 7, 3) := dk_154 0 7 (dk_at dksX0_slip_5 14 rfl rfl)
theorem dX0_slip_132 : decode cX0_slip 132 = .ok (.iload 7, 2) := dk_21 7 (dk_at dksX0_slip_5 17 rfl rfl)
theorem dX0_slip_134 : decode cX0_slip 134 = .ok (.istore 5, 2) := dk_54 5 (dk_at dksX0_slip_5 19 rfl rfl)
theorem dX0_slip_136 : decode cX0_slip 136 = .ok (.iinc 6 1, 3) := dk_132 6 1 (dk_at dksX0_slip_5 21 rfl rfl)
theorem dX0_slip_139 : decode cX0_slip 139 = .ok (.iinc 7 1, 3) := dk_132 7 1 (dk_at dksX0_slip_6 0 rfl rfl)
theorem dX0_slip_142 : decode cX0_slip 142 = .ok (.goto (-47), 3) := dk_167 255 209 (dk_at dksX0_slip_6 3 rfl rfl)
theorem dX0_slip_145 : decode cX0_slip 145 = .ok (.iload_n 3, 1) := dk_29 (dk_at dksX0_slip_6 6 rfl rfl)
theorem dX0_slip_146 : decode cX0_slip 146 = .ok (.ifCond .ne 8, 3) := dk_154 0 8 (dk_at dksX0_slip_6 7 rfl rfl)
theorem dX0_slip_149 : decode cX0_slip 149 = .ok (.iload 5, 2) := dk_21 5 (dk_at dksX0_slip_6 10 rfl rfl)
theorem dX0_slip_151 : decode cX0_slip 151 = .ok (.goto 5, 3) := dk_167 0 5 (dk_at dksX0_slip_6 12 rfl rfl)
theorem dX0_slip_154 : decode cX0_slip 154 = .ok (.iload 6, 2) := dk_21 6 (dk_at dksX0_slip_6 15 rfl rfl)
theorem dX0_slip_156 : decode cX0_slip 156 = .ok (.ireturn, 1) := dk_172 (dk_at dksX0_slip_6 17 rfl rfl)
abbrev cX0_suits : ByteArray := prog_1_method_38_code
def yX0_suits : MethodName := ⟨RX0, "suits", "(I)I"⟩
def dkwX0_suits_5 : List UInt8 := [167, 255, 160, 17, 3, 232, 28, 104, 42, 180, 0, 231, 108, 172]
abbrev dktX0_suits_5 : List UInt8 := dkwX0_suits_5 ++ []
def dkwX0_suits_4 : List UInt8 := [21, 4, 42, 180, 0, 37, 180, 0, 163, 5, 108, 163, 0, 7, 4, 167, 0, 4, 3, 96, 61, 132, 3, 1]
abbrev dktX0_suits_4 : List UInt8 := dkwX0_suits_4 ++ dktX0_suits_5
def dkwX0_suits_3 : List UInt8 := [4, 42, 180, 0, 43, 29, 50, 180, 1, 3, 42, 180, 0, 43, 29, 50, 180, 1, 6, 182, 0, 150, 87, 28]
abbrev dktX0_suits_3 : List UInt8 := dkwX0_suits_3 ++ dktX0_suits_4
def dkwX0_suits_2 : List UInt8 := [42, 180, 0, 43, 29, 50, 180, 1, 6, 182, 0, 223, 54, 4, 42, 180, 0, 37, 42, 180, 0, 15, 27, 50]
abbrev dktX0_suits_2 : List UInt8 := dkwX0_suits_2 ++ dktX0_suits_3
def dkwX0_suits_1 : List UInt8 := [29, 42, 180, 0, 231, 162, 0, 94, 42, 42, 180, 0, 15, 27, 50, 42, 180, 0, 43, 29, 50, 180, 1, 3]
abbrev dktX0_suits_1 : List UInt8 := dkwX0_suits_1 ++ dktX0_suits_2
def dkwX0_suits_0 : List UInt8 := [42, 27, 182, 0, 89, 154, 0, 5, 2, 172, 42, 180, 0, 231, 154, 0, 6, 16, 251, 172, 3, 61, 3, 62]
abbrev dktX0_suits_0 : List UInt8 := dkwX0_suits_0 ++ dktX0_suits_1
theorem dksX0_suits_0 : cX0_suits.data.toList.drop 0 = dktX0_suits_0 := by decide +kernel
theorem dksX0_suits_1 : cX0_suits.data.toList.drop 24 = dktX0_suits_1 := dk_seg dksX0_suits_0 24 rfl rfl
theorem dksX0_suits_2 : cX0_suits.data.toList.drop 48 = dktX0_suits_2 := dk_seg dksX0_suits_1 24 rfl rfl
theorem dksX0_suits_3 : cX0_suits.data.toList.drop 72 = dktX0_suits_3 := dk_seg dksX0_suits_2 24 rfl rfl
theorem dksX0_suits_4 : cX0_suits.data.toList.drop 96 = dktX0_suits_4 := dk_seg dksX0_suits_3 24 rfl rfl
theorem dksX0_suits_5 : cX0_suits.data.toList.drop 120 = dktX0_suits_5 := dk_seg dksX0_suits_4 24 rfl rfl
theorem dX0_suits_0 : decode cX0_suits 0 = .ok (.aload_n 0, 1) := dk_42 (dk_at dksX0_suits_0 0 rfl rfl)
theorem dX0_suits_1 : decode cX0_suits 1 = .ok (.iload_n 1, 1) := dk_27 (dk_at dksX0_suits_0 1 rfl rfl)
theorem dX0_suits_2 : decode cX0_suits 2 = .ok (.invokevirtual 89, 3) := dk_182 0 89 (dk_at dksX0_suits_0 2 rfl rfl)
theorem dX0_suits_5 : decode cX0_suits 5 = .ok (.ifCond .ne 5, 3) := dk_154 0 5 (dk_at dksX0_suits_0 5 rfl rfl)
theorem dX0_suits_8 : decode cX0_suits 8 = .ok (.iconst (-1), 1) := dk_2 (dk_at dksX0_suits_0 8 rfl rfl)
theorem dX0_suits_9 : decode cX0_suits 9 = .ok (.ireturn, 1) := dk_172 (dk_at dksX0_suits_0 9 rfl rfl)
theorem dX0_suits_10 : decode cX0_suits 10 = .ok (.aload_n 0, 1) := dk_42 (dk_at dksX0_suits_0 10 rfl rfl)
theorem dX0_suits_11 : decode cX0_suits 11 = .ok (.getfield 231, 3) := dk_180 0 231 (dk_at dksX0_suits_0 11 rfl rfl)
theorem dX0_suits_14 : decode cX0_suits 14 = .ok (.ifCond .ne 6, 3) := dk_154 0 6 (dk_at dksX0_suits_0 14 rfl rfl)
theorem dX0_suits_17 : decode cX0_suits 17 = .ok (.bipush (-5), 2) := dk_16 251 (dk_at dksX0_suits_0 17 rfl rfl)
theorem dX0_suits_19 : decode cX0_suits 19 = .ok (.ireturn, 1) := dk_172 (dk_at dksX0_suits_0 19 rfl rfl)
theorem dX0_suits_20 : decode cX0_suits 20 = .ok (.iconst 0, 1) := dk_3 (dk_at dksX0_suits_0 20 rfl rfl)
theorem dX0_suits_21 : decode cX0_suits 21 = .ok (.istore_n 2, 1) := dk_61 (dk_at dksX0_suits_0 21 rfl rfl)
theorem dX0_suits_22 : decode cX0_suits 22 = .ok (.iconst 0, 1) := dk_3 (dk_at dksX0_suits_0 22 rfl rfl)
theorem dX0_suits_23 : decode cX0_suits 23 = .ok (.istore_n 3, 1) := dk_62 (dk_at dksX0_suits_0 23 rfl rfl)
theorem dX0_suits_24 : decode cX0_suits 24 = .ok (.iload_n 3, 1) := dk_29 (dk_at dksX0_suits_1 0 rfl rfl)
theorem dX0_suits_25 : decode cX0_suits 25 = .ok (.aload_n 0, 1) := dk_42 (dk_at dksX0_suits_1 1 rfl rfl)
theorem dX0_suits_26 : decode cX0_suits 26 = .ok (.getfield 231, 3) := dk_180 0 231 (dk_at dksX0_suits_1 2 rfl rfl)
theorem dX0_suits_29 : decode cX0_suits 29 = .ok (.if_icmp .ge 94, 3) := dk_162 0 94 (dk_at dksX0_suits_1 5 rfl rfl)
theorem dX0_suits_32 : decode cX0_suits 32 = .ok (.aload_n 0, 1) := dk_42 (dk_at dksX0_suits_1 8 rfl rfl)
theorem dX0_suits_33 : decode cX0_suits 33 = .ok (.aload_n 0, 1) := dk_42 (dk_at dksX0_suits_1 9 rfl rfl)
theorem dX0_suits_34 : decode cX0_suits 34 = .ok (.getfield 15, 3) := dk_180 0 15 (dk_at dksX0_suits_1 10 rfl rfl)
theorem dX0_suits_37 : decode cX0_suits 37 = .ok (.iload_n 1, 1) := dk_27 (dk_at dksX0_suits_1 13 rfl rfl)
theorem dX0_suits_38 : decode cX0_suits 38 = .ok (.aaload, 1) := dk_50 (dk_at dksX0_suits_1 14 rfl rfl)
theorem dX0_suits_39 : decode cX0_suits 39 = .ok (.aload_n 0, 1) := dk_42 (dk_at dksX0_suits_1 15 rfl rfl)
theorem dX0_suits_40 : decode cX0_suits 40 = .ok (.getfield 43, 3) := dk_180 0 43 (dk_at dksX0_suits_1 16 rfl rfl)
theorem dX0_suits_43 : decode cX0_suits 43 = .ok (.iload_n 3, 1) := dk_29 (dk_at dksX0_suits_1 19 rfl rfl)
theorem dX0_suits_44 : decode cX0_suits 44 = .ok (.aaload, 1) := dk_50 (dk_at dksX0_suits_1 20 rfl rfl)
theorem dX0_suits_45 : decode cX0_suits 45 = .ok (.getfield 259, 3) := dk_180 1 3 (dk_at dksX0_suits_1 21 rfl rfl)
theorem dX0_suits_48 : decode cX0_suits 48 = .ok (.aload_n 0, 1) := dk_42 (dk_at dksX0_suits_2 0 rfl rfl)
theorem dX0_suits_49 : decode cX0_suits 49 = .ok (.getfield 43, 3) := dk_180 0 43 (dk_at dksX0_suits_2 1 rfl rfl)
theorem dX0_suits_52 : decode cX0_suits 52 = .ok (.iload_n 3, 1) := dk_29 (dk_at dksX0_suits_2 4 rfl rfl)
theorem dX0_suits_53 : decode cX0_suits 53 = .ok (.aaload, 1) := dk_50 (dk_at dksX0_suits_2 5 rfl rfl)
theorem dX0_suits_54 : decode cX0_suits 54 = .ok (.getfield 262, 3) := dk_180 1 6 (dk_at dksX0_suits_2 6 rfl rfl)
theorem dX0_suits_57 : decode cX0_suits 57 = .ok (.invokevirtual 223, 3) := dk_182 0 223 (dk_at dksX0_suits_2 9 rfl rfl)
theorem dX0_suits_60 : decode cX0_suits 60 = .ok (.istore 4, 2) := dk_54 4 (dk_at dksX0_suits_2 12 rfl rfl)
theorem dX0_suits_62 : decode cX0_suits 62 = .ok (.aload_n 0, 1) := dk_42 (dk_at dksX0_suits_2 14 rfl rfl)
theorem dX0_suits_63 : decode cX0_suits 63 = .ok (.getfield 37, 3) := dk_180 0 37 (dk_at dksX0_suits_2 15 rfl rfl)
theorem dX0_suits_66 : decode cX0_suits 66 = .ok (.aload_n 0, 1) := dk_42 (dk_at dksX0_suits_2 18 rfl rfl)
theorem dX0_suits_67 : decode cX0_suits 67 = .ok (.getfield 15, 3) := dk_180 0 15 (dk_at dksX0_suits_2 19 rfl rfl)
theorem dX0_suits_70 : decode cX0_suits 70 = .ok (.iload_n 1, 1) := dk_27 (dk_at dksX0_suits_2 22 rfl rfl)
theorem dX0_suits_71 : decode cX0_suits 71 = .ok (.aaload, 1) := dk_50 (dk_at dksX0_suits_2 23 rfl rfl)
theorem dX0_suits_72 : decode cX0_suits 72 = .ok (.iconst 1, 1) := dk_4 (dk_at dksX0_suits_3 0 rfl rfl)
theorem dX0_suits_73 : decode cX0_suits 73 = .ok (.aload_n 0, 1) := dk_42 (dk_at dksX0_suits_3 1 rfl rfl)
theorem dX0_suits_74 : decode cX0_suits 74 = .ok (.getfield 43, 3) := dk_180 0 43 (dk_at dksX0_suits_3 2 rfl rfl)
theorem dX0_suits_77 : decode cX0_suits 77 = .ok (.iload_n 3, 1) := dk_29 (dk_at dksX0_suits_3 5 rfl rfl)
theorem dX0_suits_78 : decode cX0_suits 78 = .ok (.aaload, 1) := dk_50 (dk_at dksX0_suits_3 6 rfl rfl)
theorem dX0_suits_79 : decode cX0_suits 79 = .ok (.getfield 259, 3) := dk_180 1 3 (dk_at dksX0_suits_3 7 rfl rfl)
theorem dX0_suits_82 : decode cX0_suits 82 = .ok (.aload_n 0, 1) := dk_42 (dk_at dksX0_suits_3 10 rfl rfl)
theorem dX0_suits_83 : decode cX0_suits 83 = .ok (.getfield 43, 3) := dk_180 0 43 (dk_at dksX0_suits_3 11 rfl rfl)
theorem dX0_suits_86 : decode cX0_suits 86 = .ok (.iload_n 3, 1) := dk_29 (dk_at dksX0_suits_3 14 rfl rfl)
theorem dX0_suits_87 : decode cX0_suits 87 = .ok (.aaload, 1) := dk_50 (dk_at dksX0_suits_3 15 rfl rfl)
theorem dX0_suits_88 : decode cX0_suits 88 = .ok (.getfield 262, 3) := dk_180 1 6 (dk_at dksX0_suits_3 16 rfl rfl)
theorem dX0_suits_91 : decode cX0_suits 91 = .ok (.invokevirtual 150, 3) := dk_182 0 150 (dk_at dksX0_suits_3 19 rfl rfl)
theorem dX0_suits_94 : decode cX0_suits 94 = .ok (.pop, 1) := dk_87 (dk_at dksX0_suits_3 22 rfl rfl)
theorem dX0_suits_95 : decode cX0_suits 95 = .ok (.iload_n 2, 1) := dk_28 (dk_at dksX0_suits_3 23 rfl rfl)
theorem dX0_suits_96 : decode cX0_suits 96 = .ok (.iload 4, 2) := dk_21 4 (dk_at dksX0_suits_4 0 rfl rfl)
theorem dX0_suits_98 : decode cX0_suits 98 = .ok (.aload_n 0, 1) := dk_42 (dk_at dksX0_suits_4 2 rfl rfl)
theorem dX0_suits_99 : decode cX0_suits 99 = .ok (.getfield 37, 3) := dk_180 0 37 (dk_at dksX0_suits_4 3 rfl rfl)
theorem dX0_suits_102 : decode cX0_suits 102 = .ok (.getfield 163, 3) := dk_180 0 163 (dk_at dksX0_suits_4 6 rfl rfl)
theorem dX0_suits_105 : decode cX0_suits 105 = .ok (.iconst 2, 1) := dk_5 (dk_at dksX0_suits_4 9 rfl rfl)
theorem dX0_suits_106 : decode cX0_suits 106 = .ok (.idiv, 1) := dk_108 (dk_at dksX0_suits_4 10 rfl rfl)
theorem dX0_suits_107 : decode cX0_suits 107 = .ok (.if_icmp .gt 7, 3) := dk_163 0 7 (dk_at dksX0_suits_4 11 rfl rfl)
theorem dX0_suits_110 : decode cX0_suits 110 = .ok (.iconst 1, 1) := dk_4 (dk_at dksX0_suits_4 14 rfl rfl)
theorem dX0_suits_111 : decode cX0_suits 111 = .ok (.goto 4, 3) := dk_167 0 4 (dk_at dksX0_suits_4 15 rfl rfl)
theorem dX0_suits_114 : decode cX0_suits 114 = .ok (.iconst 0, 1) := dk_3 (dk_at dksX0_suits_4 18 rfl rfl)
theorem dX0_suits_115 : decode cX0_suits 115 = .ok (.iadd, 1) := dk_96 (dk_at dksX0_suits_4 19 rfl rfl)
theorem dX0_suits_116 : decode cX0_suits 116 = .ok (.istore_n 2, 1) := dk_61 (dk_at dksX0_suits_4 20 rfl rfl)
theorem dX0_suits_117 : decode cX0_suits 117 = .ok (.iinc 3 1, 3) := dk_132 3 1 (dk_at dksX0_suits_4 21 rfl rfl)
theorem dX0_suits_120 : decode cX0_suits 120 = .ok (.goto (-96), 3) := dk_167 255 160 (dk_at dksX0_suits_5 0 rfl rfl)
theorem dX0_suits_123 : decode cX0_suits 123 = .ok (.sipush 1000, 3) := dk_17 3 232 (dk_at dksX0_suits_5 3 rfl rfl)
theorem dX0_suits_126 : decode cX0_suits 126 = .ok (.iload_n 2, 1) := dk_28 (dk_at dksX0_suits_5 6 rfl rfl)
theorem dX0_suits_127 : decode cX0_suits 127 = .ok (.imul, 1) := dk_104 (dk_at dksX0_suits_5 7 rfl rfl)
theorem dX0_suits_128 : decode cX0_suits 128 = .ok (.aload_n 0, 1) := dk_42 (dk_at dksX0_suits_5 8 rfl rfl)
theorem dX0_suits_129 : decode cX0_suits 129 = .ok (.getfield 231, 3) := dk_180 0 231 (dk_at dksX0_suits_5 9 rfl rfl)
theorem dX0_suits_132 : decode cX0_suits 132 = .ok (.idiv, 1) := dk_108 (dk_at dksX0_suits_5 12 rfl rfl)
theorem dX0_suits_133 : decode cX0_suits 133 = .ok (.ireturn, 1) := dk_172 (dk_at dksX0_suits_5 13 rfl rfl)
abbrev cX0_tell : ByteArray := prog_1_method_39_code
def yX0_tell : MethodName := ⟨RX0, "tell", "(I)I"⟩
def dkwX0_tell_1 : List UInt8 := [180, 0, 47, 42, 180, 1, 32, 27, 79, 42, 89, 180, 1, 32, 4, 96, 181, 1, 32, 42, 180, 1, 32, 172]
abbrev dktX0_tell_1 : List UInt8 := dkwX0_tell_1 ++ []
def dkwX0_tell_0 : List UInt8 := [27, 184, 0, 157, 154, 0, 5, 2, 172, 42, 180, 1, 32, 16, 8, 160, 0, 6, 16, 253, 172, 42]
abbrev dktX0_tell_0 : List UInt8 := dkwX0_tell_0 ++ dktX0_tell_1
theorem dksX0_tell_0 : cX0_tell.data.toList.drop 0 = dktX0_tell_0 := by decide +kernel
theorem dksX0_tell_1 : cX0_tell.data.toList.drop 22 = dktX0_tell_1 := dk_seg dksX0_tell_0 22 rfl rfl
theorem dX0_tell_0 : decode cX0_tell 0 = .ok (.iload_n 1, 1) := dk_27 (dk_at dksX0_tell_0 0 rfl rfl)
theorem dX0_tell_1 : decode cX0_tell 1 = .ok (.invokestatic 157, 3) := dk_184 0 157 (dk_at dksX0_tell_0 1 rfl rfl)
theorem dX0_tell_4 : decode cX0_tell 4 = .ok (.ifCond .ne 5, 3) := dk_154 0 5 (dk_at dksX0_tell_0 4 rfl rfl)
theorem dX0_tell_7 : decode cX0_tell 7 = .ok (.iconst (-1), 1) := dk_2 (dk_at dksX0_tell_0 7 rfl rfl)
theorem dX0_tell_8 : decode cX0_tell 8 = .ok (.ireturn, 1) := dk_172 (dk_at dksX0_tell_0 8 rfl rfl)
theorem dX0_tell_9 : decode cX0_tell 9 = .ok (.aload_n 0, 1) := dk_42 (dk_at dksX0_tell_0 9 rfl rfl)
theorem dX0_tell_10 : decode cX0_tell 10 = .ok (.getfield 288, 3) := dk_180 1 32 (dk_at dksX0_tell_0 10 rfl rfl)
theorem dX0_tell_13 : decode cX0_tell 13 = .ok (.bipush 8, 2) := dk_16 8 (dk_at dksX0_tell_0 13 rfl rfl)
theorem dX0_tell_15 : decode cX0_tell 15 = .ok (.if_icmp .ne 6, 3) := dk_160 0 6 (dk_at dksX0_tell_0 15 rfl rfl)
theorem dX0_tell_18 : decode cX0_tell 18 = .ok (.bipush (-3), 2) := dk_16 253 (dk_at dksX0_tell_0 18 rfl rfl)
theorem dX0_tell_20 : decode cX0_tell 20 = .ok (.ireturn, 1) := dk_172 (dk_at dksX0_tell_0 20 rfl rfl)
theorem dX0_tell_21 : decode cX0_tell 21 = .ok (.aload_n 0, 1) := dk_42 (dk_at dksX0_tell_0 21 rfl rfl)
theorem dX0_tell_22 : decode cX0_tell 22 = .ok (.getfield 47, 3) := dk_180 0 47 (dk_at dksX0_tell_1 0 rfl rfl)
theorem dX0_tell_25 : decode cX0_tell 25 = .ok (.aload_n 0, 1) := dk_42 (dk_at dksX0_tell_1 3 rfl rfl)
theorem dX0_tell_26 : decode cX0_tell 26 = .ok (.getfield 288, 3) := dk_180 1 32 (dk_at dksX0_tell_1 4 rfl rfl)
theorem dX0_tell_29 : decode cX0_tell 29 = .ok (.iload_n 1, 1) := dk_27 (dk_at dksX0_tell_1 7 rfl rfl)
theorem dX0_tell_30 : decode cX0_tell 30 = .ok (.iastore, 1) := dk_79 (dk_at dksX0_tell_1 8 rfl rfl)
theorem dX0_tell_31 : decode cX0_tell 31 = .ok (.aload_n 0, 1) := dk_42 (dk_at dksX0_tell_1 9 rfl rfl)
theorem dX0_tell_32 : decode cX0_tell 32 = .ok (.dup, 1) := dk_89 (dk_at dksX0_tell_1 10 rfl rfl)
theorem dX0_tell_33 : decode cX0_tell 33 = .ok (.getfield 288, 3) := dk_180 1 32 (dk_at dksX0_tell_1 11 rfl rfl)
theorem dX0_tell_36 : decode cX0_tell 36 = .ok (.iconst 1, 1) := dk_4 (dk_at dksX0_tell_1 14 rfl rfl)
theorem dX0_tell_37 : decode cX0_tell 37 = .ok (.iadd, 1) := dk_96 (dk_at dksX0_tell_1 15 rfl rfl)
theorem dX0_tell_38 : decode cX0_tell 38 = .ok (.putfield 288, 3) := dk_181 1 32 (dk_at dksX0_tell_1 16 rfl rfl)
theorem dX0_tell_41 : decode cX0_tell 41 = .ok (.aload_n 0, 1) := dk_42 (dk_at dksX0_tell_1 19 rfl rfl)
theorem dX0_tell_42 : decode cX0_tell 42 = .ok (.getfield 288, 3) := dk_180 1 32 (dk_at dksX0_tell_1 20 rfl rfl)
theorem dX0_tell_45 : decode cX0_tell 45 = .ok (.ireturn, 1) := dk_172 (dk_at dksX0_tell_1 23 rfl rfl)
abbrev cX0_untell : ByteArray := prog_1_method_40_code
def yX0_untell : MethodName := ⟨RX0, "untell", "()I"⟩
def dkwX0_untell_0 : List UInt8 := [42, 180, 1, 32, 60, 42, 3, 181, 1, 32, 27, 172]
abbrev dktX0_untell_0 : List UInt8 := dkwX0_untell_0 ++ []
theorem dksX0_untell_0 : cX0_untell.data.toList.drop 0 = dktX0_untell_0 := by decide +kernel
theorem dX0_untell_0 : decode cX0_untell 0 = .ok (.aload_n 0, 1) := dk_42 (dk_at dksX0_untell_0 0 rfl rfl)
theorem dX0_untell_1 : decode cX0_untell 1 = .ok (.getfield 288, 3) := dk_180 1 32 (dk_at dksX0_untell_0 1 rfl rfl)
theorem dX0_untell_4 : decode cX0_untell 4 = .ok (.istore_n 1, 1) := dk_60 (dk_at dksX0_untell_0 4 rfl rfl)
theorem dX0_untell_5 : decode cX0_untell 5 = .ok (.aload_n 0, 1) := dk_42 (dk_at dksX0_untell_0 5 rfl rfl)
theorem dX0_untell_6 : decode cX0_untell 6 = .ok (.iconst 0, 1) := dk_3 (dk_at dksX0_untell_0 6 rfl rfl)
theorem dX0_untell_7 : decode cX0_untell 7 = .ok (.putfield 288, 3) := dk_181 1 32 (dk_at dksX0_untell_0 7 rfl rfl)
theorem dX0_untell_10 : decode cX0_untell 10 = .ok (.iload_n 1, 1) := dk_27 (dk_at dksX0_untell_0 10 rfl rfl)
theorem dX0_untell_11 : decode cX0_untell 11 = .ok (.ireturn, 1) := dk_172 (dk_at dksX0_untell_0 11 rfl rfl)
abbrev cX0_parts : ByteArray := prog_1_method_41_code
def yX0_parts : MethodName := ⟨RX0, "parts", "(III)I"⟩
def dkwX0_parts_9 : List UInt8 := [21, 4, 167, 0, 5, 21, 5, 172]
abbrev dktX0_parts_9 : List UInt8 := dkwX0_parts_9 ++ []
def dkwX0_parts_8 : List UInt8 := [100, 54, 5, 132, 6, 1, 167, 255, 117, 21, 4, 156, 0, 8, 16, 254, 167, 0, 14, 29, 154, 0, 8]
abbrev dktX0_parts_8 : List UInt8 := dkwX0_parts_8 ++ dktX0_parts_9
def dkwX0_parts_7 : List UInt8 := [155, 0, 27, 21, 8, 21, 7, 100, 21, 5, 163, 0, 6, 167, 0, 14, 21, 6, 54, 4, 21, 8, 21, 7]
abbrev dktX0_parts_7 : List UInt8 := dkwX0_parts_7 ++ dktX0_parts_8
def dkwX0_parts_6 : List UInt8 := [21, 8, 42, 180, 0, 37, 180, 0, 163, 184, 1, 35, 54, 8, 132, 9, 1, 167, 255, 170, 21, 7]
abbrev dktX0_parts_6 : List UInt8 := dkwX0_parts_6 ++ dktX0_parts_7
def dkwX0_parts_5 : List UInt8 := [180, 0, 37, 180, 0, 163, 167, 0, 15, 21, 7, 42, 180, 0, 37, 180, 0, 163, 184, 0, 212, 54, 7]
abbrev dktX0_parts_5 : List UInt8 := dkwX0_parts_5 ++ dktX0_parts_6
def dkwX0_parts_4 : List UInt8 := [42, 180, 0, 47, 21, 6, 46, 182, 0, 160, 154, 0, 6, 167, 0, 46, 21, 7, 156, 0, 13, 42]
abbrev dktX0_parts_4 : List UInt8 := dkwX0_parts_4 ++ dktX0_parts_5
def dkwX0_parts_3 : List UInt8 := [21, 9, 16, 7, 162, 0, 85, 28, 21, 9, 122, 4, 126, 153, 0, 70, 42, 16, 10, 27, 104, 21, 9, 96]
abbrev dktX0_parts_3 : List UInt8 := dkwX0_parts_3 ++ dktX0_parts_4
def dkwX0_parts_2 : List UInt8 := [54, 5, 3, 54, 6, 21, 6, 42, 180, 1, 32, 162, 0, 136, 2, 54, 7, 2, 54, 8, 3, 54, 9]
abbrev dktX0_parts_2 : List UInt8 := dkwX0_parts_2 ++ dktX0_parts_3
def dkwX0_parts_1 : List UInt8 := [184, 0, 73, 154, 0, 5, 2, 172, 42, 180, 1, 32, 154, 0, 6, 16, 251, 172, 16, 254, 54, 4, 2]
abbrev dktX0_parts_1 : List UInt8 := dkwX0_parts_1 ++ dktX0_parts_2
def dkwX0_parts_0 : List UInt8 := [42, 27, 182, 0, 89, 153, 0, 23, 28, 155, 0, 19, 28, 16, 7, 122, 154, 0, 12, 29, 3, 4]
abbrev dktX0_parts_0 : List UInt8 := dkwX0_parts_0 ++ dktX0_parts_1
theorem dksX0_parts_0 : cX0_parts.data.toList.drop 0 = dktX0_parts_0 := by decide +kernel
theorem dksX0_parts_1 : cX0_parts.data.toList.drop 22 = dktX0_parts_1 := dk_seg dksX0_parts_0 22 rfl rfl
theorem dksX0_parts_2 : cX0_parts.data.toList.drop 45 = dktX0_parts_2 := dk_seg dksX0_parts_1 23 rfl rfl
theorem dksX0_parts_3 : cX0_parts.data.toList.drop 68 = dktX0_parts_3 := dk_seg dksX0_parts_2 23 rfl rfl
theorem dksX0_parts_4 : cX0_parts.data.toList.drop 92 = dktX0_parts_4 := dk_seg dksX0_parts_3 24 rfl rfl
theorem dksX0_parts_5 : cX0_parts.data.toList.drop 114 = dktX0_parts_5 := dk_seg dksX0_parts_4 22 rfl rfl
theorem dksX0_parts_6 : cX0_parts.data.toList.drop 137 = dktX0_parts_6 := dk_seg dksX0_parts_5 23 rfl rfl
theorem dksX0_parts_7 : cX0_parts.data.toList.drop 159 = dktX0_parts_7 := dk_seg dksX0_parts_6 22 rfl rfl
theorem dksX0_parts_8 : cX0_parts.data.toList.drop 183 = dktX0_parts_8 := dk_seg dksX0_parts_7 24 rfl rfl
theorem dksX0_parts_9 : cX0_parts.data.toList.drop 206 = dktX0_parts_9 := dk_seg dksX0_parts_8 23 rfl rfl
theorem dX0_parts_0 : decode cX0_parts 0 = .ok (.aload_n 0, 1) := dk_42 (dk_at dksX0_parts_0 0 rfl rfl)
theorem dX0_parts_1 : decode cX0_parts 1 = .ok (.iload_n 1, 1) := dk_27 (dk_at dksX0_parts_0 1 rfl rfl)
theorem dX0_parts_2 : decode cX0_parts 2 = .ok (.invokevirtual 89, 3) := dk_182 0 89 (dk_at dksX0_parts_0 2 rfl rfl)
theorem dX0_parts_5 : decode cX0_parts 5 = .ok (.ifCond .eq 23, 3) := dk_153 0 23 (dk_at dksX0_parts_0 5 rfl rfl)
theorem dX0_parts_8 : decode cX0_parts 8 = .ok (.iload_n 2, 1) := dk_28 (dk_at dksX0_parts_0 8 rfl rfl)
theorem dX0_parts_9 : decode cX0_parts 9 = .ok (.ifCond .lt 19, 3) := dk_155 0 19 (dk_at dksX0_parts_0 9 rfl rfl)
theorem dX0_parts_12 : decode cX0_parts 12 = .ok (.iload_n 2, 1) := dk_28 (dk_at dksX0_parts_0 12 rfl rfl)
theorem dX0_parts_13 : decode cX0_parts 13 = .ok (.bipush 7, 2) := dk_16 7 (dk_at dksX0_parts_0 13 rfl rfl)
theorem dX0_parts_15 : decode cX0_parts 15 = .ok (.ishr, 1) := dk_122 (dk_at dksX0_parts_0 15 rfl rfl)
theorem dX0_parts_16 : decode cX0_parts 16 = .ok (.ifCond .ne 12, 3) := dk_154 0 12 (dk_at dksX0_parts_0 16 rfl rfl)
theorem dX0_parts_19 : decode cX0_parts 19 = .ok (.iload_n 3, 1) := dk_29 (dk_at dksX0_parts_0 19 rfl rfl)
theorem dX0_parts_20 : decode cX0_parts 20 = .ok (.iconst 0, 1) := dk_3 (dk_at dksX0_parts_0 20 rfl rfl)
theorem dX0_parts_21 : decode cX0_parts 21 = .ok (.iconst 1, 1) := dk_4 (dk_at dksX0_parts_0 21 rfl rfl)
theorem dX0_parts_22 : decode cX0_parts 22 = .ok (.invokestatic 73, 3) := dk_184 0 73 (dk_at dksX0_parts_1 0 rfl rfl)
theorem dX0_parts_25 : decode cX0_parts 25 = .ok (.ifCond .ne 5, 3) := dk_154 0 5 (dk_at dksX0_parts_1 3 rfl rfl)
theorem dX0_parts_28 : decode cX0_parts 28 = .ok (.iconst (-1), 1) := dk_2 (dk_at dksX0_parts_1 6 rfl rfl)
theorem dX0_parts_29 : decode cX0_parts 29 = .ok (.ireturn, 1) := dk_172 (dk_at dksX0_parts_1 7 rfl rfl)
theorem dX0_parts_30 : decode cX0_parts 30 = .ok (.aload_n 0, 1) := dk_42 (dk_at dksX0_parts_1 8 rfl rfl)
theorem dX0_parts_31 : decode cX0_parts 31 = .ok (.getfield 288, 3) := dk_180 1 32 (dk_at dksX0_parts_1 9 rfl rfl)
theorem dX0_parts_34 : decode cX0_parts 34 = .ok (.ifCond .ne 6, 3) := dk_154 0 6 (dk_at dksX0_parts_1 12 rfl rfl)
theorem dX0_parts_37 : decode cX0_parts 37 = .ok (.bipush (-5), 2) := dk_16 251 (dk_at dksX0_parts_1 15 rfl rfl)
theorem dX0_parts_39 : decode cX0_parts 39 = .ok (.ireturn, 1) := dk_172 (dk_at dksX0_parts_1 17 rfl rfl)
theorem dX0_parts_40 : decode cX0_parts 40 = .ok (.bipush (-2), 2) := dk_16 254 (dk_at dksX0_parts_1 18 rfl rfl)
theorem dX0_parts_42 : decode cX0_parts 42 = .ok (.istore 4, 2) := dk_54 4 (dk_at dksX0_parts_1 20 rfl rfl)
theorem dX0_parts_44 : decode cX0_parts 44 = .ok (.iconst (-1), 1) := dk_2 (dk_at dksX0_parts_1 22 rfl rfl)
theorem dX0_parts_45 : decode cX0_parts 45 = .ok (.istore 5, 2) := dk_54 5 (dk_at dksX0_parts_2 0 rfl rfl)
theorem dX0_parts_47 : decode cX0_parts 47 = .ok (.iconst 0, 1) := dk_3 (dk_at dksX0_parts_2 2 rfl rfl)
theorem dX0_parts_48 : decode cX0_parts 48 = .ok (.istore 6, 2) := dk_54 6 (dk_at dksX0_parts_2 3 rfl rfl)
theorem dX0_parts_50 : decode cX0_parts 50 = .ok (.iload 6, 2) := dk_21 6 (dk_at dksX0_parts_2 5 rfl rfl)
theorem dX0_parts_52 : decode cX0_parts 52 = .ok (.aload_n 0, 1) := dk_42 (dk_at dksX0_parts_2 7 rfl rfl)
theorem dX0_parts_53 : decode cX0_parts 53 = .ok (.getfield 288, 3) := dk_180 1 32 (dk_at dksX0_parts_2 8 rfl rfl)
theorem dX0_parts_56 : decode cX0_parts 56 = .ok (.if_icmp .ge 136, 3) := dk_162 0 136 (dk_at dksX0_parts_2 11 rfl rfl)
theorem dX0_parts_59 : decode cX0_parts 59 = .ok (.iconst (-1), 1) := dk_2 (dk_at dksX0_parts_2 14 rfl rfl)
theorem dX0_parts_60 : decode cX0_parts 60 = .ok (.istore 7, 2) := dk_54 7 (dk_at dksX0_parts_2 15 rfl rfl)
theorem dX0_parts_62 : decode cX0_parts 62 = .ok (.iconst (-1), 1) := dk_2 (dk_at dksX0_parts_2 17 rfl rfl)
theorem dX0_parts_63 : decode cX0_parts 63 = .ok (.istore 8, 2) := dk_54 8 (dk_at dksX0_parts_2 18 rfl rfl)
theorem dX0_parts_65 : decode cX0_parts 65 = .ok (.iconst 0, 1) := dk_3 (dk_at dksX0_parts_2 20 rfl rfl)
theorem dX0_parts_66 : decode cX0_parts 66 = .ok (.istore 9, 2) := dk_54 9 (dk_at dksX0_parts_2 21 rfl rfl)
theorem dX0_parts_68 : decode cX0_parts 68 = .ok (.iload 9, 2) := dk_21 9 (dk_at dksX0_parts_3 0 rfl rfl)
theorem dX0_parts_70 : decode cX0_parts 70 = .ok (.bipush 7, 2) := dk_16 7 (dk_at dksX0_parts_3 2 rfl rfl)
theorem dX0_parts_72 : decode cX0_parts 72 = .ok (.if_icmp .ge 85, 3) := dk_162 0 85 (dk_at dksX0_parts_3 4 rfl rfl)
theorem dX0_parts_75 : decode cX0_parts 75 = .ok (.iload_n 2, 1) := dk_28 (dk_at dksX0_parts_3 7 rfl rfl)
theorem dX0_parts_76 : decode cX0_parts 76 = .ok (.iload 9, 2) := dk_21 9 (dk_at dksX0_parts_3 8 rfl rfl)
theorem dX0_parts_78 : decode cX0_parts 78 = .ok (.ishr, 1) := dk_122 (dk_at dksX0_parts_3 10 rfl rfl)
theorem dX0_parts_79 : decode cX0_parts 79 = .ok (.iconst 1, 1) := dk_4 (dk_at dksX0_parts_3 11 rfl rfl)
theorem dX0_parts_80 : decode cX0_parts 80 = .ok (.iand, 1) := dk_126 (dk_at dksX0_parts_3 12 rfl rfl)
theorem dX0_parts_81 : decode cX0_parts 81 = .ok (.ifCond .eq 70, 3) := dk_153 0 70 (dk_at dksX0_parts_3 13 rfl rfl)
theorem dX0_parts_84 : decode cX0_parts 84 = .ok (.aload_n 0, 1) := dk_42 (dk_at dksX0_parts_3 16 rfl rfl)
theorem dX0_parts_85 : decode cX0_parts 85 = .ok (.bipush 10, 2) := dk_16 10 (dk_at dksX0_parts_3 17 rfl rfl)
theorem dX0_parts_87 : decode cX0_parts 87 = .ok (.iload_n 1, 1) := dk_27 (dk_at dksX0_parts_3 19 rfl rfl)
theorem dX0_parts_88 : decode cX0_parts 88 = .ok (.imul, 1) := dk_104 (dk_at dksX0_parts_3 20 rfl rfl)
theorem dX0_parts_89 : decode cX0_parts 89 = .ok (.iload 9, 2) := dk_21 9 (dk_at dksX0_parts_3 21 rfl rfl)
theorem dX0_parts_91 : decode cX0_parts 91 = .ok (.iadd, 1) := dk_96 (dk_at dksX0_parts_3 23 rfl rfl)
theorem dX0_parts_92 : decode cX0_parts 92 = .ok (.aload_n 0, 1) := dk_42 (dk_at dksX0_parts_4 0 rfl rfl)
theorem dX0_parts_93 : decode cX0_parts 93 = .ok (.getfield 47, 3) := dk_180 0 47 (dk_at dksX0_parts_4 1 rfl rfl)
theorem dX0_parts_96 : decode cX0_parts 96 = .ok (.iload 6, 2) := dk_21 6 (dk_at dksX0_parts_4 4 rfl rfl)
theorem dX0_parts_98 : decode cX0_parts 98 = .ok (.iaload, 1) := dk_46 (dk_at dksX0_parts_4 6 rfl rfl)
theorem dX0_parts_99 : decode cX0_parts 99 = .ok (.invokevirtual 160, 3) := dk_182 0 160 (dk_at dksX0_parts_4 7 rfl rfl)
theorem dX0_parts_102 : decode cX0_parts 102 = .ok (.ifCond .ne 6, 3) := dk_154 0 6 (dk_at dksX0_parts_4 10 rfl rfl)
theorem dX0_parts_105 : decode cX0_parts 105 = .ok (.goto 46, 3) := dk_167 0 46 (dk_at dksX0_parts_4 13 rfl rfl)
theorem dX0_parts_108 : decode cX0_parts 108 = .ok (.iload 7, 2) := dk_21 7 (dk_at dksX0_parts_4 16 rfl rfl)
theorem dX0_parts_110 : decode cX0_parts 110 = .ok (.ifCond .ge 13, 3) := dk_156 0 13 (dk_at dksX0_parts_4 18 rfl rfl)
theorem dX0_parts_113 : decode cX0_parts 113 = .ok (.aload_n 0, 1) := dk_42 (dk_at dksX0_parts_4 21 rfl rfl)
theorem dX0_parts_114 : decode cX0_parts 114 = .ok (.getfield 37, 3) := dk_180 0 37 (dk_at dksX0_parts_5 0 rfl rfl)
theorem dX0_parts_117 : decode cX0_parts 117 = .ok (.getfield 163, 3) := dk_180 0 163 (dk_at dksX0_parts_5 3 rfl rfl)
theorem dX0_parts_120 : decode cX0_parts 120 = .ok (.goto 15, 3) := dk_167 0 15 (dk_at dksX0_parts_5 6 rfl rfl)
theorem dX0_parts_123 : decode cX0_parts 123 = .ok (.iload 7, 2) := dk_21 7 (dk_at dksX0_parts_5 9 rfl rfl)
theorem dX0_parts_125 : decode cX0_parts 125 = .ok (.aload_n 0, 1) := dk_42 (dk_at dksX0_parts_5 11 rfl rfl)
theorem dX0_parts_126 : decode cX0_parts 126 = .ok (.getfield 37, 3) := dk_180 0 37 (dk_at dksX0_parts_5 12 rfl rfl)
theorem dX0_parts_129 : decode cX0_parts 129 = .ok (.getfield 163, 3) := dk_180 0 163 (dk_at dksX0_parts_5 15 rfl rfl)
theorem dX0_parts_132 : decode cX0_parts 132 = .ok (.invokestatic 212, 3) := dk_184 0 212 (dk_at dksX0_parts_5 18 rfl rfl)
theorem dX0_parts_135 : decode cX0_parts 135 = .ok (.istore 7, 2) := dk_54 7 (dk_at dksX0_parts_5 21 rfl rfl)
theorem dX0_parts_137 : decode cX0_parts 137 = .ok (.iload 8, 2) := dk_21 8 (dk_at dksX0_parts_6 0 rfl rfl)
theorem dX0_parts_139 : decode cX0_parts 139 = .ok (.aload_n 0, 1) := dk_42 (dk_at dksX0_parts_6 2 rfl rfl)
theorem dX0_parts_140 : decode cX0_parts 140 = .ok (.getfield 37, 3) := dk_180 0 37 (dk_at dksX0_parts_6 3 rfl rfl)
theorem dX0_parts_143 : decode cX0_parts 143 = .ok (.getfield 163, 3) := dk_180 0 163 (dk_at dksX0_parts_6 6 rfl rfl)
theorem dX0_parts_146 : decode cX0_parts 146 = .ok (.invokestatic 291, 3) := dk_184 1 35 (dk_at dksX0_parts_6 9 rfl rfl)
theorem dX0_parts_149 : decode cX0_parts 149 = .ok (.istore 8, 2) := dk_54 8 (dk_at dksX0_parts_6 12 rfl rfl)
theorem dX0_parts_151 : decode cX0_parts 151 = .ok (.iinc 9 1, 3) := dk_132 9 1 (dk_at dksX0_parts_6 14 rfl rfl)
theorem dX0_parts_154 : decode cX0_parts 154 = .ok (.goto (-86), 3) := dk_167 255 170 (dk_at dksX0_parts_6 17 rfl rfl)
theorem dX0_parts_157 : decode cX0_parts 157 = .ok (.iload 7, 2) := dk_21 7 (dk_at dksX0_parts_6 20 rfl rfl)
theorem dX0_parts_159 : decode cX0_parts 159 = .ok (.ifCond .lt 27, 3) := dk_155 0 27 (dk_at dksX0_parts_7 0 rfl rfl)
theorem dX0_parts_162 : decode cX0_parts 162 = .ok (.iload 8, 2) := dk_21 8 (dk_at dksX0_parts_7 3 rfl rfl)
theorem dX0_parts_164 : decode cX0_parts 164 = .ok (.iload 7, 2) := dk_21 7 (dk_at dksX0_parts_7 5 rfl rfl)
theorem dX0_parts_166 : decode cX0_parts 166 = .ok (.isub, 1) := dk_100 (dk_at dksX0_parts_7 7 rfl rfl)
theorem dX0_parts_167 : decode cX0_parts 167 = .ok (.iload 5, 2) := dk_21 5 (dk_at dksX0_parts_7 8 rfl rfl)
theorem dX0_parts_169 : decode cX0_parts 169 = .ok (.if_icmp .gt 6, 3) := dk_163 0 6 (dk_at dksX0_parts_7 10 rfl rfl)
theorem dX0_parts_172 : decode cX0_parts 172 = .ok (.goto 14, 3) := dk_167 0 14 (dk_at dksX0_parts_7 13 rfl rfl)
theorem dX0_parts_175 : decode cX0_parts 175 = .ok (.iload 6, 2) := dk_21 6 (dk_at dksX0_parts_7 16 rfl rfl)
theorem dX0_parts_177 : decode cX0_parts 177 = .ok (.istore 4, 2) := dk_54 4 (dk_at dksX0_parts_7 18 rfl rfl)
theorem dX0_parts_179 : decode cX0_parts 179 = .ok (.iload 8, 2) := dk_21 8 (dk_at dksX0_parts_7 20 rfl rfl)
theorem dX0_parts_181 : decode cX0_parts 181 = .ok (.iload 7, 2) := dk_21 7 (dk_at dksX0_parts_7 22 rfl rfl)
theorem dX0_parts_183 : decode cX0_parts 183 = .ok (.isub, 1) := dk_100 (dk_at dksX0_parts_8 0 rfl rfl)
theorem dX0_parts_184 : decode cX0_parts 184 = .ok (.istore 5, 2) := dk_54 5 (dk_at dksX0_parts_8 1 rfl rfl)
theorem dX0_parts_186 : decode cX0_parts 186 = .ok (.iinc 6 1, 3) := dk_132 6 1 (dk_at dksX0_parts_8 3 rfl rfl)
theorem dX0_parts_189 : decode cX0_parts 189 = .ok (.goto (-139), 3) := dk_167 255 117 (dk_at dksX0_parts_8 6 rfl rfl)
theorem dX0_parts_192 : decode cX0_parts 192 = .ok (.iload 4, 2) := dk_21 4 (dk_at dksX0_parts_8 9 rfl rfl)
theorem dX0_parts_194 : decode cX0_parts 194 = .ok (.ifCond .ge 8, 3) := dk_156 0 8 (dk_at dksX0_parts_8 11 rfl rfl)
theorem dX0_parts_197 : decode cX0_parts 197 = .ok (.bipush (-2), 2) := dk_16 254 (dk_at dksX0_parts_8 14 rfl rfl)
theorem dX0_parts_199 : decode cX0_parts 199 = .ok (.goto 14, 3) := dk_167 0 14 (dk_at dksX0_parts_8 16 rfl rfl)
theorem dX0_parts_202 : decode cX0_parts 202 = .ok (.iload_n 3, 1) := dk_29 (dk_at dksX0_parts_8 19 rfl rfl)
theorem dX0_parts_203 : decode cX0_parts 203 = .ok (.ifCond .ne 8, 3) := dk_154 0 8 (dk_at dksX0_parts_8 20 rfl rfl)
theorem dX0_parts_206 : decode cX0_parts 206 = .ok (.iload 4, 2) := dk_21 4 (dk_at dksX0_parts_9 0 rfl rfl)
theorem dX0_parts_208 : decode cX0_parts 208 = .ok (.goto 5, 3) := dk_167 0 5 (dk_at dksX0_parts_9 2 rfl rfl)
theorem dX0_parts_211 : decode cX0_parts 211 = .ok (.iload 5, 2) := dk_21 5 (dk_at dksX0_parts_9 5 rfl rfl)
theorem dX0_parts_213 : decode cX0_parts 213 = .ok (.ireturn, 1) := dk_172 (dk_at dksX0_parts_9 7 rfl rfl)
abbrev cX0_ask : ByteArray := prog_1_method_43_code
def yX0_ask : MethodName := ⟨RX0, "ask", "(II)I"⟩
def dkwX0_ask_2 : List UInt8 := [167, 0, 4, 3, 172]
abbrev dktX0_ask_2 : List UInt8 := dkwX0_ask_2 ++ []
def dkwX0_ask_1 : List UInt8 := [153, 0, 25, 42, 180, 0, 15, 27, 50, 28, 17, 39, 16, 108, 28, 17, 39, 16, 112, 182, 1, 41]
abbrev dktX0_ask_1 : List UInt8 := dkwX0_ask_1 ++ dktX0_ask_2
def dkwX0_ask_0 : List UInt8 := [42, 27, 182, 0, 89, 153, 0, 10, 28, 184, 0, 157, 154, 0, 7, 2, 167, 0, 33, 28, 184, 1, 38]
abbrev dktX0_ask_0 : List UInt8 := dkwX0_ask_0 ++ dktX0_ask_1
theorem dksX0_ask_0 : cX0_ask.data.toList.drop 0 = dktX0_ask_0 := by decide +kernel
theorem dksX0_ask_1 : cX0_ask.data.toList.drop 23 = dktX0_ask_1 := dk_seg dksX0_ask_0 23 rfl rfl
theorem dksX0_ask_2 : cX0_ask.data.toList.drop 45 = dktX0_ask_2 := dk_seg dksX0_ask_1 22 rfl rfl
theorem dX0_ask_0 : decode cX0_ask 0 = .ok (.aload_n 0, 1) := dk_42 (dk_at dksX0_ask_0 0 rfl rfl)
theorem dX0_ask_1 : decode cX0_ask 1 = .ok (.iload_n 1, 1) := dk_27 (dk_at dksX0_ask_0 1 rfl rfl)
theorem dX0_ask_2 : decode cX0_ask 2 = .ok (.invokevirtual 89, 3) := dk_182 0 89 (dk_at dksX0_ask_0 2 rfl rfl)
theorem dX0_ask_5 : decode cX0_ask 5 = .ok (.ifCond .eq 10, 3) := dk_153 0 10 (dk_at dksX0_ask_0 5 rfl rfl)
theorem dX0_ask_8 : decode cX0_ask 8 = .ok (.iload_n 2, 1) := dk_28 (dk_at dksX0_ask_0 8 rfl rfl)
theorem dX0_ask_9 : decode cX0_ask 9 = .ok (.invokestatic 157, 3) := dk_184 0 157 (dk_at dksX0_ask_0 9 rfl rfl)
theorem dX0_ask_12 : decode cX0_ask 12 = .ok (.ifCond .ne 7, 3) := dk_154 0 7 (dk_at dksX0_ask_0 12 rfl rfl)
theorem dX0_ask_15 : decode cX0_ask 15 = .ok (.iconst (-1), 1) := dk_2 (dk_at dksX0_ask_0 15 rfl rfl)
theorem dX0_ask_16 : decode cX0_ask 16 = .ok (.goto 33, 3) := dk_167 0 33 (dk_at dksX0_ask_0 16 rfl rfl)
theorem dX0_ask_19 : decode cX0_ask 19 = .ok (.iload_n 2, 1) := dk_28 (dk_at dksX0_ask_0 19 rfl rfl)
theorem dX0_ask_20 : decode cX0_ask 20 = .ok (.invokestatic 294, 3) := dk_184 1 38 (dk_at dksX0_ask_0 20 rfl rfl)
theorem dX0_ask_23 : decode cX0_ask 23 = .ok (.ifCond .eq 25, 3) := dk_153 0 25 (dk_at dksX0_ask_1 0 rfl rfl)
theorem dX0_ask_26 : decode cX0_ask 26 = .ok (.aload_n 0, 1) := dk_42 (dk_at dksX0_ask_1 3 rfl rfl)
theorem dX0_ask_27 : decode cX0_ask 27 = .ok (.getfield 15, 3) := dk_180 0 15 (dk_at dksX0_ask_1 4 rfl rfl)
theorem dX0_ask_30 : decode cX0_ask 30 = .ok (.iload_n 1, 1) := dk_27 (dk_at dksX0_ask_1 7 rfl rfl)
theorem dX0_ask_31 : decode cX0_ask 31 = .ok (.aaload, 1) := dk_50 (dk_at dksX0_ask_1 8 rfl rfl)
theorem dX0_ask_32 : decode cX0_ask 32 = .ok (.iload_n 2, 1) := dk_28 (dk_at dksX0_ask_1 9 rfl rfl)
theorem dX0_ask_33 : decode cX0_ask 33 = .ok (.sipush 10000, 3) := dk_17 39 16 (dk_at dksX0_ask_1 10 rfl rfl)
theorem dX0_ask_36 : decode cX0_ask 36 = .ok (.idiv, 1) := dk_108 (dk_at dksX0_ask_1 13 rfl rfl)
theorem dX0_ask_37 : decode cX0_ask 37 = .ok (.iload_n 2, 1) := dk_28 (dk_at dksX0_ask_1 14 rfl rfl)
theorem dX0_ask_38 : decode cX0_ask 38 = .ok (.sipush 10000, 3) := dk_17 39 16 (dk_at dksX0_ask_1 15 rfl rfl)
theorem dX0_ask_41 : decode cX0_ask 41 = .ok (.irem, 1) := dk_112 (dk_at dksX0_ask_1 18 rfl rfl)
theorem dX0_ask_42 : decode cX0_ask 42 = .ok (.invokevirtual 297, 3) := dk_182 1 41 (dk_at dksX0_ask_1 19 rfl rfl)
theorem dX0_ask_45 : decode cX0_ask 45 = .ok (.goto 4, 3) := dk_167 0 4 (dk_at dksX0_ask_2 0 rfl rfl)
theorem dX0_ask_48 : decode cX0_ask 48 = .ok (.iconst 0, 1) := dk_3 (dk_at dksX0_ask_2 3 rfl rfl)
theorem dX0_ask_49 : decode cX0_ask 49 = .ok (.ireturn, 1) := dk_172 (dk_at dksX0_ask_2 4 rfl rfl)
abbrev cX0_isSmall : ByteArray := prog_1_method_42_code
def yX0_isSmall : MethodName := ⟨RX0, "isSmall", "(I)Z"⟩
def dkwX0_isSmall_1 : List UInt8 := [3, 172]
abbrev dktX0_isSmall_1 : List UInt8 := dkwX0_isSmall_1 ++ []
def dkwX0_isSmall_0 : List UInt8 := [26, 17, 39, 16, 108, 16, 99, 163, 0, 17, 26, 17, 39, 16, 112, 16, 99, 163, 0, 7, 4, 167, 0, 4]
abbrev dktX0_isSmall_0 : List UInt8 := dkwX0_isSmall_0 ++ dktX0_isSmall_1
theorem dksX0_isSmall_0 : cX0_isSmall.data.toList.drop 0 = dktX0_isSmall_0 := by decide +kernel
theorem dksX0_isSmall_1 : cX0_isSmall.data.toList.drop 24 = dktX0_isSmall_1 := dk_seg dksX0_isSmall_0 24 rfl rfl
theorem dX0_isSmall_0 : decode cX0_isSmall 0 = .ok (.iload_n 0, 1) := dk_26 (dk_at dksX0_isSmall_0 0 rfl rfl)
theorem dX0_isSmall_1 : decode cX0_isSmall 1 = .ok (.sipush 10000, 3) := dk_17 39 16 (dk_at dksX0_isSmall_0 1 rfl rfl)
theorem dX0_isSmall_4 : decode cX0_isSmall 4 = .ok (.idiv, 1) := dk_108 (dk_at dksX0_isSmall_0 4 rfl rfl)
theorem dX0_isSmall_5 : decode cX0_isSmall 5 = .ok (.bipush 99, 2) := dk_16 99 (dk_at dksX0_isSmall_0 5 rfl rfl)
theorem dX0_isSmall_7 : decode cX0_isSmall 7 = .ok (.if_icmp .gt 17, 3) := dk_163 0 17 (dk_at dksX0_isSmall_0 7 rfl rfl)
theorem dX0_isSmall_10 : decode cX0_isSmall 10 = .ok (.iload_n 0, 1) := dk_26 (dk_at dksX0_isSmall_0 10 rfl rfl)
theorem dX0_isSmall_11 : decode cX0_isSmall 11 = .ok (.sipush 10000, 3) := dk_17 39 16 (dk_at dksX0_isSmall_0 11 rfl rfl)
theorem dX0_isSmall_14 : decode cX0_isSmall 14 = .ok (.irem, 1) := dk_112 (dk_at dksX0_isSmall_0 14 rfl rfl)
theorem dX0_isSmall_15 : decode cX0_isSmall 15 = .ok (.bipush 99, 2) := dk_16 99 (dk_at dksX0_isSmall_0 15 rfl rfl)
theorem dX0_isSmall_17 : decode cX0_isSmall 17 = .ok (.if_icmp .gt 7, 3) := dk_163 0 7 (dk_at dksX0_isSmall_0 17 rfl rfl)
theorem dX0_isSmall_20 : decode cX0_isSmall 20 = .ok (.iconst 1, 1) := dk_4 (dk_at dksX0_isSmall_0 20 rfl rfl)
theorem dX0_isSmall_21 : decode cX0_isSmall 21 = .ok (.goto 4, 3) := dk_167 0 4 (dk_at dksX0_isSmall_0 21 rfl rfl)
theorem dX0_isSmall_24 : decode cX0_isSmall 24 = .ok (.iconst 0, 1) := dk_3 (dk_at dksX0_isSmall_1 0 rfl rfl)
theorem dX0_isSmall_25 : decode cX0_isSmall 25 = .ok (.ireturn, 1) := dk_172 (dk_at dksX0_isSmall_1 1 rfl rfl)
abbrev cX0_taught : ByteArray := prog_1_method_46_code
def yX0_taught : MethodName := ⟨RX0, "taught", "(III)I"⟩
def dkwX0_taught_4 : List UInt8 := [167, 255, 226, 29, 154, 0, 8, 21, 4, 167, 0, 10, 42, 180, 0, 52, 182, 0, 93, 172]
abbrev dktX0_taught_4 : List UInt8 := dkwX0_taught_4 ++ []
def dkwX0_taught_3 : List UInt8 := [21, 4, 42, 42, 180, 0, 47, 21, 5, 42, 180, 1, 32, 112, 46, 182, 1, 52, 96, 54, 4, 132, 5, 1]
abbrev dktX0_taught_3 : List UInt8 := dkwX0_taught_3 ++ dktX0_taught_4
def dkwX0_taught_2 : List UInt8 := [180, 0, 52, 42, 180, 0, 15, 27, 50, 182, 1, 48, 3, 54, 4, 3, 54, 5, 21, 5, 28, 162, 0, 30]
abbrev dktX0_taught_2 : List UInt8 := dkwX0_taught_2 ++ dktX0_taught_3
def dkwX0_taught_1 : List UInt8 := [153, 0, 10, 42, 182, 1, 44, 154, 0, 5, 2, 172, 42, 180, 1, 32, 154, 0, 6, 16, 251, 172, 42]
abbrev dktX0_taught_1 : List UInt8 := dkwX0_taught_1 ++ dktX0_taught_2
def dkwX0_taught_0 : List UInt8 := [42, 27, 182, 0, 89, 153, 0, 29, 28, 4, 16, 50, 184, 0, 73, 153, 0, 19, 29, 3, 4, 184, 0, 73]
abbrev dktX0_taught_0 : List UInt8 := dkwX0_taught_0 ++ dktX0_taught_1
theorem dksX0_taught_0 : cX0_taught.data.toList.drop 0 = dktX0_taught_0 := by decide +kernel
theorem dksX0_taught_1 : cX0_taught.data.toList.drop 24 = dktX0_taught_1 := dk_seg dksX0_taught_0 24 rfl rfl
theorem dksX0_taught_2 : cX0_taught.data.toList.drop 47 = dktX0_taught_2 := dk_seg dksX0_taught_1 23 rfl rfl
theorem dksX0_taught_3 : cX0_taught.data.toList.drop 71 = dktX0_taught_3 := dk_seg dksX0_taught_2 24 rfl rfl
theorem dksX0_taught_4 : cX0_taught.data.toList.drop 95 = dktX0_taught_4 := dk_seg dksX0_taught_3 24 rfl rfl
theorem dX0_taught_0 : decode cX0_taught 0 = .ok (.aload_n 0, 1) := dk_42 (dk_at dksX0_taught_0 0 rfl rfl)
theorem dX0_taught_1 : decode cX0_taught 1 = .ok (.iload_n 1, 1) := dk_27 (dk_at dksX0_taught_0 1 rfl rfl)
theorem dX0_taught_2 : decode cX0_taught 2 = .ok (.invokevirtual 89, 3) := dk_182 0 89 (dk_at dksX0_taught_0 2 rfl rfl)
theorem dX0_taught_5 : decode cX0_taught 5 = .ok (.ifCond .eq 29, 3) := dk_153 0 29 (dk_at dksX0_taught_0 5 rfl rfl)
theorem dX0_taught_8 : decode cX0_taught 8 = .ok (.iload_n 2, 1) := dk_28 (dk_at dksX0_taught_0 8 rfl rfl)
theorem dX0_taught_9 : decode cX0_taught 9 = .ok (.iconst 1, 1) := dk_4 (dk_at dksX0_taught_0 9 rfl rfl)
theorem dX0_taught_10 : decode cX0_taught 10 = .ok (.bipush 50, 2) := dk_16 50 (dk_at dksX0_taught_0 10 rfl rfl)
theorem dX0_taught_12 : decode cX0_taught 12 = .ok (.invokestatic 73, 3) := dk_184 0 73 (dk_at dksX0_taught_0 12 rfl rfl)
theorem dX0_taught_15 : decode cX0_taught 15 = .ok (.ifCond .eq 19, 3) := dk_153 0 19 (dk_at dksX0_taught_0 15 rfl rfl)
theorem dX0_taught_18 : decode cX0_taught 18 = .ok (.iload_n 3, 1) := dk_29 (dk_at dksX0_taught_0 18 rfl rfl)
theorem dX0_taught_19 : decode cX0_taught 19 = .ok (.iconst 0, 1) := dk_3 (dk_at dksX0_taught_0 19 rfl rfl)
theorem dX0_taught_20 : decode cX0_taught 20 = .ok (.iconst 1, 1) := dk_4 (dk_at dksX0_taught_0 20 rfl rfl)
theorem dX0_taught_21 : decode cX0_taught 21 = .ok (.invokestatic 73, 3) := dk_184 0 73 (dk_at dksX0_taught_0 21 rfl rfl)
theorem dX0_taught_24 : decode cX0_taught 24 = .ok (.ifCond .eq 10, 3) := dk_153 0 10 (dk_at dksX0_taught_1 0 rfl rfl)
theorem dX0_taught_27 : decode cX0_taught 27 = .ok (.aload_n 0, 1) := dk_42 (dk_at dksX0_taught_1 3 rfl rfl)
theorem dX0_taught_28 : decode cX0_taught 28 = .ok (.invokevirtual 300, 3) := dk_182 1 44 (dk_at dksX0_taught_1 4 rfl rfl)
theorem dX0_taught_31 : decode cX0_taught 31 = .ok (.ifCond .ne 5, 3) := dk_154 0 5 (dk_at dksX0_taught_1 7 rfl rfl)
theorem dX0_taught_34 : decode cX0_taught 34 = .ok (.iconst (-1), 1) := dk_2 (dk_at dksX0_taught_1 10 rfl rfl)
theorem dX0_taught_35 : decode cX0_taught 35 = .ok (.ireturn, 1) := dk_172 (dk_at dksX0_taught_1 11 rfl rfl)
theorem dX0_taught_36 : decode cX0_taught 36 = .ok (.aload_n 0, 1) := dk_42 (dk_at dksX0_taught_1 12 rfl rfl)
theorem dX0_taught_37 : decode cX0_taught 37 = .ok (.getfield 288, 3) := dk_180 1 32 (dk_at dksX0_taught_1 13 rfl rfl)
theorem dX0_taught_40 : decode cX0_taught 40 = .ok (.ifCond .ne 6, 3) := dk_154 0 6 (dk_at dksX0_taught_1 16 rfl rfl)
theorem dX0_taught_43 : decode cX0_taught 43 = .ok (.bipush (-5), 2) := dk_16 251 (dk_at dksX0_taught_1 19 rfl rfl)
theorem dX0_taught_45 : decode cX0_taught 45 = .ok (.ireturn, 1) := dk_172 (dk_at dksX0_taught_1 21 rfl rfl)
theorem dX0_taught_46 : decode cX0_taught 46 = .ok (.aload_n 0, 1) := dk_42 (dk_at dksX0_taught_1 22 rfl rfl)
theorem dX0_taught_47 : decode cX0_taught 47 = .ok (.getfield 52, 3) := dk_180 0 52 (dk_at dksX0_taught_2 0 rfl rfl)
theorem dX0_taught_50 : decode cX0_taught 50 = .ok (.aload_n 0, 1) := dk_42 (dk_at dksX0_taught_2 3 rfl rfl)
theorem dX0_taught_51 : decode cX0_taught 51 = .ok (.getfield 15, 3) := dk_180 0 15 (dk_at dksX0_taught_2 4 rfl rfl)
theorem dX0_taught_54 : decode cX0_taught 54 = .ok (.iload_n 1, 1) := dk_27 (dk_at dksX0_taught_2 7 rfl rfl)
theorem dX0_taught_55 : decode cX0_taught 55 = .ok (.aaload, 1) := dk_50 (dk_at dksX0_taught_2 8 rfl rfl)
theorem dX0_taught_56 : decode cX0_taught 56 = .ok (.invokevirtual 304, 3) := dk_182 1 48 (dk_at dksX0_taught_2 9 rfl rfl)
theorem dX0_taught_59 : decode cX0_taught 59 = .ok (.iconst 0, 1) := dk_3 (dk_at dksX0_taught_2 12 rfl rfl)
theorem dX0_taught_60 : decode cX0_taught 60 = .ok (.istore 4, 2) := dk_54 4 (dk_at dksX0_taught_2 13 rfl rfl)
theorem dX0_taught_62 : decode cX0_taught 62 = .ok (.iconst 0, 1) := dk_3 (dk_at dksX0_taught_2 15 rfl rfl)
theorem dX0_taught_63 : decode cX0_taught 63 = .ok (.istore 5, 2) := dk_54 5 (dk_at dksX0_taught_2 16 rfl rfl)
theorem dX0_taught_65 : decode cX0_taught 65 = .ok (.iload 5, 2) := dk_21 5 (dk_at dksX0_taught_2 18 rfl rfl)
theorem dX0_taught_67 : decode cX0_taught 67 = .ok (.iload_n 2, 1) := dk_28 (dk_at dksX0_taught_2 20 rfl rfl)
theorem dX0_taught_68 : decode cX0_taught 68 = .ok (.if_icmp .ge 30, 3) := dk_162 0 30 (dk_at dksX0_taught_2 21 rfl rfl)
theorem dX0_taught_71 : decode cX0_taught 71 = .ok (.iload 4, 2) := dk_21 4 (dk_at dksX0_taught_3 0 rfl rfl)
theorem dX0_taught_73 : decode cX0_taught 73 = .ok (.aload_n 0, 1) := dk_42 (dk_at dksX0_taught_3 2 rfl rfl)
theorem dX0_taught_74 : decode cX0_taught 74 = .ok (.aload_n 0, 1) := dk_42 (dk_at dksX0_taught_3 3 rfl rfl)
theorem dX0_taught_75 : decode cX0_taught 75 = .ok (.getfield 47, 3) := dk_180 0 47 (dk_at dksX0_taught_3 4 rfl rfl)
theorem dX0_taught_78 : decode cX0_taught 78 = .ok (.iload 5, 2) := dk_21 5 (dk_at dksX0_taught_3 7 rfl rfl)
theorem dX0_taught_80 : decode cX0_taught 80 = .ok (.aload_n 0, 1) := dk_42 (dk_at dksX0_taught_3 9 rfl rfl)
theorem dX0_taught_81 : decode cX0_taught 81 = .ok (.getfield 288, 3) := dk_180 1 32 (dk_at dksX0_taught_3 10 rfl rfl)
theorem dX0_taught_84 : decode cX0_taught 84 = .ok (.irem, 1) := dk_112 (dk_at dksX0_taught_3 13 rfl rfl)
theorem dX0_taught_85 : decode cX0_taught 85 = .ok (.iaload, 1) := dk_46 (dk_at dksX0_taught_3 14 rfl rfl)
theorem dX0_taught_86 : decode cX0_taught 86 = .ok (.invokevirtual 308, 3) := dk_182 1 52 (dk_at dksX0_taught_3 15 rfl rfl)
theorem dX0_taught_89 : decode cX0_taught 89 = .ok (.iadd, 1) := dk_96 (dk_at dksX0_taught_3 18 rfl rfl)
theorem dX0_taught_90 : decode cX0_taught 90 = .ok (.istore 4, 2) := dk_54 4 (dk_at dksX0_taught_3 19 rfl rfl)
theorem dX0_taught_92 : decode cX0_taught 92 = .ok (.iinc 5 1, 3) := dk_132 5 1 (dk_at dksX0_taught_3 21 rfl rfl)
theorem dX0_taught_95 : decode cX0_taught 95 = .ok (.goto (-30), 3) := dk_167 255 226 (dk_at dksX0_taught_4 0 rfl rfl)
theorem dX0_taught_98 : decode cX0_taught 98 = .ok (.iload_n 3, 1) := dk_29 (dk_at dksX0_taught_4 3 rfl rfl)
theorem dX0_taught_99 : decode cX0_taught 99 = .ok (.ifCond .ne 8, 3) := dk_154 0 8 (dk_at dksX0_taught_4 4 rfl rfl)
theorem dX0_taught_102 : decode cX0_taught 102 = .ok (.iload 4, 2) := dk_21 4 (dk_at dksX0_taught_4 7 rfl rfl)
theorem dX0_taught_104 : decode cX0_taught 104 = .ok (.goto 10, 3) := dk_167 0 10 (dk_at dksX0_taught_4 9 rfl rfl)
theorem dX0_taught_107 : decode cX0_taught 107 = .ok (.aload_n 0, 1) := dk_42 (dk_at dksX0_taught_4 12 rfl rfl)
theorem dX0_taught_108 : decode cX0_taught 108 = .ok (.getfield 52, 3) := dk_180 0 52 (dk_at dksX0_taught_4 13 rfl rfl)
theorem dX0_taught_111 : decode cX0_taught 111 = .ok (.invokevirtual 93, 3) := dk_182 0 93 (dk_at dksX0_taught_4 16 rfl rfl)
theorem dX0_taught_114 : decode cX0_taught 114 = .ok (.ireturn, 1) := dk_172 (dk_at dksX0_taught_4 19 rfl rfl)
abbrev cX0_canTeach : ByteArray := prog_1_method_45_code
def yX0_canTeach : MethodName := ⟨RX0, "canTeach", "()Z"⟩
def dkwX0_canTeach_1 : List UInt8 := [132, 1, 1, 167, 255, 231, 4, 172]
abbrev dktX0_canTeach_1 : List UInt8 := dkwX0_canTeach_1 ++ []
def dkwX0_canTeach_0 : List UInt8 := [3, 60, 27, 42, 180, 1, 32, 162, 0, 23, 42, 180, 0, 47, 27, 46, 184, 1, 38, 154, 0, 5, 3, 172]
abbrev dktX0_canTeach_0 : List UInt8 := dkwX0_canTeach_0 ++ dktX0_canTeach_1
theorem dksX0_canTeach_0 : cX0_canTeach.data.toList.drop 0 = dktX0_canTeach_0 := by decide +kernel
theorem dksX0_canTeach_1 : cX0_canTeach.data.toList.drop 24 = dktX0_canTeach_1 := dk_seg dksX0_canTeach_0 24 rfl rfl
theorem dX0_canTeach_0 : decode cX0_canTeach 0 = .ok (.iconst 0, 1) := dk_3 (dk_at dksX0_canTeach_0 0 rfl rfl)
theorem dX0_canTeach_1 : decode cX0_canTeach 1 = .ok (.istore_n 1, 1) := dk_60 (dk_at dksX0_canTeach_0 1 rfl rfl)
theorem dX0_canTeach_2 : decode cX0_canTeach 2 = .ok (.iload_n 1, 1) := dk_27 (dk_at dksX0_canTeach_0 2 rfl rfl)
theorem dX0_canTeach_3 : decode cX0_canTeach 3 = .ok (.aload_n 0, 1) := dk_42 (dk_at dksX0_canTeach_0 3 rfl rfl)
theorem dX0_canTeach_4 : decode cX0_canTeach 4 = .ok (.getfield 288, 3) := dk_180 1 32 (dk_at dksX0_canTeach_0 4 rfl rfl)
theorem dX0_canTeach_7 : decode cX0_canTeach 7 = .ok (.if_icmp .ge 23, 3) := dk_162 0 23 (dk_at dksX0_canTeach_0 7 rfl rfl)
theorem dX0_canTeach_10 : decode cX0_canTeach 10 = .ok (.aload_n 0, 1) := dk_42 (dk_at dksX0_canTeach_0 10 rfl rfl)
theorem dX0_canTeach_11 : decode cX0_canTeach 11 = .ok (.getfield 47, 3) := dk_180 0 47 (dk_at dksX0_canTeach_0 11 rfl rfl)
theorem dX0_canTeach_14 : decode cX0_canTeach 14 = .ok (.iload_n 1, 1) := dk_27 (dk_at dksX0_canTeach_0 14 rfl rfl)
theorem dX0_canTeach_15 : decode cX0_canTeach 15 = .ok (.iaload, 1) := dk_46 (dk_at dksX0_canTeach_0 15 rfl rfl)
theorem dX0_canTeach_16 : decode cX0_canTeach 16 = .ok (.invokestatic 294, 3) := dk_184 1 38 (dk_at dksX0_canTeach_0 16 rfl rfl)
theorem dX0_canTeach_19 : decode cX0_canTeach 19 = .ok (.ifCond .ne 5, 3) := dk_154 0 5 (dk_at dksX0_canTeach_0 19 rfl rfl)
theorem dX0_canTeach_22 : decode cX0_canTeach 22 = .ok (.iconst 0, 1) := dk_3 (dk_at dksX0_canTeach_0 22 rfl rfl)
theorem dX0_canTeach_23 : decode cX0_canTeach 23 = .ok (.ireturn, 1) := dk_172 (dk_at dksX0_canTeach_0 23 rfl rfl)
theorem dX0_canTeach_24 : decode cX0_canTeach 24 = .ok (.iinc 1 1, 3) := dk_132 1 1 (dk_at dksX0_canTeach_1 0 rfl rfl)
theorem dX0_canTeach_27 : decode cX0_canTeach 27 = .ok (.goto (-25), 3) := dk_167 255 231 (dk_at dksX0_canTeach_1 3 rfl rfl)
theorem dX0_canTeach_30 : decode cX0_canTeach 30 = .ok (.iconst 1, 1) := dk_4 (dk_at dksX0_canTeach_1 6 rfl rfl)
theorem dX0_canTeach_31 : decode cX0_canTeach 31 = .ok (.ireturn, 1) := dk_172 (dk_at dksX0_canTeach_1 7 rfl rfl)
abbrev cX0_teach : ByteArray := prog_1_method_44_code
def yX0_teach : MethodName := ⟨RX0, "teach", "(I)I"⟩
def dkwX0_teach_1 : List UInt8 := [17, 39, 16, 108, 27, 17, 39, 16, 112, 182, 1, 41, 87, 28, 172]
abbrev dktX0_teach_1 : List UInt8 := dkwX0_teach_1 ++ []
def dkwX0_teach_0 : List UInt8 := [42, 42, 180, 0, 52, 27, 17, 39, 16, 108, 27, 17, 39, 16, 112, 182, 0, 223, 61, 42, 180, 0, 52, 27]
abbrev dktX0_teach_0 : List UInt8 := dkwX0_teach_0 ++ dktX0_teach_1
theorem dksX0_teach_0 : cX0_teach.data.toList.drop 0 = dktX0_teach_0 := by decide +kernel
theorem dksX0_teach_1 : cX0_teach.data.toList.drop 24 = dktX0_teach_1 := dk_seg dksX0_teach_0 24 rfl rfl
theorem dX0_teach_0 : decode cX0_teach 0 = .ok (.aload_n 0, 1) := dk_42 (dk_at dksX0_teach_0 0 rfl rfl)
theorem dX0_teach_1 : decode cX0_teach 1 = .ok (.aload_n 0, 1) := dk_42 (dk_at dksX0_teach_0 1 rfl rfl)
theorem dX0_teach_2 : decode cX0_teach 2 = .ok (.getfield 52, 3) := dk_180 0 52 (dk_at dksX0_teach_0 2 rfl rfl)
theorem dX0_teach_5 : decode cX0_teach 5 = .ok (.iload_n 1, 1) := dk_27 (dk_at dksX0_teach_0 5 rfl rfl)
theorem dX0_teach_6 : decode cX0_teach 6 = .ok (.sipush 10000, 3) := dk_17 39 16 (dk_at dksX0_teach_0 6 rfl rfl)
theorem dX0_teach_9 : decode cX0_teach 9 = .ok (.idiv, 1) := dk_108 (dk_at dksX0_teach_0 9 rfl rfl)
theorem dX0_teach_10 : decode cX0_teach 10 = .ok (.iload_n 1, 1) := dk_27 (dk_at dksX0_teach_0 10 rfl rfl)
theorem dX0_teach_11 : decode cX0_teach 11 = .ok (.sipush 10000, 3) := dk_17 39 16 (dk_at dksX0_teach_0 11 rfl rfl)
theorem dX0_teach_14 : decode cX0_teach 14 = .ok (.irem, 1) := dk_112 (dk_at dksX0_teach_0 14 rfl rfl)
theorem dX0_teach_15 : decode cX0_teach 15 = .ok (.invokevirtual 223, 3) := dk_182 0 223 (dk_at dksX0_teach_0 15 rfl rfl)
theorem dX0_teach_18 : decode cX0_teach 18 = .ok (.istore_n 2, 1) := dk_61 (dk_at dksX0_teach_0 18 rfl rfl)
theorem dX0_teach_19 : decode cX0_teach 19 = .ok (.aload_n 0, 1) := dk_42 (dk_at dksX0_teach_0 19 rfl rfl)
theorem dX0_teach_20 : decode cX0_teach 20 = .ok (.getfield 52, 3) := dk_180 0 52 (dk_at dksX0_teach_0 20 rfl rfl)
theorem dX0_teach_23 : decode cX0_teach 23 = .ok (.iload_n 1, 1) := dk_27 (dk_at dksX0_teach_0 23 rfl rfl)
theorem dX0_teach_24 : decode cX0_teach 24 = .ok (.sipush 10000, 3) := dk_17 39 16 (dk_at dksX0_teach_1 0 rfl rfl)
theorem dX0_teach_27 : decode cX0_teach 27 = .ok (.idiv, 1) := dk_108 (dk_at dksX0_teach_1 3 rfl rfl)
theorem dX0_teach_28 : decode cX0_teach 28 = .ok (.iload_n 1, 1) := dk_27 (dk_at dksX0_teach_1 4 rfl rfl)
theorem dX0_teach_29 : decode cX0_teach 29 = .ok (.sipush 10000, 3) := dk_17 39 16 (dk_at dksX0_teach_1 5 rfl rfl)
theorem dX0_teach_32 : decode cX0_teach 32 = .ok (.irem, 1) := dk_112 (dk_at dksX0_teach_1 8 rfl rfl)
theorem dX0_teach_33 : decode cX0_teach 33 = .ok (.invokevirtual 297, 3) := dk_182 1 41 (dk_at dksX0_teach_1 9 rfl rfl)
theorem dX0_teach_36 : decode cX0_teach 36 = .ok (.pop, 1) := dk_87 (dk_at dksX0_teach_1 12 rfl rfl)
theorem dX0_teach_37 : decode cX0_teach 37 = .ok (.iload_n 2, 1) := dk_28 (dk_at dksX0_teach_1 13 rfl rfl)
theorem dX0_teach_38 : decode cX0_teach 38 = .ok (.ireturn, 1) := dk_172 (dk_at dksX0_teach_1 14 rfl rfl)
abbrev cX0_first : ByteArray := prog_1_method_48_code
def yX0_first : MethodName := ⟨RX0, "first", "(II)I"⟩
def dkwX0_first_3 : List UInt8 := [167, 0, 7, 42, 180, 1, 58, 172]
abbrev dktX0_first_3 : List UInt8 := dkwX0_first_3 ++ []
def dkwX0_first_2 : List UInt8 := [8, 188, 10, 3, 8, 42, 180, 1, 32, 184, 0, 212, 182, 1, 61, 28, 154, 0, 10, 42, 180, 1, 55]
abbrev dktX0_first_2 : List UInt8 := dkwX0_first_2 ++ dktX0_first_3
def dkwX0_first_1 : List UInt8 := [2, 172, 42, 180, 1, 32, 154, 0, 6, 16, 251, 172, 42, 3, 181, 1, 55, 42, 42, 180, 0, 15, 27, 50]
abbrev dktX0_first_1 : List UInt8 := dkwX0_first_1 ++ dktX0_first_2
def dkwX0_first_0 : List UInt8 := [42, 27, 182, 0, 89, 153, 0, 19, 28, 3, 4, 184, 0, 73, 153, 0, 10, 42, 182, 1, 44, 154, 0, 5]
abbrev dktX0_first_0 : List UInt8 := dkwX0_first_0 ++ dktX0_first_1
theorem dksX0_first_0 : cX0_first.data.toList.drop 0 = dktX0_first_0 := by decide +kernel
theorem dksX0_first_1 : cX0_first.data.toList.drop 24 = dktX0_first_1 := dk_seg dksX0_first_0 24 rfl rfl
theorem dksX0_first_2 : cX0_first.data.toList.drop 48 = dktX0_first_2 := dk_seg dksX0_first_1 24 rfl rfl
theorem dksX0_first_3 : cX0_first.data.toList.drop 71 = dktX0_first_3 := dk_seg dksX0_first_2 23 rfl rfl
theorem dX0_first_0 : decode cX0_first 0 = .ok (.aload_n 0, 1) := dk_42 (dk_at dksX0_first_0 0 rfl rfl)
theorem dX0_first_1 : decode cX0_first 1 = .ok (.iload_n 1, 1) := dk_27 (dk_at dksX0_first_0 1 rfl rfl)
theorem dX0_first_2 : decode cX0_first 2 = .ok (.invokevirtual 89, 3) := dk_182 0 89 (dk_at dksX0_first_0 2 rfl rfl)
theorem dX0_first_5 : decode cX0_first 5 = .ok (.ifCond .eq 19, 3) := dk_153 0 19 (dk_at dksX0_first_0 5 rfl rfl)
theorem dX0_first_8 : decode cX0_first 8 = .ok (.iload_n 2, 1) := dk_28 (dk_at dksX0_first_0 8 rfl rfl)
theorem dX0_first_9 : decode cX0_first 9 = .ok (.iconst 0, 1) := dk_3 (dk_at dksX0_first_0 9 rfl rfl)
theorem dX0_first_10 : decode cX0_first 10 = .ok (.iconst 1, 1) := dk_4 (dk_at dksX0_first_0 10 rfl rfl)
theorem dX0_first_11 : decode cX0_first 11 = .ok (.invokestatic 73, 3) := dk_184 0 73 (dk_at dksX0_first_0 11 rfl rfl)
theorem dX0_first_14 : decode cX0_first 14 = .ok (.ifCond .eq 10, 3) := dk_153 0 10 (dk_at dksX0_first_0 14 rfl rfl)
theorem dX0_first_17 : decode cX0_first 17 = .ok (.aload_n 0, 1) := dk_42 (dk_at dksX0_first_0 17 rfl rfl)
theorem dX0_first_18 : decode cX0_first 18 = .ok (.invokevirtual 300, 3) := dk_182 1 44 (dk_at dksX0_first_0 18 rfl rfl)
theorem dX0_first_21 : decode cX0_first 21 = .ok (.ifCond .ne 5, 3) := dk_154 0 5 (dk_at dksX0_first_0 21 rfl rfl)
theorem dX0_first_24 : decode cX0_first 24 = .ok (.iconst (-1), 1) := dk_2 (dk_at dksX0_first_1 0 rfl rfl)
theorem dX0_first_25 : decode cX0_first 25 = .ok (.ireturn, 1) := dk_172 (dk_at dksX0_first_1 1 rfl rfl)
theorem dX0_first_26 : decode cX0_first 26 = .ok (.aload_n 0, 1) := dk_42 (dk_at dksX0_first_1 2 rfl rfl)
theorem dX0_first_27 : decode cX0_first 27 = .ok (.getfield 288, 3) := dk_180 1 32 (dk_at dksX0_first_1 3 rfl rfl)
theorem dX0_first_30 : decode cX0_first 30 = .ok (.ifCond .ne 6, 3) := dk_154 0 6 (dk_at dksX0_first_1 6 rfl rfl)
theorem dX0_first_33 : decode cX0_first 33 = .ok (.bipush (-5), 2) := dk_16 251 (dk_at dksX0_first_1 9 rfl rfl)
theorem dX0_first_35 : decode cX0_first 35 = .ok (.ireturn, 1) := dk_172 (dk_at dksX0_first_1 11 rfl rfl)
theorem dX0_first_36 : decode cX0_first 36 = .ok (.aload_n 0, 1) := dk_42 (dk_at dksX0_first_1 12 rfl rfl)
theorem dX0_first_37 : decode cX0_first 37 = .ok (.iconst 0, 1) := dk_3 (dk_at dksX0_first_1 13 rfl rfl)
theorem dX0_first_38 : decode cX0_first 38 = .ok (.putfield 311, 3) := dk_181 1 55 (dk_at dksX0_first_1 14 rfl rfl)
theorem dX0_first_41 : decode cX0_first 41 = .ok (.aload_n 0, 1) := dk_42 (dk_at dksX0_first_1 17 rfl rfl)
theorem dX0_first_42 : decode cX0_first 42 = .ok (.aload_n 0, 1) := dk_42 (dk_at dksX0_first_1 18 rfl rfl)
theorem dX0_first_43 : decode cX0_first 43 = .ok (.getfield 15, 3) := dk_180 0 15 (dk_at dksX0_first_1 19 rfl rfl)
theorem dX0_first_46 : decode cX0_first 46 = .ok (.iload_n 1, 1) := dk_27 (dk_at dksX0_first_1 22 rfl rfl)
theorem dX0_first_47 : decode cX0_first 47 = .ok (.aaload, 1) := dk_50 (dk_at dksX0_first_1 23 rfl rfl)
theorem dX0_first_48 : decode cX0_first 48 = .ok (.iconst 5, 1) := dk_8 (dk_at dksX0_first_2 0 rfl rfl)
theorem dX0_first_49 : decode cX0_first 49 = .ok (.newarray .int, 2) := dk_188_10 (dk_at dksX0_first_2 1 rfl rfl)
theorem dX0_first_51 : decode cX0_first 51 = .ok (.iconst 0, 1) := dk_3 (dk_at dksX0_first_2 3 rfl rfl)
theorem dX0_first_52 : decode cX0_first 52 = .ok (.iconst 5, 1) := dk_8 (dk_at dksX0_first_2 4 rfl rfl)
theorem dX0_first_53 : decode cX0_first 53 = .ok (.aload_n 0, 1) := dk_42 (dk_at dksX0_first_2 5 rfl rfl)
theorem dX0_first_54 : decode cX0_first 54 = .ok (.getfield 288, 3) := dk_180 1 32 (dk_at dksX0_first_2 6 rfl rfl)
theorem dX0_first_57 : decode cX0_first 57 = .ok (.invokestatic 212, 3) := dk_184 0 212 (dk_at dksX0_first_2 9 rfl rfl)
theorem dX0_first_60 : decode cX0_first 60 = .ok (.invokevirtual 317, 3) := dk_182 1 61 (dk_at dksX0_first_2 12 rfl rfl)
theorem dX0_first_63 : decode cX0_first 63 = .ok (.iload_n 2, 1) := dk_28 (dk_at dksX0_first_2 15 rfl rfl)
theorem dX0_first_64 : decode cX0_first 64 = .ok (.ifCond .ne 10, 3) := dk_154 0 10 (dk_at dksX0_first_2 16 rfl rfl)
theorem dX0_first_67 : decode cX0_first 67 = .ok (.aload_n 0, 1) := dk_42 (dk_at dksX0_first_2 19 rfl rfl)
theorem dX0_first_68 : decode cX0_first 68 = .ok (.getfield 311, 3) := dk_180 1 55 (dk_at dksX0_first_2 20 rfl rfl)
theorem dX0_first_71 : decode cX0_first 71 = .ok (.goto 7, 3) := dk_167 0 7 (dk_at dksX0_first_3 0 rfl rfl)
theorem dX0_first_74 : decode cX0_first 74 = .ok (.aload_n 0, 1) := dk_42 (dk_at dksX0_first_3 3 rfl rfl)
theorem dX0_first_75 : decode cX0_first 75 = .ok (.getfield 314, 3) := dk_180 1 58 (dk_at dksX0_first_3 4 rfl rfl)
theorem dX0_first_78 : decode cX0_first 78 = .ok (.ireturn, 1) := dk_172 (dk_at dksX0_first_3 7 rfl rfl)
abbrev cX0_orders : ByteArray := prog_1_method_47_code
def yX0_orders : MethodName := ⟨RX0, "orders", "(LHeadReckons$Head;[III)V"⟩
def dkwX0_orders_8 : List UInt8 := [132, 5, 1, 167, 255, 185, 177]
abbrev dktX0_orders_8 : List UInt8 := dkwX0_orders_8 ++ []
def dkwX0_orders_7 : List UInt8 := [153, 0, 6, 167, 0, 19, 44, 29, 21, 5, 79, 42, 43, 44, 29, 4, 96, 21, 4, 182, 1, 61]
abbrev dktX0_orders_7 : List UInt8 := dkwX0_orders_7 ++ dktX0_orders_8
def dkwX0_orders_6 : List UInt8 := [46, 21, 5, 160, 0, 7, 4, 167, 0, 4, 3, 128, 54, 6, 132, 7, 1, 167, 255, 228, 21, 6]
abbrev dktX0_orders_6 : List UInt8 := dkwX0_orders_6 ++ dktX0_orders_7
def dkwX0_orders_5 : List UInt8 := [21, 5, 21, 4, 162, 0, 70, 3, 54, 6, 3, 54, 7, 21, 7, 29, 162, 0, 28, 21, 6, 44, 21, 7]
abbrev dktX0_orders_5 : List UInt8 := dkwX0_orders_5 ++ dktX0_orders_6
def dkwX0_orders_4 : List UInt8 := [180, 1, 58, 161, 0, 4, 177, 42, 21, 6, 181, 1, 55, 42, 21, 5, 181, 1, 58, 177, 3, 54, 5]
abbrev dktX0_orders_4 : List UInt8 := dkwX0_orders_4 ++ dktX0_orders_5
def dkwX0_orders_3 : List UInt8 := [46, 96, 4, 96, 54, 6, 132, 7, 1, 167, 255, 199, 42, 180, 1, 55, 158, 0, 13, 21, 5, 42]
abbrev dktX0_orders_3 : List UInt8 := dkwX0_orders_3 ++ dktX0_orders_4
def dkwX0_orders_2 : List UInt8 := [21, 7, 46, 46, 182, 1, 52, 96, 54, 5, 132, 8, 1, 167, 255, 229, 16, 10, 21, 6, 104, 44, 21, 7]
abbrev dktX0_orders_2 : List UInt8 := dkwX0_orders_2 ++ dktX0_orders_3
def dkwX0_orders_1 : List UInt8 := [21, 7, 21, 4, 162, 0, 56, 3, 54, 8, 21, 8, 6, 162, 0, 27, 21, 5, 42, 42, 180, 0, 47, 44]
abbrev dktX0_orders_1 : List UInt8 := dkwX0_orders_1 ++ dktX0_orders_2
def dkwX0_orders_0 : List UInt8 := [29, 21, 4, 160, 0, 110, 42, 180, 0, 52, 43, 182, 1, 48, 3, 54, 5, 3, 54, 6, 3, 54, 7]
abbrev dktX0_orders_0 : List UInt8 := dkwX0_orders_0 ++ dktX0_orders_1
theorem dksX0_orders_0 : cX0_orders.data.toList.drop 0 = dktX0_orders_0 := by decide +kernel
theorem dksX0_orders_1 : cX0_orders.data.toList.drop 23 = dktX0_orders_1 := dk_seg dksX0_orders_0 23 rfl rfl
theorem dksX0_orders_2 : cX0_orders.data.toList.drop 47 = dktX0_orders_2 := dk_seg dksX0_orders_1 24 rfl rfl
theorem dksX0_orders_3 : cX0_orders.data.toList.drop 71 = dktX0_orders_3 := dk_seg dksX0_orders_2 24 rfl rfl
theorem dksX0_orders_4 : cX0_orders.data.toList.drop 93 = dktX0_orders_4 := dk_seg dksX0_orders_3 22 rfl rfl
theorem dksX0_orders_5 : cX0_orders.data.toList.drop 116 = dktX0_orders_5 := dk_seg dksX0_orders_4 23 rfl rfl
theorem dksX0_orders_6 : cX0_orders.data.toList.drop 140 = dktX0_orders_6 := dk_seg dksX0_orders_5 24 rfl rfl
theorem dksX0_orders_7 : cX0_orders.data.toList.drop 162 = dktX0_orders_7 := dk_seg dksX0_orders_6 22 rfl rfl
theorem dksX0_orders_8 : cX0_orders.data.toList.drop 184 = dktX0_orders_8 := dk_seg dksX0_orders_7 22 rfl rfl
theorem dX0_orders_0 : decode cX0_orders 0 = .ok (.iload_n 3, 1) := dk_29 (dk_at dksX0_orders_0 0 rfl rfl)
theorem dX0_orders_1 : decode cX0_orders 1 = .ok (.iload 4, 2) := dk_21 4 (dk_at dksX0_orders_0 1 rfl rfl)
theorem dX0_orders_3 : decode cX0_orders 3 = .ok (.if_icmp .ne 110, 3) := dk_160 0 110 (dk_at dksX0_orders_0 3 rfl rfl)
theorem dX0_orders_6 : decode cX0_orders 6 = .ok (.aload_n 0, 1) := dk_42 (dk_at dksX0_orders_0 6 rfl rfl)
theorem dX0_orders_7 : decode cX0_orders 7 = .ok (.getfield 52, 3) := dk_180 0 52 (dk_at dksX0_orders_0 7 rfl rfl)
theorem dX0_orders_10 : decode cX0_orders 10 = .ok (.aload_n 1, 1) := dk_43 (dk_at dksX0_orders_0 10 rfl rfl)
theorem dX0_orders_11 : decode cX0_orders 11 = .ok (.invokevirtual 304, 3) := dk_182 1 48 (dk_at dksX0_orders_0 11 rfl rfl)
theorem dX0_orders_14 : decode cX0_orders 14 = .ok (.iconst 0, 1) := dk_3 (dk_at dksX0_orders_0 14 rfl rfl)
theorem dX0_orders_15 : decode cX0_orders 15 = .ok (.istore 5, 2) := dk_54 5 (dk_at dksX0_orders_0 15 rfl rfl)
theorem dX0_orders_17 : decode cX0_orders 17 = .ok (.iconst 0, 1) := dk_3 (dk_at dksX0_orders_0 17 rfl rfl)
theorem dX0_orders_18 : decode cX0_orders 18 = .ok (.istore 6, 2) := dk_54 6 (dk_at dksX0_orders_0 18 rfl rfl)
theorem dX0_orders_20 : decode cX0_orders 20 = .ok (.iconst 0, 1) := dk_3 (dk_at dksX0_orders_0 20 rfl rfl)
theorem dX0_orders_21 : decode cX0_orders 21 = .ok (.istore 7, 2) := dk_54 7 (dk_at dksX0_orders_0 21 rfl rfl)
theorem dX0_orders_23 : decode cX0_orders 23 = .ok (.iload 7, 2) := dk_21 7 (dk_at dksX0_orders_1 0 rfl rfl)
theorem dX0_orders_25 : decode cX0_orders 25 = .ok (.iload 4, 2) := dk_21 4 (dk_at dksX0_orders_1 2 rfl rfl)
theorem dX0_orders_27 : decode cX0_orders 27 = .ok (.if_icmp .ge 56, 3) := dk_162 0 56 (dk_at dksX0_orders_1 4 rfl rfl)
theorem dX0_orders_30 : decode cX0_orders 30 = .ok (.iconst 0, 1) := dk_3 (dk_at dksX0_orders_1 7 rfl rfl)
theorem dX0_orders_31 : decode cX0_orders 31 = .ok (.istore 8, 2) := dk_54 8 (dk_at dksX0_orders_1 8 rfl rfl)
theorem dX0_orders_33 : decode cX0_orders 33 = .ok (.iload 8, 2) := dk_21 8 (dk_at dksX0_orders_1 10 rfl rfl)
theorem dX0_orders_35 : decode cX0_orders 35 = .ok (.iconst 3, 1) := dk_6 (dk_at dksX0_orders_1 12 rfl rfl)
theorem dX0_orders_36 : decode cX0_orders 36 = .ok (.if_icmp .ge 27, 3) := dk_162 0 27 (dk_at dksX0_orders_1 13 rfl rfl)
theorem dX0_orders_39 : decode cX0_orders 39 = .ok (.iload 5, 2) := dk_21 5 (dk_at dksX0_orders_1 16 rfl rfl)
theorem dX0_orders_41 : decode cX0_orders 41 = .ok (.aload_n 0, 1) := dk_42 (dk_at dksX0_orders_1 18 rfl rfl)
theorem dX0_orders_42 : decode cX0_orders 42 = .ok (.aload_n 0, 1) := dk_42 (dk_at dksX0_orders_1 19 rfl rfl)
theorem dX0_orders_43 : decode cX0_orders 43 = .ok (.getfield 47, 3) := dk_180 0 47 (dk_at dksX0_orders_1 20 rfl rfl)
theorem dX0_orders_46 : decode cX0_orders 46 = .ok (.aload_n 2, 1) := dk_44 (dk_at dksX0_orders_1 23 rfl rfl)
theorem dX0_orders_47 : decode cX0_orders 47 = .ok (.iload 7, 2) := dk_21 7 (dk_at dksX0_orders_2 0 rfl rfl)
theorem dX0_orders_49 : decode cX0_orders 49 = .ok (.iaload, 1) := dk_46 (dk_at dksX0_orders_2 2 rfl rfl)
theorem dX0_orders_50 : decode cX0_orders 50 = .ok (.iaload, 1) := dk_46 (dk_at dksX0_orders_2 3 rfl rfl)
theorem dX0_orders_51 : decode cX0_orders 51 = .ok (.invokevirtual 308, 3) := dk_182 1 52 (dk_at dksX0_orders_2 4 rfl rfl)
theorem dX0_orders_54 : decode cX0_orders 54 = .ok (.iadd, 1) := dk_96 (dk_at dksX0_orders_2 7 rfl rfl)
theorem dX0_orders_55 : decode cX0_orders 55 = .ok (.istore 5, 2) := dk_54 5 (dk_at dksX0_orders_2 8 rfl rfl)
theorem dX0_orders_57 : decode cX0_orders 57 = .ok (.iinc 8 1, 3) := dk_132 8 1 (dk_at dksX0_orders_2 10 rfl rfl)
theorem dX0_orders_60 : decode cX0_orders 60 = .ok (.goto (-27), 3) := dk_167 255 229 (dk_at dksX0_orders_2 13 rfl rfl)
theorem dX0_orders_63 : decode cX0_orders 63 = .ok (.bipush 10, 2) := dk_16 10 (dk_at dksX0_orders_2 16 rfl rfl)
theorem dX0_orders_65 : decode cX0_orders 65 = .ok (.iload 6, 2) := dk_21 6 (dk_at dksX0_orders_2 18 rfl rfl)
theorem dX0_orders_67 : decode cX0_orders 67 = .ok (.imul, 1) := dk_104 (dk_at dksX0_orders_2 20 rfl rfl)
theorem dX0_orders_68 : decode cX0_orders 68 = .ok (.aload_n 2, 1) := dk_44 (dk_at dksX0_orders_2 21 rfl rfl)
theorem dX0_orders_69 : decode cX0_orders 69 = .ok (.iload 7, 2) := dk_21 7 (dk_at dksX0_orders_2 22 rfl rfl)
theorem dX0_orders_71 : decode cX0_orders 71 = .ok (.iaload, 1) := dk_46 (dk_at dksX0_orders_3 0 rfl rfl)
theorem dX0_orders_72 : decode cX0_orders 72 = .ok (.iadd, 1) := dk_96 (dk_at dksX0_orders_3 1 rfl rfl)
theorem dX0_orders_73 : decode cX0_orders 73 = .ok (.iconst 1, 1) := dk_4 (dk_at dksX0_orders_3 2 rfl rfl)
theorem dX0_orders_74 : decode cX0_orders 74 = .ok (.iadd, 1) := dk_96 (dk_at dksX0_orders_3 3 rfl rfl)
theorem dX0_orders_75 : decode cX0_orders 75 = .ok (.istore 6, 2) := dk_54 6 (dk_at dksX0_orders_3 4 rfl rfl)
theorem dX0_orders_77 : decode cX0_orders 77 = .ok (.iinc 7 1, 3) := dk_132 7 1 (dk_at dksX0_orders_3 6 rfl rfl)
theorem dX0_orders_80 : decode cX0_orders 80 = .ok (.goto (-57), 3) := dk_167 255 199 (dk_at dksX0_orders_3 9 rfl rfl)
theorem dX0_orders_83 : decode cX0_orders 83 = .ok (.aload_n 0, 1) := dk_42 (dk_at dksX0_orders_3 12 rfl rfl)
theorem dX0_orders_84 : decode cX0_orders 84 = .ok (.getfield 311, 3) := dk_180 1 55 (dk_at dksX0_orders_3 13 rfl rfl)
theorem dX0_orders_87 : decode cX0_orders 87 = .ok (.ifCond .le 13, 3) := dk_158 0 13 (dk_at dksX0_orders_3 16 rfl rfl)
theorem dX0_orders_90 : decode cX0_orders 90 = .ok (.iload 5, 2) := dk_21 5 (dk_at dksX0_orders_3 19 rfl rfl)
theorem dX0_orders_92 : decode cX0_orders 92 = .ok (.aload_n 0, 1) := dk_42 (dk_at dksX0_orders_3 21 rfl rfl)
theorem dX0_orders_93 : decode cX0_orders 93 = .ok (.getfield 314, 3) := dk_180 1 58 (dk_at dksX0_orders_4 0 rfl rfl)
theorem dX0_orders_96 : decode cX0_orders 96 = .ok (.if_icmp .lt 4, 3) := dk_161 0 4 (dk_at dksX0_orders_4 3 rfl rfl)
theorem dX0_orders_99 : decode cX0_orders 99 = .ok (.return_, 1) := dk_177 (dk_at dksX0_orders_4 6 rfl rfl)
theorem dX0_orders_100 : decode cX0_orders 100 = .ok (.aload_n 0, 1) := dk_42 (dk_at dksX0_orders_4 7 rfl rfl)
theorem dX0_orders_101 : decode cX0_orders 101 = .ok (.iload 6, 2) := dk_21 6 (dk_at dksX0_orders_4 8 rfl rfl)
theorem dX0_orders_103 : decode cX0_orders 103 = .ok (.putfield 311, 3) := dk_181 1 55 (dk_at dksX0_orders_4 10 rfl rfl)
theorem dX0_orders_106 : decode cX0_orders 106 = .ok (.aload_n 0, 1) := dk_42 (dk_at dksX0_orders_4 13 rfl rfl)
theorem dX0_orders_107 : decode cX0_orders 107 = .ok (.iload 5, 2) := dk_21 5 (dk_at dksX0_orders_4 14 rfl rfl)
theorem dX0_orders_109 : decode cX0_orders 109 = .ok (.putfield 314, 3) := dk_181 1 58 (dk_at dksX0_orders_4 16 rfl rfl)
theorem dX0_orders_112 : decode cX0_orders 112 = .ok (.return_, 1) := dk_177 (dk_at dksX0_orders_4 19 rfl rfl)
theorem dX0_orders_113 : decode cX0_orders 113 = .ok (.iconst 0, 1) := dk_3 (dk_at dksX0_orders_4 20 rfl rfl)
theorem dX0_orders_114 : decode cX0_orders 114 = .ok (.istore 5, 2) := dk_54 5 (dk_at dksX0_orders_4 21 rfl rfl)
theorem dX0_orders_116 : decode cX0_orders 116 = .ok (.iload 5, 2) := dk_21 5 (dk_at dksX0_orders_5 0 rfl rfl)
theorem dX0_orders_118 : decode cX0_orders 118 = .ok (.iload 4, 2) := dk_21 4 (dk_at dksX0_orders_5 2 rfl rfl)
theorem dX0_orders_120 : decode cX0_orders 120 = .ok (.if_icmp .ge 70, 3) := dk_162 0 70 (dk_at dksX0_orders_5 4 rfl rfl)
theorem dX0_orders_123 : decode cX0_orders 123 = .ok (.iconst 0, 1) := dk_3 (dk_at dksX0_orders_5 7 rfl rfl)
theorem dX0_orders_124 : decode cX0_orders 124 = .ok (.istore 6, 2) := dk_54 6 (dk_at dksX0_orders_5 8 rfl rfl)
theorem dX0_orders_126 : decode cX0_orders 126 = .ok (.iconst 0, 1) := dk_3 (dk_at dksX0_orders_5 10 rfl rfl)
theorem dX0_orders_127 : decode cX0_orders 127 = .ok (.istore 7, 2) := dk_54 7 (dk_at dksX0_orders_5 11 rfl rfl)
theorem dX0_orders_129 : decode cX0_orders 129 = .ok (.iload 7, 2) := dk_21 7 (dk_at dksX0_orders_5 13 rfl rfl)
theorem dX0_orders_131 : decode cX0_orders 131 = .ok (.iload_n 3, 1) := dk_29 (dk_at dksX0_orders_5 15 rfl rfl)
theorem dX0_orders_132 : decode cX0_orders 132 = .ok (.if_icmp .ge 28, 3) := dk_162 0 28 (dk_at dksX0_orders_5 16 rfl rfl)
theorem dX0_orders_135 : decode cX0_orders 135 = .ok (.iload 6, 2) := dk_21 6 (dk_at dksX0_orders_5 19 rfl rfl)
theorem dX0_orders_137 : decode cX0_orders 137 = .ok (.aload_n 2, 1) := dk_44 (dk_at dksX0_orders_5 21 rfl rfl)
theorem dX0_orders_138 : decode cX0_orders 138 = .ok (.iload 7, 2) := dk_21 7 (dk_at dksX0_orders_5 22 rfl rfl)
theorem dX0_orders_140 : decode cX0_orders 140 = .ok (.iaload, 1) := dk_46 (dk_at dksX0_orders_6 0 rfl rfl)
theorem dX0_orders_141 : decode cX0_orders 141 = .ok (.iload 5, 2) := dk_21 5 (dk_at dksX0_orders_6 1 rfl rfl)
theorem dX0_orders_143 : decode cX0_orders 143 = .ok (.if_icmp .ne 7, 3) := dk_160 0 7 (dk_at dksX0_orders_6 3 rfl rfl)
theorem dX0_orders_146 : decode cX0_orders 146 = .ok (.iconst 1, 1) := dk_4 (dk_at dksX0_orders_6 6 rfl rfl)
theorem dX0_orders_147 : decode cX0_orders 147 = .ok (.goto 4, 3) := dk_167 0 4 (dk_at dksX0_orders_6 7 rfl rfl)
theorem dX0_orders_150 : decode cX0_orders 150 = .ok (.iconst 0, 1) := dk_3 (dk_at dksX0_orders_6 10 rfl rfl)
theorem dX0_orders_151 : decode cX0_orders 151 = .ok (.ior, 1) := dk_128 (dk_at dksX0_orders_6 11 rfl rfl)
theorem dX0_orders_152 : decode cX0_orders 152 = .ok (.istore 6, 2) := dk_54 6 (dk_at dksX0_orders_6 12 rfl rfl)
theorem dX0_orders_154 : decode cX0_orders 154 = .ok (.iinc 7 1, 3) := dk_132 7 1 (dk_at dksX0_orders_6 14 rfl rfl)
theorem dX0_orders_157 : decode cX0_orders 157 = .ok (.goto (-28), 3) := dk_167 255 228 (dk_at dksX0_orders_6 17 rfl rfl)
theorem dX0_orders_160 : decode cX0_orders 160 = .ok (.iload 6, 2) := dk_21 6 (dk_at dksX0_orders_6 20 rfl rfl)
theorem dX0_orders_162 : decode cX0_orders 162 = .ok (.ifCond .eq 6, 3) := dk_153 0 6 (dk_at dksX0_orders_7 0 rfl rfl)
theorem dX0_orders_165 : decode cX0_orders 165 = .ok (.goto 19, 3) := dk_167 0 19 (dk_at dksX0_orders_7 3 rfl rfl)
theorem dX0_orders_168 : decode cX0_orders 168 = .ok (.aload_n 2, 1) := dk_44 (dk_at dksX0_orders_7 6 rfl rfl)
theorem dX0_orders_169 : decode cX0_orders 169 = .ok (.iload_n 3, 1) := dk_29 (dk_at dksX0_orders_7 7 rfl rfl)
theorem dX0_orders_170 : decode cX0_orders 170 = .ok (.iload 5, 2) := dk_21 5 (dk_at dksX0_orders_7 8 rfl rfl)
theorem dX0_orders_172 : decode cX0_orders 172 = .ok (.iastore, 1) := dk_79 (dk_at dksX0_orders_7 10 rfl rfl)
theorem dX0_orders_173 : decode cX0_orders 173 = .ok (.aload_n 0, 1) := dk_42 (dk_at dksX0_orders_7 11 rfl rfl)
theorem dX0_orders_174 : decode cX0_orders 174 = .ok (.aload_n 1, 1) := dk_43 (dk_at dksX0_orders_7 12 rfl rfl)
theorem dX0_orders_175 : decode cX0_orders 175 = .ok (.aload_n 2, 1) := dk_44 (dk_at dksX0_orders_7 13 rfl rfl)
theorem dX0_orders_176 : decode cX0_orders 176 = .ok (.iload_n 3, 1) := dk_29 (dk_at dksX0_orders_7 14 rfl rfl)
theorem dX0_orders_177 : decode cX0_orders 177 = .ok (.iconst 1, 1) := dk_4 (dk_at dksX0_orders_7 15 rfl rfl)
theorem dX0_orders_178 : decode cX0_orders 178 = .ok (.iadd, 1) := dk_96 (dk_at dksX0_orders_7 16 rfl rfl)
theorem dX0_orders_179 : decode cX0_orders 179 = .ok (.iload 4, 2) := dk_21 4 (dk_at dksX0_orders_7 17 rfl rfl)
theorem dX0_orders_181 : decode cX0_orders 181 = .ok (.invokevirtual 317, 3) := dk_182 1 61 (dk_at dksX0_orders_7 19 rfl rfl)
theorem dX0_orders_184 : decode cX0_orders 184 = .ok (.iinc 5 1, 3) := dk_132 5 1 (dk_at dksX0_orders_8 0 rfl rfl)
theorem dX0_orders_187 : decode cX0_orders 187 = .ok (.goto (-71), 3) := dk_167 255 185 (dk_at dksX0_orders_8 3 rfl rfl)
theorem dX0_orders_190 : decode cX0_orders 190 = .ok (.return_, 1) := dk_177 (dk_at dksX0_orders_8 6 rfl rfl)
abbrev cX0_root : ByteArray := prog_1_method_54_code
def yX0_root : MethodName := ⟨RX0, "root", "(JI)I"⟩
def dkwX0_root_1 : List UInt8 := [22, 4, 29, 184, 1, 85, 31, 148, 154, 0, 9, 22, 4, 136, 167, 0, 4, 3, 172]
abbrev dktX0_root_1 : List UInt8 := dkwX0_root_1 ++ []
def dkwX0_root_0 : List UInt8 := [31, 184, 1, 75, 153, 0, 10, 29, 184, 1, 78, 154, 0, 5, 2, 172, 31, 29, 184, 1, 81, 55, 4]
abbrev dktX0_root_0 : List UInt8 := dkwX0_root_0 ++ dktX0_root_1
theorem dksX0_root_0 : cX0_root.data.toList.drop 0 = dktX0_root_0 := by decide +kernel
theorem dksX0_root_1 : cX0_root.data.toList.drop 23 = dktX0_root_1 := dk_seg dksX0_root_0 23 rfl rfl
theorem dX0_root_0 : decode cX0_root 0 = .ok (.lload_n 1, 1) := dk_31 (dk_at dksX0_root_0 0 rfl rfl)
theorem dX0_root_1 : decode cX0_root 1 = .ok (.invokestatic 331, 3) := dk_184 1 75 (dk_at dksX0_root_0 1 rfl rfl)
theorem dX0_root_4 : decode cX0_root 4 = .ok (.ifCond .eq 10, 3) := dk_153 0 10 (dk_at dksX0_root_0 4 rfl rfl)
theorem dX0_root_7 : decode cX0_root 7 = .ok (.iload_n 3, 1) := dk_29 (dk_at dksX0_root_0 7 rfl rfl)
theorem dX0_root_8 : decode cX0_root 8 = .ok (.invokestatic 334, 3) := dk_184 1 78 (dk_at dksX0_root_0 8 rfl rfl)
theorem dX0_root_11 : decode cX0_root 11 = .ok (.ifCond .ne 5, 3) := dk_154 0 5 (dk_at dksX0_root_0 11 rfl rfl)
theorem dX0_root_14 : decode cX0_root 14 = .ok (.iconst (-1), 1) := dk_2 (dk_at dksX0_root_0 14 rfl rfl)
theorem dX0_root_15 : decode cX0_root 15 = .ok (.ireturn, 1) := dk_172 (dk_at dksX0_root_0 15 rfl rfl)
theorem dX0_root_16 : decode cX0_root 16 = .ok (.lload_n 1, 1) := dk_31 (dk_at dksX0_root_0 16 rfl rfl)
theorem dX0_root_17 : decode cX0_root 17 = .ok (.iload_n 3, 1) := dk_29 (dk_at dksX0_root_0 17 rfl rfl)
theorem dX0_root_18 : decode cX0_root 18 = .ok (.invokestatic 337, 3) := dk_184 1 81 (dk_at dksX0_root_0 18 rfl rfl)
theorem dX0_root_21 : decode cX0_root 21 = .ok (.lstore 4, 2) := dk_55 4 (dk_at dksX0_root_0 21 rfl rfl)
theorem dX0_root_23 : decode cX0_root 23 = .ok (.lload 4, 2) := dk_22 4 (dk_at dksX0_root_1 0 rfl rfl)
theorem dX0_root_25 : decode cX0_root 25 = .ok (.iload_n 3, 1) := dk_29 (dk_at dksX0_root_1 2 rfl rfl)
theorem dX0_root_26 : decode cX0_root 26 = .ok (.invokestatic 341, 3) := dk_184 1 85 (dk_at dksX0_root_1 3 rfl rfl)
theorem dX0_root_29 : decode cX0_root 29 = .ok (.lload_n 1, 1) := dk_31 (dk_at dksX0_root_1 6 rfl rfl)
theorem dX0_root_30 : decode cX0_root 30 = .ok (.lcmp, 1) := dk_148 (dk_at dksX0_root_1 7 rfl rfl)
theorem dX0_root_31 : decode cX0_root 31 = .ok (.ifCond .ne 9, 3) := dk_154 0 9 (dk_at dksX0_root_1 8 rfl rfl)
theorem dX0_root_34 : decode cX0_root 34 = .ok (.lload 4, 2) := dk_22 4 (dk_at dksX0_root_1 11 rfl rfl)
theorem dX0_root_36 : decode cX0_root 36 = .ok (.l2i, 1) := dk_136 (dk_at dksX0_root_1 13 rfl rfl)
theorem dX0_root_37 : decode cX0_root 37 = .ok (.goto 4, 3) := dk_167 0 4 (dk_at dksX0_root_1 14 rfl rfl)
theorem dX0_root_40 : decode cX0_root 40 = .ok (.iconst 0, 1) := dk_3 (dk_at dksX0_root_1 17 rfl rfl)
theorem dX0_root_41 : decode cX0_root 41 = .ok (.ireturn, 1) := dk_172 (dk_at dksX0_root_1 18 rfl rfl)
abbrev cX0_isNumber : ByteArray := prog_1_method_50_code
def yX0_isNumber : MethodName := ⟨RX0, "isNumber", "(J)Z"⟩
def dkwX0_isNumber_0 : List UInt8 := [30, 10, 148, 155, 0, 15, 30, 20, 1, 65, 148, 157, 0, 7, 4, 167, 0, 4, 3, 172]
abbrev dktX0_isNumber_0 : List UInt8 := dkwX0_isNumber_0 ++ []
theorem dksX0_isNumber_0 : cX0_isNumber.data.toList.drop 0 = dktX0_isNumber_0 := by decide +kernel
theorem dX0_isNumber_0 : decode cX0_isNumber 0 = .ok (.lload_n 0, 1) := dk_30 (dk_at dksX0_isNumber_0 0 rfl rfl)
theorem dX0_isNumber_1 : decode cX0_isNumber 1 = .ok (.lconst 1, 1) := dk_10 (dk_at dksX0_isNumber_0 1 rfl rfl)
theorem dX0_isNumber_2 : decode cX0_isNumber 2 = .ok (.lcmp, 1) := dk_148 (dk_at dksX0_isNumber_0 2 rfl rfl)
theorem dX0_isNumber_3 : decode cX0_isNumber 3 = .ok (.ifCond .lt 15, 3) := dk_155 0 15 (dk_at dksX0_isNumber_0 3 rfl rfl)
theorem dX0_isNumber_6 : decode cX0_isNumber 6 = .ok (.lload_n 0, 1) := dk_30 (dk_at dksX0_isNumber_0 6 rfl rfl)
theorem dX0_isNumber_7 : decode cX0_isNumber 7 = .ok (.ldc2_w 321, 3) := dk_20 1 65 (dk_at dksX0_isNumber_0 7 rfl rfl)
theorem dX0_isNumber_10 : decode cX0_isNumber 10 = .ok (.lcmp, 1) := dk_148 (dk_at dksX0_isNumber_0 10 rfl rfl)
theorem dX0_isNumber_11 : decode cX0_isNumber 11 = .ok (.ifCond .gt 7, 3) := dk_157 0 7 (dk_at dksX0_isNumber_0 11 rfl rfl)
theorem dX0_isNumber_14 : decode cX0_isNumber 14 = .ok (.iconst 1, 1) := dk_4 (dk_at dksX0_isNumber_0 14 rfl rfl)
theorem dX0_isNumber_15 : decode cX0_isNumber 15 = .ok (.goto 4, 3) := dk_167 0 4 (dk_at dksX0_isNumber_0 15 rfl rfl)
theorem dX0_isNumber_18 : decode cX0_isNumber 18 = .ok (.iconst 0, 1) := dk_3 (dk_at dksX0_isNumber_0 18 rfl rfl)
theorem dX0_isNumber_19 : decode cX0_isNumber 19 = .ok (.ireturn, 1) := dk_172 (dk_at dksX0_isNumber_0 19 rfl rfl)
abbrev cX0_isPower : ByteArray := prog_1_method_49_code
def yX0_isPower : MethodName := ⟨RX0, "isPower", "(I)Z"⟩
def dkwX0_isPower_0 : List UInt8 := [26, 5, 159, 0, 13, 26, 6, 159, 0, 8, 26, 8, 160, 0, 7, 4, 167, 0, 4, 3, 172]
abbrev dktX0_isPower_0 : List UInt8 := dkwX0_isPower_0 ++ []
theorem dksX0_isPower_0 : cX0_isPower.data.toList.drop 0 = dktX0_isPower_0 := by decide +kernel
theorem dX0_isPower_0 : decode cX0_isPower 0 = .ok (.iload_n 0, 1) := dk_26 (dk_at dksX0_isPower_0 0 rfl rfl)
theorem dX0_isPower_1 : decode cX0_isPower 1 = .ok (.iconst 2, 1) := dk_5 (dk_at dksX0_isPower_0 1 rfl rfl)
theorem dX0_isPower_2 : decode cX0_isPower 2 = .ok (.if_icmp .eq 13, 3) := dk_159 0 13 (dk_at dksX0_isPower_0 2 rfl rfl)
theorem dX0_isPower_5 : decode cX0_isPower 5 = .ok (.iload_n 0, 1) := dk_26 (dk_at dksX0_isPower_0 5 rfl rfl)
theorem dX0_isPower_6 : decode cX0_isPower 6 = .ok (.iconst 3, 1) := dk_6 (dk_at dksX0_isPower_0 6 rfl rfl)
theorem dX0_isPower_7 : decode cX0_isPower 7 = .ok (.if_icmp .eq 8, 3) := dk_159 0 8 (dk_at dksX0_isPower_0 7 rfl rfl)
theorem dX0_isPower_10 : decode cX0_isPower 10 = .ok (.iload_n 0, 1) := dk_26 (dk_at dksX0_isPower_0 10 rfl rfl)
theorem dX0_isPower_11 : decode cX0_isPower 11 = .ok (.iconst 5, 1) := dk_8 (dk_at dksX0_isPower_0 11 rfl rfl)
theorem dX0_isPower_12 : decode cX0_isPower 12 = .ok (.if_icmp .ne 7, 3) := dk_160 0 7 (dk_at dksX0_isPower_0 12 rfl rfl)
theorem dX0_isPower_15 : decode cX0_isPower 15 = .ok (.iconst 1, 1) := dk_4 (dk_at dksX0_isPower_0 15 rfl rfl)
theorem dX0_isPower_16 : decode cX0_isPower 16 = .ok (.goto 4, 3) := dk_167 0 4 (dk_at dksX0_isPower_0 16 rfl rfl)
theorem dX0_isPower_19 : decode cX0_isPower 19 = .ok (.iconst 0, 1) := dk_3 (dk_at dksX0_isPower_0 19 rfl rfl)
theorem dX0_isPower_20 : decode cX0_isPower 20 = .ok (.ireturn, 1) := dk_172 (dk_at dksX0_isPower_0 20 rfl rfl)
abbrev cX0_rootOf : ByteArray := prog_1_method_52_code
def yX0_rootOf : MethodName := ⟨RX0, "rootOf", "(JI)J"⟩
def dkwX0_rootOf_2 : List UInt8 := [167, 255, 217, 33, 173]
abbrev dktX0_rootOf_2 : List UInt8 := dkwX0_rootOf_2 ++ []
def dkwX0_rootOf_1 : List UInt8 := [55, 7, 22, 7, 28, 30, 184, 1, 71, 153, 0, 10, 22, 7, 55, 5, 167, 0, 6, 22, 7, 66]
abbrev dktX0_rootOf_1 : List UInt8 := dkwX0_rootOf_1 ++ dktX0_rootOf_2
def dkwX0_rootOf_0 : List UInt8 := [9, 66, 20, 1, 67, 55, 5, 22, 5, 33, 101, 10, 148, 158, 0, 36, 33, 22, 5, 97, 20, 1, 69, 109]
abbrev dktX0_rootOf_0 : List UInt8 := dkwX0_rootOf_0 ++ dktX0_rootOf_1
theorem dksX0_rootOf_0 : cX0_rootOf.data.toList.drop 0 = dktX0_rootOf_0 := by decide +kernel
theorem dksX0_rootOf_1 : cX0_rootOf.data.toList.drop 24 = dktX0_rootOf_1 := dk_seg dksX0_rootOf_0 24 rfl rfl
theorem dksX0_rootOf_2 : cX0_rootOf.data.toList.drop 46 = dktX0_rootOf_2 := dk_seg dksX0_rootOf_1 22 rfl rfl
theorem dX0_rootOf_0 : decode cX0_rootOf 0 = .ok (.lconst 0, 1) := dk_9 (dk_at dksX0_rootOf_0 0 rfl rfl)
theorem dX0_rootOf_1 : decode cX0_rootOf 1 = .ok (.lstore_n 3, 1) := dk_66 (dk_at dksX0_rootOf_0 1 rfl rfl)
theorem dX0_rootOf_2 : decode cX0_rootOf 2 = .ok (.ldc2_w 323, 3) := dk_20 1 67 (dk_at dksX0_rootOf_0 2 rfl rfl)
theorem dX0_rootOf_5 : decode cX0_rootOf 5 = .ok (.lstore 5, 2) := dk_55 5 (dk_at dksX0_rootOf_0 5 rfl rfl)
theorem dX0_rootOf_7 : decode cX0_rootOf 7 = .ok (.lload 5, 2) := dk_22 5 (dk_at dksX0_rootOf_0 7 rfl rfl)
theorem dX0_rootOf_9 : decode cX0_rootOf 9 = .ok (.lload_n 3, 1) := dk_33 (dk_at dksX0_rootOf_0 9 rfl rfl)
theorem dX0_rootOf_10 : decode cX0_rootOf 10 = .ok (.lsub, 1) := dk_101 (dk_at dksX0_rootOf_0 10 rfl rfl)
theorem dX0_rootOf_11 : decode cX0_rootOf 11 = .ok (.lconst 1, 1) := dk_10 (dk_at dksX0_rootOf_0 11 rfl rfl)
theorem dX0_rootOf_12 : decode cX0_rootOf 12 = .ok (.lcmp, 1) := dk_148 (dk_at dksX0_rootOf_0 12 rfl rfl)
theorem dX0_rootOf_13 : decode cX0_rootOf 13 = .ok (.ifCond .le 36, 3) := dk_158 0 36 (dk_at dksX0_rootOf_0 13 rfl rfl)
theorem dX0_rootOf_16 : decode cX0_rootOf 16 = .ok (.lload_n 3, 1) := dk_33 (dk_at dksX0_rootOf_0 16 rfl rfl)
theorem dX0_rootOf_17 : decode cX0_rootOf 17 = .ok (.lload 5, 2) := dk_22 5 (dk_at dksX0_rootOf_0 17 rfl rfl)
theorem dX0_rootOf_19 : decode cX0_rootOf 19 = .ok (.ladd, 1) := dk_97 (dk_at dksX0_rootOf_0 19 rfl rfl)
theorem dX0_rootOf_20 : decode cX0_rootOf 20 = .ok (.ldc2_w 325, 3) := dk_20 1 69 (dk_at dksX0_rootOf_0 20 rfl rfl)
theorem dX0_rootOf_23 : decode cX0_rootOf 23 = .ok (.ldiv, 1) := dk_109 (dk_at dksX0_rootOf_0 23 rfl rfl)
theorem dX0_rootOf_24 : decode cX0_rootOf 24 = .ok (.lstore 7, 2) := dk_55 7 (dk_at dksX0_rootOf_1 0 rfl rfl)
theorem dX0_rootOf_26 : decode cX0_rootOf 26 = .ok (.lload 7, 2) := dk_22 7 (dk_at dksX0_rootOf_1 2 rfl rfl)
theorem dX0_rootOf_28 : decode cX0_rootOf 28 = .ok (.iload_n 2, 1) := dk_28 (dk_at dksX0_rootOf_1 4 rfl rfl)
theorem dX0_rootOf_29 : decode cX0_rootOf 29 = .ok (.lload_n 0, 1) := dk_30 (dk_at dksX0_rootOf_1 5 rfl rfl)
theorem dX0_rootOf_30 : decode cX0_rootOf 30 = .ok (.invokestatic 327, 3) := dk_184 1 71 (dk_at dksX0_rootOf_1 6 rfl rfl)
theorem dX0_rootOf_33 : decode cX0_rootOf 33 = .ok (.ifCond .eq 10, 3) := dk_153 0 10 (dk_at dksX0_rootOf_1 9 rfl rfl)
theorem dX0_rootOf_36 : decode cX0_rootOf 36 = .ok (.lload 7, 2) := dk_22 7 (dk_at dksX0_rootOf_1 12 rfl rfl)
theorem dX0_rootOf_38 : decode cX0_rootOf 38 = .ok (.lstore 5, 2) := dk_55 5 (dk_at dksX0_rootOf_1 14 rfl rfl)
theorem dX0_rootOf_40 : decode cX0_rootOf 40 = .ok (.goto 6, 3) := dk_167 0 6 (dk_at dksX0_rootOf_1 16 rfl rfl)
theorem dX0_rootOf_43 : decode cX0_rootOf 43 = .ok (.lload 7, 2) := dk_22 7 (dk_at dksX0_rootOf_1 19 rfl rfl)
theorem dX0_rootOf_45 : decode cX0_rootOf 45 = .ok (.lstore_n 3, 1) := dk_66 (dk_at dksX0_rootOf_1 21 rfl rfl)
theorem dX0_rootOf_46 : decode cX0_rootOf 46 = .ok (.goto (-39), 3) := dk_167 255 217 (dk_at dksX0_rootOf_2 0 rfl rfl)
theorem dX0_rootOf_49 : decode cX0_rootOf 49 = .ok (.lload_n 3, 1) := dk_33 (dk_at dksX0_rootOf_2 3 rfl rfl)
theorem dX0_rootOf_50 : decode cX0_rootOf 50 = .ok (.lreturn, 1) := dk_173 (dk_at dksX0_rootOf_2 4 rfl rfl)
abbrev cX0_isAbove : ByteArray := prog_1_method_51_code
def yX0_isAbove : MethodName := ⟨RX0, "isAbove", "(JIJ)Z"⟩
def dkwX0_isAbove_2 : List UInt8 := [172]
abbrev dktX0_isAbove_2 : List UInt8 := dkwX0_isAbove_2 ++ []
def dkwX0_isAbove_1 : List UInt8 := [22, 5, 30, 105, 55, 5, 132, 7, 1, 167, 255, 230, 22, 5, 33, 148, 158, 0, 7, 4, 167, 0, 4, 3]
abbrev dktX0_isAbove_1 : List UInt8 := dkwX0_isAbove_1 ++ dktX0_isAbove_2
def dkwX0_isAbove_0 : List UInt8 := [10, 55, 5, 3, 54, 7, 21, 7, 28, 162, 0, 26, 22, 5, 33, 30, 109, 148, 158, 0, 5, 4, 172]
abbrev dktX0_isAbove_0 : List UInt8 := dkwX0_isAbove_0 ++ dktX0_isAbove_1
theorem dksX0_isAbove_0 : cX0_isAbove.data.toList.drop 0 = dktX0_isAbove_0 := by decide +kernel
theorem dksX0_isAbove_1 : cX0_isAbove.data.toList.drop 23 = dktX0_isAbove_1 := dk_seg dksX0_isAbove_0 23 rfl rfl
theorem dksX0_isAbove_2 : cX0_isAbove.data.toList.drop 47 = dktX0_isAbove_2 := dk_seg dksX0_isAbove_1 24 rfl rfl
theorem dX0_isAbove_0 : decode cX0_isAbove 0 = .ok (.lconst 1, 1) := dk_10 (dk_at dksX0_isAbove_0 0 rfl rfl)
theorem dX0_isAbove_1 : decode cX0_isAbove 1 = .ok (.lstore 5, 2) := dk_55 5 (dk_at dksX0_isAbove_0 1 rfl rfl)
theorem dX0_isAbove_3 : decode cX0_isAbove 3 = .ok (.iconst 0, 1) := dk_3 (dk_at dksX0_isAbove_0 3 rfl rfl)
theorem dX0_isAbove_4 : decode cX0_isAbove 4 = .ok (.istore 7, 2) := dk_54 7 (dk_at dksX0_isAbove_0 4 rfl rfl)
theorem dX0_isAbove_6 : decode cX0_isAbove 6 = .ok (.iload 7, 2) := dk_21 7 (dk_at dksX0_isAbove_0 6 rfl rfl)
theorem dX0_isAbove_8 : decode cX0_isAbove 8 = .ok (.iload_n 2, 1) := dk_28 (dk_at dksX0_isAbove_0 8 rfl rfl)
theorem dX0_isAbove_9 : decode cX0_isAbove 9 = .ok (.if_icmp .ge 26, 3) := dk_162 0 26 (dk_at dksX0_isAbove_0 9 rfl rfl)
theorem dX0_isAbove_12 : decode cX0_isAbove 12 = .ok (.lload 5, 2) := dk_22 5 (dk_at dksX0_isAbove_0 12 rfl rfl)
theorem dX0_isAbove_14 : decode cX0_isAbove 14 = .ok (.lload_n 3, 1) := dk_33 (dk_at dksX0_isAbove_0 14 rfl rfl)
theorem dX0_isAbove_15 : decode cX0_isAbove 15 = .ok (.lload_n 0, 1) := dk_30 (dk_at dksX0_isAbove_0 15 rfl rfl)
theorem dX0_isAbove_16 : decode cX0_isAbove 16 = .ok (.ldiv, 1) := dk_109 (dk_at dksX0_isAbove_0 16 rfl rfl)
theorem dX0_isAbove_17 : decode cX0_isAbove 17 = .ok (.lcmp, 1) := dk_148 (dk_at dksX0_isAbove_0 17 rfl rfl)
theorem dX0_isAbove_18 : decode cX0_isAbove 18 = .ok (.ifCond .le 5, 3) := dk_158 0 5 (dk_at dksX0_isAbove_0 18 rfl rfl)
theorem dX0_isAbove_21 : decode cX0_isAbove 21 = .ok (.iconst 1, 1) := dk_4 (dk_at dksX0_isAbove_0 21 rfl rfl)
theorem dX0_isAbove_22 : decode cX0_isAbove 22 = .ok (.ireturn, 1) := dk_172 (dk_at dksX0_isAbove_0 22 rfl rfl)
theorem dX0_isAbove_23 : decode cX0_isAbove 23 = .ok (.lload 5, 2) := dk_22 5 (dk_at dksX0_isAbove_1 0 rfl rfl)
theorem dX0_isAbove_25 : decode cX0_isAbove 25 = .ok (.lload_n 0, 1) := dk_30 (dk_at dksX0_isAbove_1 2 rfl rfl)
theorem dX0_isAbove_26 : decode cX0_isAbove 26 = .ok (.lmul, 1) := dk_105 (dk_at dksX0_isAbove_1 3 rfl rfl)
theorem dX0_isAbove_27 : decode cX0_isAbove 27 = .ok (.lstore 5, 2) := dk_55 5 (dk_at dksX0_isAbove_1 4 rfl rfl)
theorem dX0_isAbove_29 : decode cX0_isAbove 29 = .ok (.iinc 7 1, 3) := dk_132 7 1 (dk_at dksX0_isAbove_1 6 rfl rfl)
theorem dX0_isAbove_32 : decode cX0_isAbove 32 = .ok (.goto (-26), 3) := dk_167 255 230 (dk_at dksX0_isAbove_1 9 rfl rfl)
theorem dX0_isAbove_35 : decode cX0_isAbove 35 = .ok (.lload 5, 2) := dk_22 5 (dk_at dksX0_isAbove_1 12 rfl rfl)
theorem dX0_isAbove_37 : decode cX0_isAbove 37 = .ok (.lload_n 3, 1) := dk_33 (dk_at dksX0_isAbove_1 14 rfl rfl)
theorem dX0_isAbove_38 : decode cX0_isAbove 38 = .ok (.lcmp, 1) := dk_148 (dk_at dksX0_isAbove_1 15 rfl rfl)
theorem dX0_isAbove_39 : decode cX0_isAbove 39 = .ok (.ifCond .le 7, 3) := dk_158 0 7 (dk_at dksX0_isAbove_1 16 rfl rfl)
theorem dX0_isAbove_42 : decode cX0_isAbove 42 = .ok (.iconst 1, 1) := dk_4 (dk_at dksX0_isAbove_1 19 rfl rfl)
theorem dX0_isAbove_43 : decode cX0_isAbove 43 = .ok (.goto 4, 3) := dk_167 0 4 (dk_at dksX0_isAbove_1 20 rfl rfl)
theorem dX0_isAbove_46 : decode cX0_isAbove 46 = .ok (.iconst 0, 1) := dk_3 (dk_at dksX0_isAbove_1 23 rfl rfl)
theorem dX0_isAbove_47 : decode cX0_isAbove 47 = .ok (.ireturn, 1) := dk_172 (dk_at dksX0_isAbove_2 0 rfl rfl)
abbrev cX0_raise : ByteArray := prog_1_method_53_code
def yX0_raise : MethodName := ⟨RX0, "raise", "(JI)J"⟩
def dkwX0_raise_0 : List UInt8 := [10, 66, 3, 54, 5, 21, 5, 28, 162, 0, 13, 33, 30, 105, 66, 132, 5, 1, 167, 255, 243, 33, 173]
abbrev dktX0_raise_0 : List UInt8 := dkwX0_raise_0 ++ []
theorem dksX0_raise_0 : cX0_raise.data.toList.drop 0 = dktX0_raise_0 := by decide +kernel
theorem dX0_raise_0 : decode cX0_raise 0 = .ok (.lconst 1, 1) := dk_10 (dk_at dksX0_raise_0 0 rfl rfl)
theorem dX0_raise_1 : decode cX0_raise 1 = .ok (.lstore_n 3, 1) := dk_66 (dk_at dksX0_raise_0 1 rfl rfl)
theorem dX0_raise_2 : decode cX0_raise 2 = .ok (.iconst 0, 1) := dk_3 (dk_at dksX0_raise_0 2 rfl rfl)
theorem dX0_raise_3 : decode cX0_raise 3 = .ok (.istore 5, 2) := dk_54 5 (dk_at dksX0_raise_0 3 rfl rfl)
theorem dX0_raise_5 : decode cX0_raise 5 = .ok (.iload 5, 2) := dk_21 5 (dk_at dksX0_raise_0 5 rfl rfl)
theorem dX0_raise_7 : decode cX0_raise 7 = .ok (.iload_n 2, 1) := dk_28 (dk_at dksX0_raise_0 7 rfl rfl)
theorem dX0_raise_8 : decode cX0_raise 8 = .ok (.if_icmp .ge 13, 3) := dk_162 0 13 (dk_at dksX0_raise_0 8 rfl rfl)
theorem dX0_raise_11 : decode cX0_raise 11 = .ok (.lload_n 3, 1) := dk_33 (dk_at dksX0_raise_0 11 rfl rfl)
theorem dX0_raise_12 : decode cX0_raise 12 = .ok (.lload_n 0, 1) := dk_30 (dk_at dksX0_raise_0 12 rfl rfl)
theorem dX0_raise_13 : decode cX0_raise 13 = .ok (.lmul, 1) := dk_105 (dk_at dksX0_raise_0 13 rfl rfl)
theorem dX0_raise_14 : decode cX0_raise 14 = .ok (.lstore_n 3, 1) := dk_66 (dk_at dksX0_raise_0 14 rfl rfl)
theorem dX0_raise_15 : decode cX0_raise 15 = .ok (.iinc 5 1, 3) := dk_132 5 1 (dk_at dksX0_raise_0 15 rfl rfl)
theorem dX0_raise_18 : decode cX0_raise 18 = .ok (.goto (-13), 3) := dk_167 255 243 (dk_at dksX0_raise_0 18 rfl rfl)
theorem dX0_raise_21 : decode cX0_raise 21 = .ok (.lload_n 3, 1) := dk_33 (dk_at dksX0_raise_0 21 rfl rfl)
theorem dX0_raise_22 : decode cX0_raise 22 = .ok (.lreturn, 1) := dk_173 (dk_at dksX0_raise_0 22 rfl rfl)
abbrev cX0_firsts : ByteArray := prog_1_method_56_code
def yX0_firsts : MethodName := ⟨RX0, "firsts", "(JII)I"⟩
def dkwX0_firsts_3 : List UInt8 := [167, 0, 7, 42, 180, 1, 91, 136, 172]
abbrev dktX0_firsts_3 : List UInt8 := dkwX0_firsts_3 ++ []
def dkwX0_firsts_2 : List UInt8 := [42, 31, 29, 16, 100, 108, 29, 16, 100, 112, 182, 1, 99, 55, 5, 21, 4, 154, 0, 8, 22, 5]
abbrev dktX0_firsts_2 : List UInt8 := dkwX0_firsts_2 ++ dktX0_firsts_3
def dkwX0_firsts_1 : List UInt8 := [112, 4, 31, 184, 0, 192, 184, 0, 73, 153, 0, 13, 21, 4, 3, 4, 184, 0, 73, 154, 0, 5, 2, 172]
abbrev dktX0_firsts_1 : List UInt8 := dkwX0_firsts_1 ++ dktX0_firsts_2
def dkwX0_firsts_0 : List UInt8 := [31, 184, 1, 75, 153, 0, 42, 29, 155, 0, 38, 29, 16, 100, 108, 184, 1, 78, 153, 0, 28, 29, 16, 100]
abbrev dktX0_firsts_0 : List UInt8 := dkwX0_firsts_0 ++ dktX0_firsts_1
theorem dksX0_firsts_0 : cX0_firsts.data.toList.drop 0 = dktX0_firsts_0 := by decide +kernel
theorem dksX0_firsts_1 : cX0_firsts.data.toList.drop 24 = dktX0_firsts_1 := dk_seg dksX0_firsts_0 24 rfl rfl
theorem dksX0_firsts_2 : cX0_firsts.data.toList.drop 48 = dktX0_firsts_2 := dk_seg dksX0_firsts_1 24 rfl rfl
theorem dksX0_firsts_3 : cX0_firsts.data.toList.drop 70 = dktX0_firsts_3 := dk_seg dksX0_firsts_2 22 rfl rfl
theorem dX0_firsts_0 : decode cX0_firsts 0 = .ok (.lload_n 1, 1) := dk_31 (dk_at dksX0_firsts_0 0 rfl rfl)
theorem dX0_firsts_1 : decode cX0_firsts 1 = .ok (.invokestatic 331, 3) := dk_184 1 75 (dk_at dksX0_firsts_0 1 rfl rfl)
theorem dX0_firsts_4 : decode cX0_firsts 4 = .ok (.ifCond .eq 42, 3) := dk_153 0 42 (dk_at dksX0_firsts_0 4 rfl rfl)
theorem dX0_firsts_7 : decode cX0_firsts 7 = .ok (.iload_n 3, 1) := dk_29 (dk_at dksX0_firsts_0 7 rfl rfl)
theorem dX0_firsts_8 : decode cX0_firsts 8 = .ok (.ifCond .lt 38, 3) := dk_155 0 38 (dk_at dksX0_firsts_0 8 rfl rfl)
theorem dX0_firsts_11 : decode cX0_firsts 11 = .ok (.iload_n 3, 1) := dk_29 (dk_at dksX0_firsts_0 11 rfl rfl)
theorem dX0_firsts_12 : decode cX0_firsts 12 = .ok (.bipush 100, 2) := dk_16 100 (dk_at dksX0_firsts_0 12 rfl rfl)
theorem dX0_firsts_14 : decode cX0_firsts 14 = .ok (.idiv, 1) := dk_108 (dk_at dksX0_firsts_0 14 rfl rfl)
theorem dX0_firsts_15 : decode cX0_firsts 15 = .ok (.invokestatic 334, 3) := dk_184 1 78 (dk_at dksX0_firsts_0 15 rfl rfl)
theorem dX0_firsts_18 : decode cX0_firsts 18 = .ok (.ifCond .eq 28, 3) := dk_153 0 28 (dk_at dksX0_firsts_0 18 rfl rfl)
theorem dX0_firsts_21 : decode cX0_firsts 21 = .ok (.iload_n 3, 1) := dk_29 (dk_at dksX0_firsts_0 21 rfl rfl)
theorem dX0_firsts_22 : decode cX0_firsts 22 = .ok (.bipush 100, 2) := dk_16 100 (dk_at dksX0_firsts_0 22 rfl rfl)
theorem dX0_firsts_24 : decode cX0_firsts 24 = .ok (.irem, 1) := dk_112 (dk_at dksX0_firsts_1 0 rfl rfl)
theorem dX0_firsts_25 : decode cX0_firsts 25 = .ok (.iconst 1, 1) := dk_4 (dk_at dksX0_firsts_1 1 rfl rfl)
theorem dX0_firsts_26 : decode cX0_firsts 26 = .ok (.lload_n 1, 1) := dk_31 (dk_at dksX0_firsts_1 2 rfl rfl)
theorem dX0_firsts_27 : decode cX0_firsts 27 = .ok (.invokestatic 192, 3) := dk_184 0 192 (dk_at dksX0_firsts_1 3 rfl rfl)
theorem dX0_firsts_30 : decode cX0_firsts 30 = .ok (.invokestatic 73, 3) := dk_184 0 73 (dk_at dksX0_firsts_1 6 rfl rfl)
theorem dX0_firsts_33 : decode cX0_firsts 33 = .ok (.ifCond .eq 13, 3) := dk_153 0 13 (dk_at dksX0_firsts_1 9 rfl rfl)
theorem dX0_firsts_36 : decode cX0_firsts 36 = .ok (.iload 4, 2) := dk_21 4 (dk_at dksX0_firsts_1 12 rfl rfl)
theorem dX0_firsts_38 : decode cX0_firsts 38 = .ok (.iconst 0, 1) := dk_3 (dk_at dksX0_firsts_1 14 rfl rfl)
theorem dX0_firsts_39 : decode cX0_firsts 39 = .ok (.iconst 1, 1) := dk_4 (dk_at dksX0_firsts_1 15 rfl rfl)
theorem dX0_firsts_40 : decode cX0_firsts 40 = .ok (.invokestatic 73, 3) := dk_184 0 73 (dk_at dksX0_firsts_1 16 rfl rfl)
theorem dX0_firsts_43 : decode cX0_firsts 43 = .ok (.ifCond .ne 5, 3) := dk_154 0 5 (dk_at dksX0_firsts_1 19 rfl rfl)
theorem dX0_firsts_46 : decode cX0_firsts 46 = .ok (.iconst (-1), 1) := dk_2 (dk_at dksX0_firsts_1 22 rfl rfl)
theorem dX0_firsts_47 : decode cX0_firsts 47 = .ok (.ireturn, 1) := dk_172 (dk_at dksX0_firsts_1 23 rfl rfl)
theorem dX0_firsts_48 : decode cX0_firsts 48 = .ok (.aload_n 0, 1) := dk_42 (dk_at dksX0_firsts_2 0 rfl rfl)
theorem dX0_firsts_49 : decode cX0_firsts 49 = .ok (.lload_n 1, 1) := dk_31 (dk_at dksX0_firsts_2 1 rfl rfl)
theorem dX0_firsts_50 : decode cX0_firsts 50 = .ok (.iload_n 3, 1) := dk_29 (dk_at dksX0_firsts_2 2 rfl rfl)
theorem dX0_firsts_51 : decode cX0_firsts 51 = .ok (.bipush 100, 2) := dk_16 100 (dk_at dksX0_firsts_2 3 rfl rfl)
theorem dX0_firsts_53 : decode cX0_firsts 53 = .ok (.idiv, 1) := dk_108 (dk_at dksX0_firsts_2 5 rfl rfl)
theorem dX0_firsts_54 : decode cX0_firsts 54 = .ok (.iload_n 3, 1) := dk_29 (dk_at dksX0_firsts_2 6 rfl rfl)
theorem dX0_firsts_55 : decode cX0_firsts 55 = .ok (.bipush 100, 2) := dk_16 100 (dk_at dksX0_firsts_2 7 rfl rfl)
theorem dX0_firsts_57 : decode cX0_firsts 57 = .ok (.irem, 1) := dk_112 (dk_at dksX0_firsts_2 9 rfl rfl)
theorem dX0_firsts_58 : decode cX0_firsts 58 = .ok (.invokevirtual 355, 3) := dk_182 1 99 (dk_at dksX0_firsts_2 10 rfl rfl)
theorem dX0_firsts_61 : decode cX0_firsts 61 = .ok (.lstore 5, 2) := dk_55 5 (dk_at dksX0_firsts_2 13 rfl rfl)
theorem dX0_firsts_63 : decode cX0_firsts 63 = .ok (.iload 4, 2) := dk_21 4 (dk_at dksX0_firsts_2 15 rfl rfl)
theorem dX0_firsts_65 : decode cX0_firsts 65 = .ok (.ifCond .ne 8, 3) := dk_154 0 8 (dk_at dksX0_firsts_2 17 rfl rfl)
theorem dX0_firsts_68 : decode cX0_firsts 68 = .ok (.lload 5, 2) := dk_22 5 (dk_at dksX0_firsts_2 20 rfl rfl)
theorem dX0_firsts_70 : decode cX0_firsts 70 = .ok (.goto 7, 3) := dk_167 0 7 (dk_at dksX0_firsts_3 0 rfl rfl)
theorem dX0_firsts_73 : decode cX0_firsts 73 = .ok (.aload_n 0, 1) := dk_42 (dk_at dksX0_firsts_3 3 rfl rfl)
theorem dX0_firsts_74 : decode cX0_firsts 74 = .ok (.getfield 347, 3) := dk_180 1 91 (dk_at dksX0_firsts_3 4 rfl rfl)
theorem dX0_firsts_77 : decode cX0_firsts 77 = .ok (.l2i, 1) := dk_136 (dk_at dksX0_firsts_3 7 rfl rfl)
theorem dX0_firsts_78 : decode cX0_firsts 78 = .ok (.ireturn, 1) := dk_172 (dk_at dksX0_firsts_3 8 rfl rfl)
abbrev cX0_rootsBy : ByteArray := prog_1_method_55_code
def yX0_rootsBy : MethodName := ⟨RX0, "rootsBy", "(JII)J"⟩
def dkwX0_rootsBy_7 : List UInt8 := [55, 15, 167, 255, 151, 22, 13, 173]
abbrev dktX0_rootsBy_7 : List UInt8 := dkwX0_rootsBy_7 ++ []
def dkwX0_rootsBy_6 : List UInt8 := [153, 0, 13, 22, 17, 42, 180, 1, 91, 148, 156, 0, 9, 42, 22, 17, 181, 1, 91, 22, 15, 10, 97]
abbrev dktX0_rootsBy_6 : List UInt8 := dkwX0_rootsBy_6 ++ dktX0_rootsBy_7
def dkwX0_rootsBy_5 : List UInt8 := [22, 13, 22, 11, 22, 17, 101, 20, 0, 71, 109, 10, 97, 97, 55, 13, 42, 180, 1, 91, 9, 148]
abbrev dktX0_rootsBy_5 : List UInt8 := dkwX0_rootsBy_5 ++ dktX0_rootsBy_6
def dkwX0_rootsBy_4 : List UInt8 := [22, 9, 101, 20, 0, 71, 184, 1, 95, 97, 55, 17, 22, 17, 22, 11, 148, 158, 0, 6, 167, 0, 44]
abbrev dktX0_rootsBy_4 : List UInt8 := dkwX0_rootsBy_4 ++ dktX0_rootsBy_5
def dkwX0_rootsBy_3 : List UInt8 := [184, 1, 85, 20, 0, 71, 113, 31, 20, 0, 71, 113, 148, 153, 0, 6, 167, 0, 71, 22, 9, 22, 15]
abbrev dktX0_rootsBy_3 : List UInt8 := dkwX0_rootsBy_3 ++ dktX0_rootsBy_4
def dkwX0_rootsBy_2 : List UInt8 := [55, 13, 42, 9, 181, 1, 91, 9, 55, 15, 22, 15, 20, 0, 71, 148, 156, 0, 102, 22, 15, 29]
abbrev dktX0_rootsBy_2 : List UInt8 := dkwX0_rootsBy_2 ++ dktX0_rootsBy_3
def dkwX0_rootsBy_1 : List UInt8 := [101, 29, 184, 1, 81, 10, 97, 55, 9, 22, 7, 22, 5, 97, 10, 101, 29, 184, 1, 81, 55, 11, 9]
abbrev dktX0_rootsBy_1 : List UInt8 := dkwX0_rootsBy_1 ++ dktX0_rootsBy_2
def dkwX0_rootsBy_0 : List UInt8 := [31, 184, 0, 192, 21, 4, 100, 184, 1, 88, 55, 5, 31, 22, 5, 109, 22, 5, 105, 55, 7, 22, 7, 10]
abbrev dktX0_rootsBy_0 : List UInt8 := dkwX0_rootsBy_0 ++ dktX0_rootsBy_1
theorem dksX0_rootsBy_0 : cX0_rootsBy.data.toList.drop 0 = dktX0_rootsBy_0 := by decide +kernel
theorem dksX0_rootsBy_1 : cX0_rootsBy.data.toList.drop 24 = dktX0_rootsBy_1 := dk_seg dksX0_rootsBy_0 24 rfl rfl
theorem dksX0_rootsBy_2 : cX0_rootsBy.data.toList.drop 47 = dktX0_rootsBy_2 := dk_seg dksX0_rootsBy_1 23 rfl rfl
theorem dksX0_rootsBy_3 : cX0_rootsBy.data.toList.drop 69 = dktX0_rootsBy_3 := dk_seg dksX0_rootsBy_2 22 rfl rfl
theorem dksX0_rootsBy_4 : cX0_rootsBy.data.toList.drop 92 = dktX0_rootsBy_4 := dk_seg dksX0_rootsBy_3 23 rfl rfl
theorem dksX0_rootsBy_5 : cX0_rootsBy.data.toList.drop 115 = dktX0_rootsBy_5 := dk_seg dksX0_rootsBy_4 23 rfl rfl
theorem dksX0_rootsBy_6 : cX0_rootsBy.data.toList.drop 137 = dktX0_rootsBy_6 := dk_seg dksX0_rootsBy_5 22 rfl rfl
theorem dksX0_rootsBy_7 : cX0_rootsBy.data.toList.drop 160 = dktX0_rootsBy_7 := dk_seg dksX0_rootsBy_6 23 rfl rfl
theorem dX0_rootsBy_0 : decode cX0_rootsBy 0 = .ok (.lload_n 1, 1) := dk_31 (dk_at dksX0_rootsBy_0 0 rfl rfl)
theorem dX0_rootsBy_1 : decode cX0_rootsBy 1 = .ok (.invokestatic 192, 3) := dk_184 0 192 (dk_at dksX0_rootsBy_0 1 rfl rfl)
theorem dX0_rootsBy_4 : decode cX0_rootsBy 4 = .ok (.iload 4, 2) := dk_21 4 (dk_at dksX0_rootsBy_0 4 rfl rfl)
theorem dX0_rootsBy_6 : decode cX0_rootsBy 6 = .ok (.isub, 1) := dk_100 (dk_at dksX0_rootsBy_0 6 rfl rfl)
theorem dX0_rootsBy_7 : decode cX0_rootsBy 7 = .ok (.invokestatic 344, 3) := dk_184 1 88 (dk_at dksX0_rootsBy_0 7 rfl rfl)
theorem dX0_rootsBy_10 : decode cX0_rootsBy 10 = .ok (.lstore 5, 2) := dk_55 5 (dk_at dksX0_rootsBy_0 10 rfl rfl)
theorem dX0_rootsBy_12 : decode cX0_rootsBy 12 = .ok (.lload_n 1, 1) := dk_31 (dk_at dksX0_rootsBy_0 12 rfl rfl)
theorem dX0_rootsBy_13 : decode cX0_rootsBy 13 = .ok (.lload 5, 2) := dk_22 5 (dk_at dksX0_rootsBy_0 13 rfl rfl)
theorem dX0_rootsBy_15 : decode cX0_rootsBy 15 = .ok (.ldiv, 1) := dk_109 (dk_at dksX0_rootsBy_0 15 rfl rfl)
theorem dX0_rootsBy_16 : decode cX0_rootsBy 16 = .ok (.lload 5, 2) := dk_22 5 (dk_at dksX0_rootsBy_0 16 rfl rfl)
theorem dX0_rootsBy_18 : decode cX0_rootsBy 18 = .ok (.lmul, 1) := dk_105 (dk_at dksX0_rootsBy_0 18 rfl rfl)
theorem dX0_rootsBy_19 : decode cX0_rootsBy 19 = .ok (.lstore 7, 2) := dk_55 7 (dk_at dksX0_rootsBy_0 19 rfl rfl)
theorem dX0_rootsBy_21 : decode cX0_rootsBy 21 = .ok (.lload 7, 2) := dk_22 7 (dk_at dksX0_rootsBy_0 21 rfl rfl)
theorem dX0_rootsBy_23 : decode cX0_rootsBy 23 = .ok (.lconst 1, 1) := dk_10 (dk_at dksX0_rootsBy_0 23 rfl rfl)
theorem dX0_rootsBy_24 : decode cX0_rootsBy 24 = .ok (.lsub, 1) := dk_101 (dk_at dksX0_rootsBy_1 0 rfl rfl)
theorem dX0_rootsBy_25 : decode cX0_rootsBy 25 = .ok (.iload_n 3, 1) := dk_29 (dk_at dksX0_rootsBy_1 1 rfl rfl)
theorem dX0_rootsBy_26 : decode cX0_rootsBy 26 = .ok (.invokestatic 337, 3) := dk_184 1 81 (dk_at dksX0_rootsBy_1 2 rfl rfl)
theorem dX0_rootsBy_29 : decode cX0_rootsBy 29 = .ok (.lconst 1, 1) := dk_10 (dk_at dksX0_rootsBy_1 5 rfl rfl)
theorem dX0_rootsBy_30 : decode cX0_rootsBy 30 = .ok (.ladd, 1) := dk_97 (dk_at dksX0_rootsBy_1 6 rfl rfl)
theorem dX0_rootsBy_31 : decode cX0_rootsBy 31 = .ok (.lstore 9, 2) := dk_55 9 (dk_at dksX0_rootsBy_1 7 rfl rfl)
theorem dX0_rootsBy_33 : decode cX0_rootsBy 33 = .ok (.lload 7, 2) := dk_22 7 (dk_at dksX0_rootsBy_1 9 rfl rfl)
theorem dX0_rootsBy_35 : decode cX0_rootsBy 35 = .ok (.lload 5, 2) := dk_22 5 (dk_at dksX0_rootsBy_1 11 rfl rfl)
theorem dX0_rootsBy_37 : decode cX0_rootsBy 37 = .ok (.ladd, 1) := dk_97 (dk_at dksX0_rootsBy_1 13 rfl rfl)
theorem dX0_rootsBy_38 : decode cX0_rootsBy 38 = .ok (.lconst 1, 1) := dk_10 (dk_at dksX0_rootsBy_1 14 rfl rfl)
theorem dX0_rootsBy_39 : decode cX0_rootsBy 39 = .ok (.lsub, 1) := dk_101 (dk_at dksX0_rootsBy_1 15 rfl rfl)
theorem dX0_rootsBy_40 : decode cX0_rootsBy 40 = .ok (.iload_n 3, 1) := dk_29 (dk_at dksX0_rootsBy_1 16 rfl rfl)
theorem dX0_rootsBy_41 : decode cX0_rootsBy 41 = .ok (.invokestatic 337, 3) := dk_184 1 81 (dk_at dksX0_rootsBy_1 17 rfl rfl)
theorem dX0_rootsBy_44 : decode cX0_rootsBy 44 = .ok (.lstore 11, 2) := dk_55 11 (dk_at dksX0_rootsBy_1 20 rfl rfl)
theorem dX0_rootsBy_46 : decode cX0_rootsBy 46 = .ok (.lconst 0, 1) := dk_9 (dk_at dksX0_rootsBy_1 22 rfl rfl)
theorem dX0_rootsBy_47 : decode cX0_rootsBy 47 = .ok (.lstore 13, 2) := dk_55 13 (dk_at dksX0_rootsBy_2 0 rfl rfl)
theorem dX0_rootsBy_49 : decode cX0_rootsBy 49 = .ok (.aload_n 0, 1) := dk_42 (dk_at dksX0_rootsBy_2 2 rfl rfl)
theorem dX0_rootsBy_50 : decode cX0_rootsBy 50 = .ok (.lconst 0, 1) := dk_9 (dk_at dksX0_rootsBy_2 3 rfl rfl)
theorem dX0_rootsBy_51 : decode cX0_rootsBy 51 = .ok (.putfield 347, 3) := dk_181 1 91 (dk_at dksX0_rootsBy_2 4 rfl rfl)
theorem dX0_rootsBy_54 : decode cX0_rootsBy 54 = .ok (.lconst 0, 1) := dk_9 (dk_at dksX0_rootsBy_2 7 rfl rfl)
theorem dX0_rootsBy_55 : decode cX0_rootsBy 55 = .ok (.lstore 15, 2) := dk_55 15 (dk_at dksX0_rootsBy_2 8 rfl rfl)
theorem dX0_rootsBy_57 : decode cX0_rootsBy 57 = .ok (.lload 15, 2) := dk_22 15 (dk_at dksX0_rootsBy_2 10 rfl rfl)
theorem dX0_rootsBy_59 : decode cX0_rootsBy 59 = .ok (.ldc2_w 71, 3) := dk_20 0 71 (dk_at dksX0_rootsBy_2 12 rfl rfl)
theorem dX0_rootsBy_62 : decode cX0_rootsBy 62 = .ok (.lcmp, 1) := dk_148 (dk_at dksX0_rootsBy_2 15 rfl rfl)
theorem dX0_rootsBy_63 : decode cX0_rootsBy 63 = .ok (.ifCond .ge 102, 3) := dk_156 0 102 (dk_at dksX0_rootsBy_2 16 rfl rfl)
theorem dX0_rootsBy_66 : decode cX0_rootsBy 66 = .ok (.lload 15, 2) := dk_22 15 (dk_at dksX0_rootsBy_2 19 rfl rfl)
theorem dX0_rootsBy_68 : decode cX0_rootsBy 68 = .ok (.iload_n 3, 1) := dk_29 (dk_at dksX0_rootsBy_2 21 rfl rfl)
theorem dX0_rootsBy_69 : decode cX0_rootsBy 69 = .ok (.invokestatic 341, 3) := dk_184 1 85 (dk_at dksX0_rootsBy_3 0 rfl rfl)
theorem dX0_rootsBy_72 : decode cX0_rootsBy 72 = .ok (.ldc2_w 71, 3) := dk_20 0 71 (dk_at dksX0_rootsBy_3 3 rfl rfl)
theorem dX0_rootsBy_75 : decode cX0_rootsBy 75 = .ok (.lrem, 1) := dk_113 (dk_at dksX0_rootsBy_3 6 rfl rfl)
theorem dX0_rootsBy_76 : decode cX0_rootsBy 76 = .ok (.lload_n 1, 1) := dk_31 (dk_at dksX0_rootsBy_3 7 rfl rfl)
theorem dX0_rootsBy_77 : decode cX0_rootsBy 77 = .ok (.ldc2_w 71, 3) := dk_20 0 71 (dk_at dksX0_rootsBy_3 8 rfl rfl)
theorem dX0_rootsBy_80 : decode cX0_rootsBy 80 = .ok (.lrem, 1) := dk_113 (dk_at dksX0_rootsBy_3 11 rfl rfl)
theorem dX0_rootsBy_81 : decode cX0_rootsBy 81 = .ok (.lcmp, 1) := dk_148 (dk_at dksX0_rootsBy_3 12 rfl rfl)
theorem dX0_rootsBy_82 : decode cX0_rootsBy 82 = .ok (.ifCond .eq 6, 3) := dk_153 0 6 (dk_at dksX0_rootsBy_3 13 rfl rfl)
theorem dX0_rootsBy_85 : decode cX0_rootsBy 85 = .ok (.goto 71, 3) := dk_167 0 71 (dk_at dksX0_rootsBy_3 16 rfl rfl)
theorem dX0_rootsBy_88 : decode cX0_rootsBy 88 = .ok (.lload 9, 2) := dk_22 9 (dk_at dksX0_rootsBy_3 19 rfl rfl)
theorem dX0_rootsBy_90 : decode cX0_rootsBy 90 = .ok (.lload 15, 2) := dk_22 15 (dk_at dksX0_rootsBy_3 21 rfl rfl)
theorem dX0_rootsBy_92 : decode cX0_rootsBy 92 = .ok (.lload 9, 2) := dk_22 9 (dk_at dksX0_rootsBy_4 0 rfl rfl)
theorem dX0_rootsBy_94 : decode cX0_rootsBy 94 = .ok (.lsub, 1) := dk_101 (dk_at dksX0_rootsBy_4 2 rfl rfl)
theorem dX0_rootsBy_95 : decode cX0_rootsBy 95 = .ok (.ldc2_w 71, 3) := dk_20 0 71 (dk_at dksX0_rootsBy_4 3 rfl rfl)
theorem dX0_rootsBy_98 : decode cX0_rootsBy 98 = .ok (.invokestatic 351, 3) := dk_184 1 95 (dk_at dksX0_rootsBy_4 6 rfl rfl)
theorem dX0_rootsBy_101 : decode cX0_rootsBy 101 = .ok (.ladd, 1) := dk_97 (dk_at dksX0_rootsBy_4 9 rfl rfl)
theorem dX0_rootsBy_102 : decode cX0_rootsBy 102 = .ok (.lstore 17, 2) := dk_55 17 (dk_at dksX0_rootsBy_4 10 rfl rfl)
theorem dX0_rootsBy_104 : decode cX0_rootsBy 104 = .ok (.lload 17, 2) := dk_22 17 (dk_at dksX0_rootsBy_4 12 rfl rfl)
theorem dX0_rootsBy_106 : decode cX0_rootsBy 106 = .ok (.lload 11, 2) := dk_22 11 (dk_at dksX0_rootsBy_4 14 rfl rfl)
theorem dX0_rootsBy_108 : decode cX0_rootsBy 108 = .ok (.lcmp, 1) := dk_148 (dk_at dksX0_rootsBy_4 16 rfl rfl)
theorem dX0_rootsBy_109 : decode cX0_rootsBy 109 = .ok (.ifCond .le 6, 3) := dk_158 0 6 (dk_at dksX0_rootsBy_4 17 rfl rfl)
theorem dX0_rootsBy_112 : decode cX0_rootsBy 112 = .ok (.goto 44, 3) := dk_167 0 44 (dk_at dksX0_rootsBy_4 20 rfl rfl)
theorem dX0_rootsBy_115 : decode cX0_rootsBy 115 = .ok (.lload 13, 2) := dk_22 13 (dk_at dksX0_rootsBy_5 0 rfl rfl)
theorem dX0_rootsBy_117 : decode cX0_rootsBy 117 = .ok (.lload 11, 2) := dk_22 11 (dk_at dksX0_rootsBy_5 2 rfl rfl)
theorem dX0_rootsBy_119 : decode cX0_rootsBy 119 = .ok (.lload 17, 2) := dk_22 17 (dk_at dksX0_rootsBy_5 4 rfl rfl)
theorem dX0_rootsBy_121 : decode cX0_rootsBy 121 = .ok (.lsub, 1) := dk_101 (dk_at dksX0_rootsBy_5 6 rfl rfl)
theorem dX0_rootsBy_122 : decode cX0_rootsBy 122 = .ok (.ldc2_w 71, 3) := dk_20 0 71 (dk_at dksX0_rootsBy_5 7 rfl rfl)
theorem dX0_rootsBy_125 : decode cX0_rootsBy 125 = .ok (.ldiv, 1) := dk_109 (dk_at dksX0_rootsBy_5 10 rfl rfl)
theorem dX0_rootsBy_126 : decode cX0_rootsBy 126 = .ok (.lconst 1, 1) := dk_10 (dk_at dksX0_rootsBy_5 11 rfl rfl)
theorem dX0_rootsBy_127 : decode cX0_rootsBy 127 = .ok (.ladd, 1) := dk_97 (dk_at dksX0_rootsBy_5 12 rfl rfl)
theorem dX0_rootsBy_128 : decode cX0_rootsBy 128 = .ok (.ladd, 1) := dk_97 (dk_at dksX0_rootsBy_5 13 rfl rfl)
theorem dX0_rootsBy_129 : decode cX0_rootsBy 129 = .ok (.lstore 13, 2) := dk_55 13 (dk_at dksX0_rootsBy_5 14 rfl rfl)
theorem dX0_rootsBy_131 : decode cX0_rootsBy 131 = .ok (.aload_n 0, 1) := dk_42 (dk_at dksX0_rootsBy_5 16 rfl rfl)
theorem dX0_rootsBy_132 : decode cX0_rootsBy 132 = .ok (.getfield 347, 3) := dk_180 1 91 (dk_at dksX0_rootsBy_5 17 rfl rfl)
theorem dX0_rootsBy_135 : decode cX0_rootsBy 135 = .ok (.lconst 0, 1) := dk_9 (dk_at dksX0_rootsBy_5 20 rfl rfl)
theorem dX0_rootsBy_136 : decode cX0_rootsBy 136 = .ok (.lcmp, 1) := dk_148 (dk_at dksX0_rootsBy_5 21 rfl rfl)
theorem dX0_rootsBy_137 : decode cX0_rootsBy 137 = .ok (.ifCond .eq 13, 3) := dk_153 0 13 (dk_at dksX0_rootsBy_6 0 rfl rfl)
theorem dX0_rootsBy_140 : decode cX0_rootsBy 140 = .ok (.lload 17, 2) := dk_22 17 (dk_at dksX0_rootsBy_6 3 rfl rfl)
theorem dX0_rootsBy_142 : decode cX0_rootsBy 142 = .ok (.aload_n 0, 1) := dk_42 (dk_at dksX0_rootsBy_6 5 rfl rfl)
theorem dX0_rootsBy_143 : decode cX0_rootsBy 143 = .ok (.getfield 347, 3) := dk_180 1 91 (dk_at dksX0_rootsBy_6 6 rfl rfl)
theorem dX0_rootsBy_146 : decode cX0_rootsBy 146 = .ok (.lcmp, 1) := dk_148 (dk_at dksX0_rootsBy_6 9 rfl rfl)
theorem dX0_rootsBy_147 : decode cX0_rootsBy 147 = .ok (.ifCond .ge 9, 3) := dk_156 0 9 (dk_at dksX0_rootsBy_6 10 rfl rfl)
theorem dX0_rootsBy_150 : decode cX0_rootsBy 150 = .ok (.aload_n 0, 1) := dk_42 (dk_at dksX0_rootsBy_6 13 rfl rfl)
theorem dX0_rootsBy_151 : decode cX0_rootsBy 151 = .ok (.lload 17, 2) := dk_22 17 (dk_at dksX0_rootsBy_6 14 rfl rfl)
theorem dX0_rootsBy_153 : decode cX0_rootsBy 153 = .ok (.putfield 347, 3) := dk_181 1 91 (dk_at dksX0_rootsBy_6 16 rfl rfl)
theorem dX0_rootsBy_156 : decode cX0_rootsBy 156 = .ok (.lload 15, 2) := dk_22 15 (dk_at dksX0_rootsBy_6 19 rfl rfl)
theorem dX0_rootsBy_158 : decode cX0_rootsBy 158 = .ok (.lconst 1, 1) := dk_10 (dk_at dksX0_rootsBy_6 21 rfl rfl)
theorem dX0_rootsBy_159 : decode cX0_rootsBy 159 = .ok (.ladd, 1) := dk_97 (dk_at dksX0_rootsBy_6 22 rfl rfl)
theorem dX0_rootsBy_160 : decode cX0_rootsBy 160 = .ok (.lstore 15, 2) := dk_55 15 (dk_at dksX0_rootsBy_7 0 rfl rfl)
theorem dX0_rootsBy_162 : decode cX0_rootsBy 162 = .ok (.goto (-105), 3) := dk_167 255 151 (dk_at dksX0_rootsBy_7 2 rfl rfl)
theorem dX0_rootsBy_165 : decode cX0_rootsBy 165 = .ok (.lload 13, 2) := dk_22 13 (dk_at dksX0_rootsBy_7 5 rfl rfl)
theorem dX0_rootsBy_167 : decode cX0_rootsBy 167 = .ok (.lreturn, 1) := dk_173 (dk_at dksX0_rootsBy_7 7 rfl rfl)
abbrev cX0_enough : ByteArray := prog_1_method_57_code
def yX0_enough : MethodName := ⟨RX0, "enough", "(JI)I"⟩
def dkwX0_enough_2 : List UInt8 := [158, 0, 9, 132, 4, 1, 167, 255, 240, 21, 4, 172]
abbrev dktX0_enough_2 : List UInt8 := dkwX0_enough_2 ++ []
def dkwX0_enough_1 : List UInt8 := [184, 1, 85, 31, 148, 153, 0, 6, 16, 254, 172, 4, 54, 4, 42, 31, 29, 21, 4, 182, 1, 99, 10, 148]
abbrev dktX0_enough_1 : List UInt8 := dkwX0_enough_1 ++ dktX0_enough_2
def dkwX0_enough_0 : List UInt8 := [31, 184, 1, 75, 153, 0, 10, 29, 184, 1, 78, 154, 0, 5, 2, 172, 31, 29, 184, 1, 81, 29]
abbrev dktX0_enough_0 : List UInt8 := dkwX0_enough_0 ++ dktX0_enough_1
theorem dksX0_enough_0 : cX0_enough.data.toList.drop 0 = dktX0_enough_0 := by decide +kernel
theorem dksX0_enough_1 : cX0_enough.data.toList.drop 22 = dktX0_enough_1 := dk_seg dksX0_enough_0 22 rfl rfl
theorem dksX0_enough_2 : cX0_enough.data.toList.drop 46 = dktX0_enough_2 := dk_seg dksX0_enough_1 24 rfl rfl
theorem dX0_enough_0 : decode cX0_enough 0 = .ok (.lload_n 1, 1) := dk_31 (dk_at dksX0_enough_0 0 rfl rfl)
theorem dX0_enough_1 : decode cX0_enough 1 = .ok (.invokestatic 331, 3) := dk_184 1 75 (dk_at dksX0_enough_0 1 rfl rfl)
theorem dX0_enough_4 : decode cX0_enough 4 = .ok (.ifCond .eq 10, 3) := dk_153 0 10 (dk_at dksX0_enough_0 4 rfl rfl)
theorem dX0_enough_7 : decode cX0_enough 7 = .ok (.iload_n 3, 1) := dk_29 (dk_at dksX0_enough_0 7 rfl rfl)
theorem dX0_enough_8 : decode cX0_enough 8 = .ok (.invokestatic 334, 3) := dk_184 1 78 (dk_at dksX0_enough_0 8 rfl rfl)
theorem dX0_enough_11 : decode cX0_enough 11 = .ok (.ifCond .ne 5, 3) := dk_154 0 5 (dk_at dksX0_enough_0 11 rfl rfl)
theorem dX0_enough_14 : decode cX0_enough 14 = .ok (.iconst (-1), 1) := dk_2 (dk_at dksX0_enough_0 14 rfl rfl)
theorem dX0_enough_15 : decode cX0_enough 15 = .ok (.ireturn, 1) := dk_172 (dk_at dksX0_enough_0 15 rfl rfl)
theorem dX0_enough_16 : decode cX0_enough 16 = .ok (.lload_n 1, 1) := dk_31 (dk_at dksX0_enough_0 16 rfl rfl)
theorem dX0_enough_17 : decode cX0_enough 17 = .ok (.iload_n 3, 1) := dk_29 (dk_at dksX0_enough_0 17 rfl rfl)
theorem dX0_enough_18 : decode cX0_enough 18 = .ok (.invokestatic 337, 3) := dk_184 1 81 (dk_at dksX0_enough_0 18 rfl rfl)
theorem dX0_enough_21 : decode cX0_enough 21 = .ok (.iload_n 3, 1) := dk_29 (dk_at dksX0_enough_0 21 rfl rfl)
theorem dX0_enough_22 : decode cX0_enough 22 = .ok (.invokestatic 341, 3) := dk_184 1 85 (dk_at dksX0_enough_1 0 rfl rfl)
theorem dX0_enough_25 : decode cX0_enough 25 = .ok (.lload_n 1, 1) := dk_31 (dk_at dksX0_enough_1 3 rfl rfl)
theorem dX0_enough_26 : decode cX0_enough 26 = .ok (.lcmp, 1) := dk_148 (dk_at dksX0_enough_1 4 rfl rfl)
theorem dX0_enough_27 : decode cX0_enough 27 = .ok (.ifCond .eq 6, 3) := dk_153 0 6 (dk_at dksX0_enough_1 5 rfl rfl)
theorem dX0_enough_30 : decode cX0_enough 30 = .ok (.bipush (-2), 2) := dk_16 254 (dk_at dksX0_enough_1 8 rfl rfl)
theorem dX0_enough_32 : decode cX0_enough 32 = .ok (.ireturn, 1) := dk_172 (dk_at dksX0_enough_1 10 rfl rfl)
theorem dX0_enough_33 : decode cX0_enough 33 = .ok (.iconst 1, 1) := dk_4 (dk_at dksX0_enough_1 11 rfl rfl)
theorem dX0_enough_34 : decode cX0_enough 34 = .ok (.istore 4, 2) := dk_54 4 (dk_at dksX0_enough_1 12 rfl rfl)
theorem dX0_enough_36 : decode cX0_enough 36 = .ok (.aload_n 0, 1) := dk_42 (dk_at dksX0_enough_1 14 rfl rfl)
theorem dX0_enough_37 : decode cX0_enough 37 = .ok (.lload_n 1, 1) := dk_31 (dk_at dksX0_enough_1 15 rfl rfl)
theorem dX0_enough_38 : decode cX0_enough 38 = .ok (.iload_n 3, 1) := dk_29 (dk_at dksX0_enough_1 16 rfl rfl)
theorem dX0_enough_39 : decode cX0_enough 39 = .ok (.iload 4, 2) := dk_21 4 (dk_at dksX0_enough_1 17 rfl rfl)
theorem dX0_enough_41 : decode cX0_enough 41 = .ok (.invokevirtual 355, 3) := dk_182 1 99 (dk_at dksX0_enough_1 19 rfl rfl)
theorem dX0_enough_44 : decode cX0_enough 44 = .ok (.lconst 1, 1) := dk_10 (dk_at dksX0_enough_1 22 rfl rfl)
theorem dX0_enough_45 : decode cX0_enough 45 = .ok (.lcmp, 1) := dk_148 (dk_at dksX0_enough_1 23 rfl rfl)
theorem dX0_enough_46 : decode cX0_enough 46 = .ok (.ifCond .le 9, 3) := dk_158 0 9 (dk_at dksX0_enough_2 0 rfl rfl)
theorem dX0_enough_49 : decode cX0_enough 49 = .ok (.iinc 4 1, 3) := dk_132 4 1 (dk_at dksX0_enough_2 3 rfl rfl)
theorem dX0_enough_52 : decode cX0_enough 52 = .ok (.goto (-16), 3) := dk_167 255 240 (dk_at dksX0_enough_2 6 rfl rfl)
theorem dX0_enough_55 : decode cX0_enough 55 = .ok (.iload 4, 2) := dk_21 4 (dk_at dksX0_enough_2 9 rfl rfl)
theorem dX0_enough_57 : decode cX0_enough 57 = .ok (.ireturn, 1) := dk_172 (dk_at dksX0_enough_2 11 rfl rfl)
abbrev cX0_body : ByteArray := prog_1_method_61_code
def yX0_body : MethodName := ⟨RX0, "body", "(I)I"⟩
def dkwX0_body_2 : List UInt8 := [42, 180, 1, 106, 4, 100, 172]
abbrev dktX0_body_2 : List UInt8 := dkwX0_body_2 ++ []
def dkwX0_body_1 : List UInt8 := [42, 180, 0, 61, 42, 180, 1, 106, 42, 27, 182, 1, 133, 83, 42, 89, 180, 1, 106, 4, 96, 181, 1, 106]
abbrev dktX0_body_1 : List UInt8 := dkwX0_body_1 ++ dktX0_body_2
def dkwX0_body_0 : List UInt8 := [27, 3, 16, 7, 184, 0, 73, 154, 0, 5, 2, 172, 42, 180, 1, 106, 16, 50, 160, 0, 6, 16, 253, 172]
abbrev dktX0_body_0 : List UInt8 := dkwX0_body_0 ++ dktX0_body_1
theorem dksX0_body_0 : cX0_body.data.toList.drop 0 = dktX0_body_0 := by decide +kernel
theorem dksX0_body_1 : cX0_body.data.toList.drop 24 = dktX0_body_1 := dk_seg dksX0_body_0 24 rfl rfl
theorem dksX0_body_2 : cX0_body.data.toList.drop 48 = dktX0_body_2 := dk_seg dksX0_body_1 24 rfl rfl
theorem dX0_body_0 : decode cX0_body 0 = .ok (.iload_n 1, 1) := dk_27 (dk_at dksX0_body_0 0 rfl rfl)
theorem dX0_body_1 : decode cX0_body 1 = .ok (.iconst 0, 1) := dk_3 (dk_at dksX0_body_0 1 rfl rfl)
theorem dX0_body_2 : decode cX0_body 2 = .ok (.bipush 7, 2) := dk_16 7 (dk_at dksX0_body_0 2 rfl rfl)
theorem dX0_body_4 : decode cX0_body 4 = .ok (.invokestatic 73, 3) := dk_184 0 73 (dk_at dksX0_body_0 4 rfl rfl)
theorem dX0_body_7 : decode cX0_body 7 = .ok (.ifCond .ne 5, 3) := dk_154 0 5 (dk_at dksX0_body_0 7 rfl rfl)
theorem dX0_body_10 : decode cX0_body 10 = .ok (.iconst (-1), 1) := dk_2 (dk_at dksX0_body_0 10 rfl rfl)
theorem dX0_body_11 : decode cX0_body 11 = .ok (.ireturn, 1) := dk_172 (dk_at dksX0_body_0 11 rfl rfl)
theorem dX0_body_12 : decode cX0_body 12 = .ok (.aload_n 0, 1) := dk_42 (dk_at dksX0_body_0 12 rfl rfl)
theorem dX0_body_13 : decode cX0_body 13 = .ok (.getfield 362, 3) := dk_180 1 106 (dk_at dksX0_body_0 13 rfl rfl)
theorem dX0_body_16 : decode cX0_body 16 = .ok (.bipush 50, 2) := dk_16 50 (dk_at dksX0_body_0 16 rfl rfl)
theorem dX0_body_18 : decode cX0_body 18 = .ok (.if_icmp .ne 6, 3) := dk_160 0 6 (dk_at dksX0_body_0 18 rfl rfl)
theorem dX0_body_21 : decode cX0_body 21 = .ok (.bipush (-3), 2) := dk_16 253 (dk_at dksX0_body_0 21 rfl rfl)
theorem dX0_body_23 : decode cX0_body 23 = .ok (.ireturn, 1) := dk_172 (dk_at dksX0_body_0 23 rfl rfl)
theorem dX0_body_24 : decode cX0_body 24 = .ok (.aload_n 0, 1) := dk_42 (dk_at dksX0_body_1 0 rfl rfl)
theorem dX0_body_25 : decode cX0_body 25 = .ok (.getfield 61, 3) := dk_180 0 61 (dk_at dksX0_body_1 1 rfl rfl)
theorem dX0_body_28 : decode cX0_body 28 = .ok (.aload_n 0, 1) := dk_42 (dk_at dksX0_body_1 4 rfl rfl)
theorem dX0_body_29 : decode cX0_body 29 = .ok (.getfield 362, 3) := dk_180 1 106 (dk_at dksX0_body_1 5 rfl rfl)
theorem dX0_body_32 : decode cX0_body 32 = .ok (.aload_n 0, 1) := dk_42 (dk_at dksX0_body_1 8 rfl rfl)
theorem dX0_body_33 : decode cX0_body 33 = .ok (.iload_n 1, 1) := dk_27 (dk_at dksX0_body_1 9 rfl rfl)
theorem dX0_body_34 : decode cX0_body 34 = .ok (.invokevirtual 389, 3) := dk_182 1 133 (dk_at dksX0_body_1 10 rfl rfl)
theorem dX0_body_37 : decode cX0_body 37 = .ok (.aastore, 1) := dk_83 (dk_at dksX0_body_1 13 rfl rfl)
theorem dX0_body_38 : decode cX0_body 38 = .ok (.aload_n 0, 1) := dk_42 (dk_at dksX0_body_1 14 rfl rfl)
theorem dX0_body_39 : decode cX0_body 39 = .ok (.dup, 1) := dk_89 (dk_at dksX0_body_1 15 rfl rfl)
theorem dX0_body_40 : decode cX0_body 40 = .ok (.getfield 362, 3) := dk_180 1 106 (dk_at dksX0_body_1 16 rfl rfl)
theorem dX0_body_43 : decode cX0_body 43 = .ok (.iconst 1, 1) := dk_4 (dk_at dksX0_body_1 19 rfl rfl)
theorem dX0_body_44 : decode cX0_body 44 = .ok (.iadd, 1) := dk_96 (dk_at dksX0_body_1 20 rfl rfl)
theorem dX0_body_45 : decode cX0_body 45 = .ok (.putfield 362, 3) := dk_181 1 106 (dk_at dksX0_body_1 21 rfl rfl)
theorem dX0_body_48 : decode cX0_body 48 = .ok (.aload_n 0, 1) := dk_42 (dk_at dksX0_body_2 0 rfl rfl)
theorem dX0_body_49 : decode cX0_body 49 = .ok (.getfield 362, 3) := dk_180 1 106 (dk_at dksX0_body_2 1 rfl rfl)
theorem dX0_body_52 : decode cX0_body 52 = .ok (.iconst 1, 1) := dk_4 (dk_at dksX0_body_2 4 rfl rfl)
theorem dX0_body_53 : decode cX0_body 53 = .ok (.isub, 1) := dk_100 (dk_at dksX0_body_2 5 rfl rfl)
theorem dX0_body_54 : decode cX0_body 54 = .ok (.ireturn, 1) := dk_172 (dk_at dksX0_body_2 6 rfl rfl)
abbrev cX0_made : ByteArray := prog_1_method_60_code
def yX0_made : MethodName := ⟨RX0, "made", "(I)LHeadReckons$Way;"⟩
def dkwX0_made_6 : List UInt8 := [187, 0, 59, 89, 42, 42, 180, 1, 106, 183, 1, 132, 176]
abbrev dktX0_made_6 : List UInt8 := dkwX0_made_6 ++ []
def dkwX0_made_5 : List UInt8 := [42, 42, 180, 1, 106, 183, 1, 128, 176, 187, 1, 129, 89, 42, 42, 180, 1, 106, 183, 1, 131, 176]
abbrev dktX0_made_5 : List UInt8 := dkwX0_made_5 ++ dktX0_made_6
def dkwX0_made_4 : List UInt8 := [180, 1, 106, 183, 1, 122, 176, 187, 1, 123, 89, 42, 42, 180, 1, 106, 183, 1, 125, 176, 187, 1, 126, 89]
abbrev dktX0_made_4 : List UInt8 := dkwX0_made_4 ++ dktX0_made_5
def dkwX0_made_3 : List UInt8 := [183, 1, 116, 176, 187, 1, 117, 89, 42, 42, 180, 1, 106, 183, 1, 119, 176, 187, 1, 120, 89, 42, 42]
abbrev dktX0_made_3 : List UInt8 := dkwX0_made_3 ++ dktX0_made_4
def dkwX0_made_2 : List UInt8 := [187, 1, 109, 89, 42, 42, 180, 1, 106, 183, 1, 111, 176, 187, 1, 114, 89, 42, 42, 180, 1, 106]
abbrev dktX0_made_2 : List UInt8 := dkwX0_made_2 ++ dktX0_made_3
def dkwX0_made_1 : List UInt8 := [170, 0, 0, 0, 0, 0, 134, 0, 0, 0, 1, 0, 0, 0, 7, 0, 0, 0, 43, 0, 0, 0, 56, 0, 0, 0, 69, 0, 0, 0, 82, 0, 0, 0, 95, 0, 0, 0, 108, 0, 0, 0, 121]
abbrev dktX0_made_1 : List UInt8 := dkwX0_made_1 ++ dktX0_made_2
def dkwX0_made_0 : List UInt8 := [27]
abbrev dktX0_made_0 : List UInt8 := dkwX0_made_0 ++ dktX0_made_1
theorem dksX0_made_0 : cX0_made.data.toList.drop 0 = dktX0_made_0 := by decide +kernel
theorem dksX0_made_1 : cX0_made.data.toList.drop 1 = dktX0_made_1 := dk_seg dksX0_made_0 1 rfl rfl
theorem dksX0_made_2 : cX0_made.data.toList.drop 44 = dktX0_made_2 := dk_seg dksX0_made_1 43 rfl rfl
theorem dksX0_made_3 : cX0_made.data.toList.drop 66 = dktX0_made_3 := dk_seg dksX0_made_2 22 rfl rfl
theorem dksX0_made_4 : cX0_made.data.toList.drop 89 = dktX0_made_4 := dk_seg dksX0_made_3 23 rfl rfl
theorem dksX0_made_5 : cX0_made.data.toList.drop 113 = dktX0_made_5 := dk_seg dksX0_made_4 24 rfl rfl
theorem dksX0_made_6 : cX0_made.data.toList.drop 135 = dktX0_made_6 := dk_seg dksX0_made_5 22 rfl rfl
theorem dX0_made_0 : decode cX0_made 0 = .ok (.iload_n 1, 1) := dk_27 (dk_at dksX0_made_0 0 rfl rfl)
theorem dX0_made_1 : decode cX0_made 1 = .ok (.tableswitch 134 1 7 #[43, 56, 69, 82, 95, 108, 121], 43) := by decide +kernel
theorem dX0_made_44 : decode cX0_made 44 = .ok (.new 365, 3) := dk_187 1 109 (dk_at dksX0_made_2 0 rfl rfl)
theorem dX0_made_47 : decode cX0_made 47 = .ok (.dup, 1) := dk_89 (dk_at dksX0_made_2 3 rfl rfl)
theorem dX0_made_48 : decode cX0_made 48 = .ok (.aload_n 0, 1) := dk_42 (dk_at dksX0_made_2 4 rfl rfl)
theorem dX0_made_49 : decode cX0_made 49 = .ok (.aload_n 0, 1) := dk_42 (dk_at dksX0_made_2 5 rfl rfl)
theorem dX0_made_50 : decode cX0_made 50 = .ok (.getfield 362, 3) := dk_180 1 106 (dk_at dksX0_made_2 6 rfl rfl)
theorem dX0_made_53 : decode cX0_made 53 = .ok (.invokespecial 367, 3) := dk_183 1 111 (dk_at dksX0_made_2 9 rfl rfl)
theorem dX0_made_56 : decode cX0_made 56 = .ok (.areturn, 1) := dk_176 (dk_at dksX0_made_2 12 rfl rfl)
theorem dX0_made_57 : decode cX0_made 57 = .ok (.new 370, 3) := dk_187 1 114 (dk_at dksX0_made_2 13 rfl rfl)
theorem dX0_made_60 : decode cX0_made 60 = .ok (.dup, 1) := dk_89 (dk_at dksX0_made_2 16 rfl rfl)
theorem dX0_made_61 : decode cX0_made 61 = .ok (.aload_n 0, 1) := dk_42 (dk_at dksX0_made_2 17 rfl rfl)
theorem dX0_made_62 : decode cX0_made 62 = .ok (.aload_n 0, 1) := dk_42 (dk_at dksX0_made_2 18 rfl rfl)
theorem dX0_made_63 : decode cX0_made 63 = .ok (.getfield 362, 3) := dk_180 1 106 (dk_at dksX0_made_2 19 rfl rfl)
theorem dX0_made_66 : decode cX0_made 66 = .ok (.invokespecial 372, 3) := dk_183 1 116 (dk_at dksX0_made_3 0 rfl rfl)
theorem dX0_made_69 : decode cX0_made 69 = .ok (.areturn, 1) := dk_176 (dk_at dksX0_made_3 3 rfl rfl)
theorem dX0_made_70 : decode cX0_made 70 = .ok (.new 373, 3) := dk_187 1 117 (dk_at dksX0_made_3 4 rfl rfl)
theorem dX0_made_73 : decode cX0_made 73 = .ok (.dup, 1) := dk_89 (dk_at dksX0_made_3 7 rfl rfl)
theorem dX0_made_74 : decode cX0_made 74 = .ok (.aload_n 0, 1) := dk_42 (dk_at dksX0_made_3 8 rfl rfl)
theorem dX0_made_75 : decode cX0_made 75 = .ok (.aload_n 0, 1) := dk_42 (dk_at dksX0_made_3 9 rfl rfl)
theorem dX0_made_76 : decode cX0_made 76 = .ok (.getfield 362, 3) := dk_180 1 106 (dk_at dksX0_made_3 10 rfl rfl)
theorem dX0_made_79 : decode cX0_made 79 = .ok (.invokespecial 375, 3) := dk_183 1 119 (dk_at dksX0_made_3 13 rfl rfl)
theorem dX0_made_82 : decode cX0_made 82 = .ok (.areturn, 1) := dk_176 (dk_at dksX0_made_3 16 rfl rfl)
theorem dX0_made_83 : decode cX0_made 83 = .ok (.new 376, 3) := dk_187 1 120 (dk_at dksX0_made_3 17 rfl rfl)
theorem dX0_made_86 : decode cX0_made 86 = .ok (.dup, 1) := dk_89 (dk_at dksX0_made_3 20 rfl rfl)
theorem dX0_made_87 : decode cX0_made 87 = .ok (.aload_n 0, 1) := dk_42 (dk_at dksX0_made_3 21 rfl rfl)
theorem dX0_made_88 : decode cX0_made 88 = .ok (.aload_n 0, 1) := dk_42 (dk_at dksX0_made_3 22 rfl rfl)
theorem dX0_made_89 : decode cX0_made 89 = .ok (.getfield 362, 3) := dk_180 1 106 (dk_at dksX0_made_4 0 rfl rfl)
theorem dX0_made_92 : decode cX0_made 92 = .ok (.invokespecial 378, 3) := dk_183 1 122 (dk_at dksX0_made_4 3 rfl rfl)
theorem dX0_made_95 : decode cX0_made 95 = .ok (.areturn, 1) := dk_176 (dk_at dksX0_made_4 6 rfl rfl)
theorem dX0_made_96 : decode cX0_made 96 = .ok (.new 379, 3) := dk_187 1 123 (dk_at dksX0_made_4 7 rfl rfl)
theorem dX0_made_99 : decode cX0_made 99 = .ok (.dup, 1) := dk_89 (dk_at dksX0_made_4 10 rfl rfl)
theorem dX0_made_100 : decode cX0_made 100 = .ok (.aload_n 0, 1) := dk_42 (dk_at dksX0_made_4 11 rfl rfl)
theorem dX0_made_101 : decode cX0_made 101 = .ok (.aload_n 0, 1) := dk_42 (dk_at dksX0_made_4 12 rfl rfl)
theorem dX0_made_102 : decode cX0_made 102 = .ok (.getfield 362, 3) := dk_180 1 106 (dk_at dksX0_made_4 13 rfl rfl)
theorem dX0_made_105 : decode cX0_made 105 = .ok (.invokespecial 381, 3) := dk_183 1 125 (dk_at dksX0_made_4 16 rfl rfl)
theorem dX0_made_108 : decode cX0_made 108 = .ok (.areturn, 1) := dk_176 (dk_at dksX0_made_4 19 rfl rfl)
theorem dX0_made_109 : decode cX0_made 109 = .ok (.new 382, 3) := dk_187 1 126 (dk_at dksX0_made_4 20 rfl rfl)
theorem dX0_made_112 : decode cX0_made 112 = .ok (.dup, 1) := dk_89 (dk_at dksX0_made_4 23 rfl rfl)
theorem dX0_made_113 : decode cX0_made 113 = .ok (.aload_n 0, 1) := dk_42 (dk_at dksX0_made_5 0 rfl rfl)
theorem dX0_made_114 : decode cX0_made 114 = .ok (.aload_n 0, 1) := dk_42 (dk_at dksX0_made_5 1 rfl rfl)
theorem dX0_made_115 : decode cX0_made 115 = .ok (.getfield 362, 3) := dk_180 1 106 (dk_at dksX0_made_5 2 rfl rfl)
theorem dX0_made_118 : decode cX0_made 118 = .ok (.invokespecial 384, 3) := dk_183 1 128 (dk_at dksX0_made_5 5 rfl rfl)
theorem dX0_made_121 : decode cX0_made 121 = .ok (.areturn, 1) := dk_176 (dk_at dksX0_made_5 8 rfl rfl)
theorem dX0_made_122 : decode cX0_made 122 = .ok (.new 385, 3) := dk_187 1 129 (dk_at dksX0_made_5 9 rfl rfl)
theorem dX0_made_125 : decode cX0_made 125 = .ok (.dup, 1) := dk_89 (dk_at dksX0_made_5 12 rfl rfl)
theorem dX0_made_126 : decode cX0_made 126 = .ok (.aload_n 0, 1) := dk_42 (dk_at dksX0_made_5 13 rfl rfl)
theorem dX0_made_127 : decode cX0_made 127 = .ok (.aload_n 0, 1) := dk_42 (dk_at dksX0_made_5 14 rfl rfl)
theorem dX0_made_128 : decode cX0_made 128 = .ok (.getfield 362, 3) := dk_180 1 106 (dk_at dksX0_made_5 15 rfl rfl)
theorem dX0_made_131 : decode cX0_made 131 = .ok (.invokespecial 387, 3) := dk_183 1 131 (dk_at dksX0_made_5 18 rfl rfl)
theorem dX0_made_134 : decode cX0_made 134 = .ok (.areturn, 1) := dk_176 (dk_at dksX0_made_5 21 rfl rfl)
theorem dX0_made_135 : decode cX0_made 135 = .ok (.new 59, 3) := dk_187 0 59 (dk_at dksX0_made_6 0 rfl rfl)
theorem dX0_made_138 : decode cX0_made 138 = .ok (.dup, 1) := dk_89 (dk_at dksX0_made_6 3 rfl rfl)
theorem dX0_made_139 : decode cX0_made 139 = .ok (.aload_n 0, 1) := dk_42 (dk_at dksX0_made_6 4 rfl rfl)
theorem dX0_made_140 : decode cX0_made 140 = .ok (.aload_n 0, 1) := dk_42 (dk_at dksX0_made_6 5 rfl rfl)
theorem dX0_made_141 : decode cX0_made 141 = .ok (.getfield 362, 3) := dk_180 1 106 (dk_at dksX0_made_6 6 rfl rfl)
theorem dX0_made_144 : decode cX0_made 144 = .ok (.invokespecial 388, 3) := dk_183 1 132 (dk_at dksX0_made_6 9 rfl rfl)
theorem dX0_made_147 : decode cX0_made 147 = .ok (.areturn, 1) := dk_176 (dk_at dksX0_made_6 12 rfl rfl)
abbrev cX0_act : ByteArray := prog_1_method_63_code
def yX0_act : MethodName := ⟨RX0, "act", "(III)I"⟩
def dkwX0_act_3 : List UInt8 := [25, 4, 29, 182, 1, 150, 167, 0, 9, 25, 4, 29, 182, 1, 153, 172]
abbrev dktX0_act_3 : List UInt8 := dkwX0_act_3 ++ []
def dkwX0_act_2 : List UInt8 := [172, 28, 6, 160, 0, 16, 25, 4, 58, 5, 25, 5, 29, 185, 1, 145, 2, 0, 172, 28, 4, 160, 0, 12]
abbrev dktX0_act_2 : List UInt8 := dkwX0_act_2 ++ dktX0_act_3
def dkwX0_act_1 : List UInt8 := [42, 180, 0, 61, 27, 50, 58, 4, 28, 154, 0, 16, 25, 4, 58, 5, 25, 5, 29, 185, 1, 140, 2, 0]
abbrev dktX0_act_1 : List UInt8 := dkwX0_act_1 ++ dktX0_act_2
def dkwX0_act_0 : List UInt8 := [42, 3, 181, 1, 103, 42, 27, 182, 1, 137, 153, 0, 12, 28, 3, 6, 184, 0, 73, 154, 0, 5, 3, 172]
abbrev dktX0_act_0 : List UInt8 := dkwX0_act_0 ++ dktX0_act_1
theorem dksX0_act_0 : cX0_act.data.toList.drop 0 = dktX0_act_0 := by decide +kernel
theorem dksX0_act_1 : cX0_act.data.toList.drop 24 = dktX0_act_1 := dk_seg dksX0_act_0 24 rfl rfl
theorem dksX0_act_2 : cX0_act.data.toList.drop 48 = dktX0_act_2 := dk_seg dksX0_act_1 24 rfl rfl
theorem dksX0_act_3 : cX0_act.data.toList.drop 72 = dktX0_act_3 := dk_seg dksX0_act_2 24 rfl rfl
theorem dX0_act_0 : decode cX0_act 0 = .ok (.aload_n 0, 1) := dk_42 (dk_at dksX0_act_0 0 rfl rfl)
theorem dX0_act_1 : decode cX0_act 1 = .ok (.iconst 0, 1) := dk_3 (dk_at dksX0_act_0 1 rfl rfl)
theorem dX0_act_2 : decode cX0_act 2 = .ok (.putfield 359, 3) := dk_181 1 103 (dk_at dksX0_act_0 2 rfl rfl)
theorem dX0_act_5 : decode cX0_act 5 = .ok (.aload_n 0, 1) := dk_42 (dk_at dksX0_act_0 5 rfl rfl)
theorem dX0_act_6 : decode cX0_act 6 = .ok (.iload_n 1, 1) := dk_27 (dk_at dksX0_act_0 6 rfl rfl)
theorem dX0_act_7 : decode cX0_act 7 = .ok (.invokevirtual 393, 3) := dk_182 1 137 (dk_at dksX0_act_0 7 rfl rfl)
theorem dX0_act_10 : decode cX0_act 10 = .ok (.ifCond .eq 12, 3) := dk_153 0 12 (dk_at dksX0_act_0 10 rfl rfl)
theorem dX0_act_13 : decode cX0_act 13 = .ok (.iload_n 2, 1) := dk_28 (dk_at dksX0_act_0 13 rfl rfl)
theorem dX0_act_14 : decode cX0_act 14 = .ok (.iconst 0, 1) := dk_3 (dk_at dksX0_act_0 14 rfl rfl)
theorem dX0_act_15 : decode cX0_act 15 = .ok (.iconst 3, 1) := dk_6 (dk_at dksX0_act_0 15 rfl rfl)
theorem dX0_act_16 : decode cX0_act 16 = .ok (.invokestatic 73, 3) := dk_184 0 73 (dk_at dksX0_act_0 16 rfl rfl)
theorem dX0_act_19 : decode cX0_act 19 = .ok (.ifCond .ne 5, 3) := dk_154 0 5 (dk_at dksX0_act_0 19 rfl rfl)
theorem dX0_act_22 : decode cX0_act 22 = .ok (.iconst 0, 1) := dk_3 (dk_at dksX0_act_0 22 rfl rfl)
theorem dX0_act_23 : decode cX0_act 23 = .ok (.ireturn, 1) := dk_172 (dk_at dksX0_act_0 23 rfl rfl)
theorem dX0_act_24 : decode cX0_act 24 = .ok (.aload_n 0, 1) := dk_42 (dk_at dksX0_act_1 0 rfl rfl)
theorem dX0_act_25 : decode cX0_act 25 = .ok (.getfield 61, 3) := dk_180 0 61 (dk_at dksX0_act_1 1 rfl rfl)
theorem dX0_act_28 : decode cX0_act 28 = .ok (.iload_n 1, 1) := dk_27 (dk_at dksX0_act_1 4 rfl rfl)
theorem dX0_act_29 : decode cX0_act 29 = .ok (.aaload, 1) := dk_50 (dk_at dksX0_act_1 5 rfl rfl)
theorem dX0_act_30 : decode cX0_act 30 = .ok (.astore 4, 2) := dk_58 4 (dk_at dksX0_act_1 6 rfl rfl)
theorem dX0_act_32 : decode cX0_act 32 = .ok (.iload_n 2, 1) := dk_28 (dk_at dksX0_act_1 8 rfl rfl)
theorem dX0_act_33 : decode cX0_act 33 = .ok (.ifCond .ne 16, 3) := dk_154 0 16 (dk_at dksX0_act_1 9 rfl rfl)
theorem dX0_act_36 : decode cX0_act 36 = .ok (.aload 4, 2) := dk_25 4 (dk_at dksX0_act_1 12 rfl rfl)
theorem dX0_act_38 : decode cX0_act 38 = .ok (.astore 5, 2) := dk_58 5 (dk_at dksX0_act_1 14 rfl rfl)
theorem dX0_act_40 : decode cX0_act 40 = .ok (.aload 5, 2) := dk_25 5 (dk_at dksX0_act_1 16 rfl rfl)
theorem dX0_act_42 : decode cX0_act 42 = .ok (.iload_n 3, 1) := dk_29 (dk_at dksX0_act_1 18 rfl rfl)
theorem dX0_act_43 : decode cX0_act 43 = .ok (.invokeinterface 396 2, 5) := by decide +kernel
theorem dX0_act_48 : decode cX0_act 48 = .ok (.ireturn, 1) := dk_172 (dk_at dksX0_act_2 0 rfl rfl)
theorem dX0_act_49 : decode cX0_act 49 = .ok (.iload_n 2, 1) := dk_28 (dk_at dksX0_act_2 1 rfl rfl)
theorem dX0_act_50 : decode cX0_act 50 = .ok (.iconst 3, 1) := dk_6 (dk_at dksX0_act_2 2 rfl rfl)
theorem dX0_act_51 : decode cX0_act 51 = .ok (.if_icmp .ne 16, 3) := dk_160 0 16 (dk_at dksX0_act_2 3 rfl rfl)
theorem dX0_act_54 : decode cX0_act 54 = .ok (.aload 4, 2) := dk_25 4 (dk_at dksX0_act_2 6 rfl rfl)
theorem dX0_act_56 : decode cX0_act 56 = .ok (.astore 5, 2) := dk_58 5 (dk_at dksX0_act_2 8 rfl rfl)
theorem dX0_act_58 : decode cX0_act 58 = .ok (.aload 5, 2) := dk_25 5 (dk_at dksX0_act_2 10 rfl rfl)
theorem dX0_act_60 : decode cX0_act 60 = .ok (.iload_n 3, 1) := dk_29 (dk_at dksX0_act_2 12 rfl rfl)
theorem dX0_act_61 : decode cX0_act 61 = .ok (.invokeinterface 401 2, 5) := by decide +kernel
theorem dX0_act_66 : decode cX0_act 66 = .ok (.ireturn, 1) := dk_172 (dk_at dksX0_act_2 18 rfl rfl)
theorem dX0_act_67 : decode cX0_act 67 = .ok (.iload_n 2, 1) := dk_28 (dk_at dksX0_act_2 19 rfl rfl)
theorem dX0_act_68 : decode cX0_act 68 = .ok (.iconst 1, 1) := dk_4 (dk_at dksX0_act_2 20 rfl rfl)
theorem dX0_act_69 : decode cX0_act 69 = .ok (.if_icmp .ne 12, 3) := dk_160 0 12 (dk_at dksX0_act_2 21 rfl rfl)
theorem dX0_act_72 : decode cX0_act 72 = .ok (.aload 4, 2) := dk_25 4 (dk_at dksX0_act_3 0 rfl rfl)
theorem dX0_act_74 : decode cX0_act 74 = .ok (.iload_n 3, 1) := dk_29 (dk_at dksX0_act_3 2 rfl rfl)
theorem dX0_act_75 : decode cX0_act 75 = .ok (.invokevirtual 406, 3) := dk_182 1 150 (dk_at dksX0_act_3 3 rfl rfl)
theorem dX0_act_78 : decode cX0_act 78 = .ok (.goto 9, 3) := dk_167 0 9 (dk_at dksX0_act_3 6 rfl rfl)
theorem dX0_act_81 : decode cX0_act 81 = .ok (.aload 4, 2) := dk_25 4 (dk_at dksX0_act_3 9 rfl rfl)
theorem dX0_act_83 : decode cX0_act 83 = .ok (.iload_n 3, 1) := dk_29 (dk_at dksX0_act_3 11 rfl rfl)
theorem dX0_act_84 : decode cX0_act 84 = .ok (.invokevirtual 409, 3) := dk_182 1 153 (dk_at dksX0_act_3 12 rfl rfl)
theorem dX0_act_87 : decode cX0_act 87 = .ok (.ireturn, 1) := dk_172 (dk_at dksX0_act_3 15 rfl rfl)
abbrev cX0_isBody : ByteArray := prog_1_method_59_code
def yX0_isBody : MethodName := ⟨RX0, "isBody", "(I)Z"⟩
def dkwX0_isBody_0 : List UInt8 := [27, 3, 42, 180, 1, 106, 4, 100, 184, 0, 73, 172]
abbrev dktX0_isBody_0 : List UInt8 := dkwX0_isBody_0 ++ []
theorem dksX0_isBody_0 : cX0_isBody.data.toList.drop 0 = dktX0_isBody_0 := by decide +kernel
theorem dX0_isBody_0 : decode cX0_isBody 0 = .ok (.iload_n 1, 1) := dk_27 (dk_at dksX0_isBody_0 0 rfl rfl)
theorem dX0_isBody_1 : decode cX0_isBody 1 = .ok (.iconst 0, 1) := dk_3 (dk_at dksX0_isBody_0 1 rfl rfl)
theorem dX0_isBody_2 : decode cX0_isBody 2 = .ok (.aload_n 0, 1) := dk_42 (dk_at dksX0_isBody_0 2 rfl rfl)
theorem dX0_isBody_3 : decode cX0_isBody 3 = .ok (.getfield 362, 3) := dk_180 1 106 (dk_at dksX0_isBody_0 3 rfl rfl)
theorem dX0_isBody_6 : decode cX0_isBody 6 = .ok (.iconst 1, 1) := dk_4 (dk_at dksX0_isBody_0 6 rfl rfl)
theorem dX0_isBody_7 : decode cX0_isBody 7 = .ok (.isub, 1) := dk_100 (dk_at dksX0_isBody_0 7 rfl rfl)
theorem dX0_isBody_8 : decode cX0_isBody 8 = .ok (.invokestatic 73, 3) := dk_184 0 73 (dk_at dksX0_isBody_0 8 rfl rfl)
theorem dX0_isBody_11 : decode cX0_isBody 11 = .ok (.ireturn, 1) := dk_172 (dk_at dksX0_isBody_0 11 rfl rfl)
abbrev cX0_ran : ByteArray := prog_1_method_58_code
def yX0_ran : MethodName := ⟨RX0, "ran", "(I)V"⟩
def dkwX0_ran_1 : List UInt8 := [180, 1, 103, 4, 96, 181, 1, 103, 177]
abbrev dktX0_ran_1 : List UInt8 := dkwX0_ran_1 ++ []
def dkwX0_ran_0 : List UInt8 := [42, 180, 1, 103, 16, 24, 162, 0, 14, 42, 180, 0, 56, 42, 180, 1, 103, 27, 145, 84, 42, 89]
abbrev dktX0_ran_0 : List UInt8 := dkwX0_ran_0 ++ dktX0_ran_1
theorem dksX0_ran_0 : cX0_ran.data.toList.drop 0 = dktX0_ran_0 := by decide +kernel
theorem dksX0_ran_1 : cX0_ran.data.toList.drop 22 = dktX0_ran_1 := dk_seg dksX0_ran_0 22 rfl rfl
theorem dX0_ran_0 : decode cX0_ran 0 = .ok (.aload_n 0, 1) := dk_42 (dk_at dksX0_ran_0 0 rfl rfl)
theorem dX0_ran_1 : decode cX0_ran 1 = .ok (.getfield 359, 3) := dk_180 1 103 (dk_at dksX0_ran_0 1 rfl rfl)
theorem dX0_ran_4 : decode cX0_ran 4 = .ok (.bipush 24, 2) := dk_16 24 (dk_at dksX0_ran_0 4 rfl rfl)
theorem dX0_ran_6 : decode cX0_ran 6 = .ok (.if_icmp .ge 14, 3) := dk_162 0 14 (dk_at dksX0_ran_0 6 rfl rfl)
theorem dX0_ran_9 : decode cX0_ran 9 = .ok (.aload_n 0, 1) := dk_42 (dk_at dksX0_ran_0 9 rfl rfl)
theorem dX0_ran_10 : decode cX0_ran 10 = .ok (.getfield 56, 3) := dk_180 0 56 (dk_at dksX0_ran_0 10 rfl rfl)
theorem dX0_ran_13 : decode cX0_ran 13 = .ok (.aload_n 0, 1) := dk_42 (dk_at dksX0_ran_0 13 rfl rfl)
theorem dX0_ran_14 : decode cX0_ran 14 = .ok (.getfield 359, 3) := dk_180 1 103 (dk_at dksX0_ran_0 14 rfl rfl)
theorem dX0_ran_17 : decode cX0_ran 17 = .ok (.iload_n 1, 1) := dk_27 (dk_at dksX0_ran_0 17 rfl rfl)
theorem dX0_ran_18 : decode cX0_ran 18 = .ok (.i2b, 1) := dk_145 (dk_at dksX0_ran_0 18 rfl rfl)
theorem dX0_ran_19 : decode cX0_ran 19 = .ok (.bastore, 1) := dk_84 (dk_at dksX0_ran_0 19 rfl rfl)
theorem dX0_ran_20 : decode cX0_ran 20 = .ok (.aload_n 0, 1) := dk_42 (dk_at dksX0_ran_0 20 rfl rfl)
theorem dX0_ran_21 : decode cX0_ran 21 = .ok (.dup, 1) := dk_89 (dk_at dksX0_ran_0 21 rfl rfl)
theorem dX0_ran_22 : decode cX0_ran 22 = .ok (.getfield 359, 3) := dk_180 1 103 (dk_at dksX0_ran_1 0 rfl rfl)
theorem dX0_ran_25 : decode cX0_ran 25 = .ok (.iconst 1, 1) := dk_4 (dk_at dksX0_ran_1 3 rfl rfl)
theorem dX0_ran_26 : decode cX0_ran 26 = .ok (.iadd, 1) := dk_96 (dk_at dksX0_ran_1 4 rfl rfl)
theorem dX0_ran_27 : decode cX0_ran 27 = .ok (.putfield 359, 3) := dk_181 1 103 (dk_at dksX0_ran_1 5 rfl rfl)
theorem dX0_ran_30 : decode cX0_ran 30 = .ok (.return_, 1) := dk_177 (dk_at dksX0_ran_1 8 rfl rfl)
abbrev cX0_trace : ByteArray := prog_1_method_64_code
def yX0_trace : MethodName := ⟨RX0, "trace", "(I)I"⟩
def dkwX0_trace_1 : List UInt8 := [167, 0, 4, 2, 172]
abbrev dktX0_trace_1 : List UInt8 := dkwX0_trace_1 ++ []
def dkwX0_trace_0 : List UInt8 := [27, 155, 0, 26, 27, 42, 180, 1, 103, 162, 0, 18, 27, 16, 24, 162, 0, 12, 42, 180, 0, 56, 27, 51]
abbrev dktX0_trace_0 : List UInt8 := dkwX0_trace_0 ++ dktX0_trace_1
theorem dksX0_trace_0 : cX0_trace.data.toList.drop 0 = dktX0_trace_0 := by decide +kernel
theorem dksX0_trace_1 : cX0_trace.data.toList.drop 24 = dktX0_trace_1 := dk_seg dksX0_trace_0 24 rfl rfl
theorem dX0_trace_0 : decode cX0_trace 0 = .ok (.iload_n 1, 1) := dk_27 (dk_at dksX0_trace_0 0 rfl rfl)
theorem dX0_trace_1 : decode cX0_trace 1 = .ok (.ifCond .lt 26, 3) := dk_155 0 26 (dk_at dksX0_trace_0 1 rfl rfl)
theorem dX0_trace_4 : decode cX0_trace 4 = .ok (.iload_n 1, 1) := dk_27 (dk_at dksX0_trace_0 4 rfl rfl)
theorem dX0_trace_5 : decode cX0_trace 5 = .ok (.aload_n 0, 1) := dk_42 (dk_at dksX0_trace_0 5 rfl rfl)
theorem dX0_trace_6 : decode cX0_trace 6 = .ok (.getfield 359, 3) := dk_180 1 103 (dk_at dksX0_trace_0 6 rfl rfl)
theorem dX0_trace_9 : decode cX0_trace 9 = .ok (.if_icmp .ge 18, 3) := dk_162 0 18 (dk_at dksX0_trace_0 9 rfl rfl)
theorem dX0_trace_12 : decode cX0_trace 12 = .ok (.iload_n 1, 1) := dk_27 (dk_at dksX0_trace_0 12 rfl rfl)
theorem dX0_trace_13 : decode cX0_trace 13 = .ok (.bipush 24, 2) := dk_16 24 (dk_at dksX0_trace_0 13 rfl rfl)
theorem dX0_trace_15 : decode cX0_trace 15 = .ok (.if_icmp .ge 12, 3) := dk_162 0 12 (dk_at dksX0_trace_0 15 rfl rfl)
theorem dX0_trace_18 : decode cX0_trace 18 = .ok (.aload_n 0, 1) := dk_42 (dk_at dksX0_trace_0 18 rfl rfl)
theorem dX0_trace_19 : decode cX0_trace 19 = .ok (.getfield 56, 3) := dk_180 0 56 (dk_at dksX0_trace_0 19 rfl rfl)
theorem dX0_trace_22 : decode cX0_trace 22 = .ok (.iload_n 1, 1) := dk_27 (dk_at dksX0_trace_0 22 rfl rfl)
theorem dX0_trace_23 : decode cX0_trace 23 = .ok (.baload, 1) := dk_51 (dk_at dksX0_trace_0 23 rfl rfl)
theorem dX0_trace_24 : decode cX0_trace 24 = .ok (.goto 4, 3) := dk_167 0 4 (dk_at dksX0_trace_1 0 rfl rfl)
theorem dX0_trace_27 : decode cX0_trace 27 = .ok (.iconst (-1), 1) := dk_2 (dk_at dksX0_trace_1 3 rfl rfl)
theorem dX0_trace_28 : decode cX0_trace 28 = .ok (.ireturn, 1) := dk_172 (dk_at dksX0_trace_1 4 rfl rfl)
abbrev cX0_keep : ByteArray := prog_1_method_65_code
def yX0_keep : MethodName := ⟨RX0, "keep", "(II)I"⟩
def dkwX0_keep_1 : List UInt8 := [180, 0, 67, 27, 28, 156, 0, 7, 1, 167, 0, 9, 42, 180, 0, 61, 28, 50, 83, 4, 172]
abbrev dktX0_keep_1 : List UInt8 := dkwX0_keep_1 ++ []
def dkwX0_keep_0 : List UInt8 := [27, 184, 0, 237, 153, 0, 16, 28, 2, 159, 0, 13, 42, 28, 182, 1, 137, 154, 0, 5, 2, 172, 42]
abbrev dktX0_keep_0 : List UInt8 := dkwX0_keep_0 ++ dktX0_keep_1
theorem dksX0_keep_0 : cX0_keep.data.toList.drop 0 = dktX0_keep_0 := by decide +kernel
theorem dksX0_keep_1 : cX0_keep.data.toList.drop 23 = dktX0_keep_1 := dk_seg dksX0_keep_0 23 rfl rfl
theorem dX0_keep_0 : decode cX0_keep 0 = .ok (.iload_n 1, 1) := dk_27 (dk_at dksX0_keep_0 0 rfl rfl)
theorem dX0_keep_1 : decode cX0_keep 1 = .ok (.invokestatic 237, 3) := dk_184 0 237 (dk_at dksX0_keep_0 1 rfl rfl)
theorem dX0_keep_4 : decode cX0_keep 4 = .ok (.ifCond .eq 16, 3) := dk_153 0 16 (dk_at dksX0_keep_0 4 rfl rfl)
theorem dX0_keep_7 : decode cX0_keep 7 = .ok (.iload_n 2, 1) := dk_28 (dk_at dksX0_keep_0 7 rfl rfl)
theorem dX0_keep_8 : decode cX0_keep 8 = .ok (.iconst (-1), 1) := dk_2 (dk_at dksX0_keep_0 8 rfl rfl)
theorem dX0_keep_9 : decode cX0_keep 9 = .ok (.if_icmp .eq 13, 3) := dk_159 0 13 (dk_at dksX0_keep_0 9 rfl rfl)
theorem dX0_keep_12 : decode cX0_keep 12 = .ok (.aload_n 0, 1) := dk_42 (dk_at dksX0_keep_0 12 rfl rfl)
theorem dX0_keep_13 : decode cX0_keep 13 = .ok (.iload_n 2, 1) := dk_28 (dk_at dksX0_keep_0 13 rfl rfl)
theorem dX0_keep_14 : decode cX0_keep 14 = .ok (.invokevirtual 393, 3) := dk_182 1 137 (dk_at dksX0_keep_0 14 rfl rfl)
theorem dX0_keep_17 : decode cX0_keep 17 = .ok (.ifCond .ne 5, 3) := dk_154 0 5 (dk_at dksX0_keep_0 17 rfl rfl)
theorem dX0_keep_20 : decode cX0_keep 20 = .ok (.iconst (-1), 1) := dk_2 (dk_at dksX0_keep_0 20 rfl rfl)
theorem dX0_keep_21 : decode cX0_keep 21 = .ok (.ireturn, 1) := dk_172 (dk_at dksX0_keep_0 21 rfl rfl)
theorem dX0_keep_22 : decode cX0_keep 22 = .ok (.aload_n 0, 1) := dk_42 (dk_at dksX0_keep_0 22 rfl rfl)
theorem dX0_keep_23 : decode cX0_keep 23 = .ok (.getfield 67, 3) := dk_180 0 67 (dk_at dksX0_keep_1 0 rfl rfl)
theorem dX0_keep_26 : decode cX0_keep 26 = .ok (.iload_n 1, 1) := dk_27 (dk_at dksX0_keep_1 3 rfl rfl)
theorem dX0_keep_27 : decode cX0_keep 27 = .ok (.iload_n 2, 1) := dk_28 (dk_at dksX0_keep_1 4 rfl rfl)
theorem dX0_keep_28 : decode cX0_keep 28 = .ok (.ifCond .ge 7, 3) := dk_156 0 7 (dk_at dksX0_keep_1 5 rfl rfl)
theorem dX0_keep_31 : decode cX0_keep 31 = .ok (.aconst_null, 1) := dk_1 (dk_at dksX0_keep_1 8 rfl rfl)
theorem dX0_keep_32 : decode cX0_keep 32 = .ok (.goto 9, 3) := dk_167 0 9 (dk_at dksX0_keep_1 9 rfl rfl)
theorem dX0_keep_35 : decode cX0_keep 35 = .ok (.aload_n 0, 1) := dk_42 (dk_at dksX0_keep_1 12 rfl rfl)
theorem dX0_keep_36 : decode cX0_keep 36 = .ok (.getfield 61, 3) := dk_180 0 61 (dk_at dksX0_keep_1 13 rfl rfl)
theorem dX0_keep_39 : decode cX0_keep 39 = .ok (.iload_n 2, 1) := dk_28 (dk_at dksX0_keep_1 16 rfl rfl)
theorem dX0_keep_40 : decode cX0_keep 40 = .ok (.aaload, 1) := dk_50 (dk_at dksX0_keep_1 17 rfl rfl)
theorem dX0_keep_41 : decode cX0_keep 41 = .ok (.aastore, 1) := dk_83 (dk_at dksX0_keep_1 18 rfl rfl)
theorem dX0_keep_42 : decode cX0_keep 42 = .ok (.iconst 1, 1) := dk_4 (dk_at dksX0_keep_1 19 rfl rfl)
theorem dX0_keep_43 : decode cX0_keep 43 = .ok (.ireturn, 1) := dk_172 (dk_at dksX0_keep_1 20 rfl rfl)
abbrev cX0_row : ByteArray := prog_1_method_67_code
def yX0_row : MethodName := ⟨RX0, "row", "(III)I"⟩
def dkwX0_row_1 : List UInt8 := [42, 180, 0, 67, 27, 28, 29, 184, 1, 171, 83, 167, 0, 8, 58, 4, 16, 242, 172, 4, 172]
abbrev dktX0_row_1 : List UInt8 := dkwX0_row_1 ++ []
def dkwX0_row_0 : List UInt8 := [27, 184, 0, 237, 153, 0, 18, 28, 3, 7, 184, 0, 73, 153, 0, 9, 29, 16, 60, 164, 0, 5, 2, 172]
abbrev dktX0_row_0 : List UInt8 := dkwX0_row_0 ++ dktX0_row_1
theorem dksX0_row_0 : cX0_row.data.toList.drop 0 = dktX0_row_0 := by decide +kernel
theorem dksX0_row_1 : cX0_row.data.toList.drop 24 = dktX0_row_1 := dk_seg dksX0_row_0 24 rfl rfl
theorem dX0_row_0 : decode cX0_row 0 = .ok (.iload_n 1, 1) := dk_27 (dk_at dksX0_row_0 0 rfl rfl)
theorem dX0_row_1 : decode cX0_row 1 = .ok (.invokestatic 237, 3) := dk_184 0 237 (dk_at dksX0_row_0 1 rfl rfl)
theorem dX0_row_4 : decode cX0_row 4 = .ok (.ifCond .eq 18, 3) := dk_153 0 18 (dk_at dksX0_row_0 4 rfl rfl)
theorem dX0_row_7 : decode cX0_row 7 = .ok (.iload_n 2, 1) := dk_28 (dk_at dksX0_row_0 7 rfl rfl)
theorem dX0_row_8 : decode cX0_row 8 = .ok (.iconst 0, 1) := dk_3 (dk_at dksX0_row_0 8 rfl rfl)
theorem dX0_row_9 : decode cX0_row 9 = .ok (.iconst 4, 1) := dk_7 (dk_at dksX0_row_0 9 rfl rfl)
theorem dX0_row_10 : decode cX0_row 10 = .ok (.invokestatic 73, 3) := dk_184 0 73 (dk_at dksX0_row_0 10 rfl rfl)
theorem dX0_row_13 : decode cX0_row 13 = .ok (.ifCond .eq 9, 3) := dk_153 0 9 (dk_at dksX0_row_0 13 rfl rfl)
theorem dX0_row_16 : decode cX0_row 16 = .ok (.iload_n 3, 1) := dk_29 (dk_at dksX0_row_0 16 rfl rfl)
theorem dX0_row_17 : decode cX0_row 17 = .ok (.bipush 60, 2) := dk_16 60 (dk_at dksX0_row_0 17 rfl rfl)
theorem dX0_row_19 : decode cX0_row 19 = .ok (.if_icmp .le 5, 3) := dk_164 0 5 (dk_at dksX0_row_0 19 rfl rfl)
theorem dX0_row_22 : decode cX0_row 22 = .ok (.iconst (-1), 1) := dk_2 (dk_at dksX0_row_0 22 rfl rfl)
theorem dX0_row_23 : decode cX0_row 23 = .ok (.ireturn, 1) := dk_172 (dk_at dksX0_row_0 23 rfl rfl)
theorem dX0_row_24 : decode cX0_row 24 = .ok (.aload_n 0, 1) := dk_42 (dk_at dksX0_row_1 0 rfl rfl)
theorem dX0_row_25 : decode cX0_row 25 = .ok (.getfield 67, 3) := dk_180 0 67 (dk_at dksX0_row_1 1 rfl rfl)
theorem dX0_row_28 : decode cX0_row 28 = .ok (.iload_n 1, 1) := dk_27 (dk_at dksX0_row_1 4 rfl rfl)
theorem dX0_row_29 : decode cX0_row 29 = .ok (.iload_n 2, 1) := dk_28 (dk_at dksX0_row_1 5 rfl rfl)
theorem dX0_row_30 : decode cX0_row 30 = .ok (.iload_n 3, 1) := dk_29 (dk_at dksX0_row_1 6 rfl rfl)
theorem dX0_row_31 : decode cX0_row 31 = .ok (.invokestatic 427, 3) := dk_184 1 171 (dk_at dksX0_row_1 7 rfl rfl)
theorem dX0_row_34 : decode cX0_row 34 = .ok (.aastore, 1) := dk_83 (dk_at dksX0_row_1 10 rfl rfl)
theorem dX0_row_35 : decode cX0_row 35 = .ok (.goto 8, 3) := dk_167 0 8 (dk_at dksX0_row_1 11 rfl rfl)
theorem dX0_row_38 : decode cX0_row 38 = .ok (.astore 4, 2) := dk_58 4 (dk_at dksX0_row_1 14 rfl rfl)
theorem dX0_row_40 : decode cX0_row 40 = .ok (.bipush (-14), 2) := dk_16 242 (dk_at dksX0_row_1 16 rfl rfl)
theorem dX0_row_42 : decode cX0_row 42 = .ok (.ireturn, 1) := dk_172 (dk_at dksX0_row_1 18 rfl rfl)
theorem dX0_row_43 : decode cX0_row 43 = .ok (.iconst 1, 1) := dk_4 (dk_at dksX0_row_1 19 rfl rfl)
theorem dX0_row_44 : decode cX0_row 44 = .ok (.ireturn, 1) := dk_172 (dk_at dksX0_row_1 20 rfl rfl)
abbrev cX0_newRow : ByteArray := prog_1_method_66_code
def yX0_newRow : MethodName := ⟨RX0, "newRow", "(II)LHeadReckons$Row;"⟩
def dkwX0_newRow_3 : List UInt8 := [183, 1, 164, 176, 187, 1, 165, 89, 27, 183, 1, 167, 176, 187, 1, 168, 89, 27, 183, 1, 170, 176]
abbrev dktX0_newRow_3 : List UInt8 := dkwX0_newRow_3 ++ []
def dkwX0_newRow_2 : List UInt8 := [187, 1, 156, 89, 27, 183, 1, 158, 176, 187, 1, 161, 89, 27, 183, 1, 163, 176, 187, 0, 240, 89, 27]
abbrev dktX0_newRow_2 : List UInt8 := dkwX0_newRow_2 ++ dktX0_newRow_3
def dkwX0_newRow_1 : List UInt8 := [170, 0, 0, 0, 0, 0, 67, 0, 0, 0, 0, 0, 0, 0, 3, 0, 0, 0, 31, 0, 0, 0, 40, 0, 0, 0, 49, 0, 0, 0, 58]
abbrev dktX0_newRow_1 : List UInt8 := dkwX0_newRow_1 ++ dktX0_newRow_2
def dkwX0_newRow_0 : List UInt8 := [26]
abbrev dktX0_newRow_0 : List UInt8 := dkwX0_newRow_0 ++ dktX0_newRow_1
theorem dksX0_newRow_0 : cX0_newRow.data.toList.drop 0 = dktX0_newRow_0 := by decide +kernel
theorem dksX0_newRow_1 : cX0_newRow.data.toList.drop 1 = dktX0_newRow_1 := dk_seg dksX0_newRow_0 1 rfl rfl
theorem dksX0_newRow_2 : cX0_newRow.data.toList.drop 32 = dktX0_newRow_2 := dk_seg dksX0_newRow_1 31 rfl rfl
theorem dksX0_newRow_3 : cX0_newRow.data.toList.drop 55 = dktX0_newRow_3 := dk_seg dksX0_newRow_2 23 rfl rfl
theorem dX0_newRow_0 : decode cX0_newRow 0 = .ok (.iload_n 0, 1) := dk_26 (dk_at dksX0_newRow_0 0 rfl rfl)
theorem dX0_newRow_1 : decode cX0_newRow 1 = .ok (.tableswitch 67 0 3 #[31, 40, 49, 58], 31) := by decide +kernel
theorem dX0_newRow_32 : decode cX0_newRow 32 = .ok (.new 412, 3) := dk_187 1 156 (dk_at dksX0_newRow_2 0 rfl rfl)
theorem dX0_newRow_35 : decode cX0_newRow 35 = .ok (.dup, 1) := dk_89 (dk_at dksX0_newRow_2 3 rfl rfl)
theorem dX0_newRow_36 : decode cX0_newRow 36 = .ok (.iload_n 1, 1) := dk_27 (dk_at dksX0_newRow_2 4 rfl rfl)
theorem dX0_newRow_37 : decode cX0_newRow 37 = .ok (.invokespecial 414, 3) := dk_183 1 158 (dk_at dksX0_newRow_2 5 rfl rfl)
theorem dX0_newRow_40 : decode cX0_newRow 40 = .ok (.areturn, 1) := dk_176 (dk_at dksX0_newRow_2 8 rfl rfl)
theorem dX0_newRow_41 : decode cX0_newRow 41 = .ok (.new 417, 3) := dk_187 1 161 (dk_at dksX0_newRow_2 9 rfl rfl)
theorem dX0_newRow_44 : decode cX0_newRow 44 = .ok (.dup, 1) := dk_89 (dk_at dksX0_newRow_2 12 rfl rfl)
theorem dX0_newRow_45 : decode cX0_newRow 45 = .ok (.iload_n 1, 1) := dk_27 (dk_at dksX0_newRow_2 13 rfl rfl)
theorem dX0_newRow_46 : decode cX0_newRow 46 = .ok (.invokespecial 419, 3) := dk_183 1 163 (dk_at dksX0_newRow_2 14 rfl rfl)
theorem dX0_newRow_49 : decode cX0_newRow 49 = .ok (.areturn, 1) := dk_176 (dk_at dksX0_newRow_2 17 rfl rfl)
theorem dX0_newRow_50 : decode cX0_newRow 50 = .ok (.new 240, 3) := dk_187 0 240 (dk_at dksX0_newRow_2 18 rfl rfl)
theorem dX0_newRow_53 : decode cX0_newRow 53 = .ok (.dup, 1) := dk_89 (dk_at dksX0_newRow_2 21 rfl rfl)
theorem dX0_newRow_54 : decode cX0_newRow 54 = .ok (.iload_n 1, 1) := dk_27 (dk_at dksX0_newRow_2 22 rfl rfl)
theorem dX0_newRow_55 : decode cX0_newRow 55 = .ok (.invokespecial 420, 3) := dk_183 1 164 (dk_at dksX0_newRow_3 0 rfl rfl)
theorem dX0_newRow_58 : decode cX0_newRow 58 = .ok (.areturn, 1) := dk_176 (dk_at dksX0_newRow_3 3 rfl rfl)
theorem dX0_newRow_59 : decode cX0_newRow 59 = .ok (.new 421, 3) := dk_187 1 165 (dk_at dksX0_newRow_3 4 rfl rfl)
theorem dX0_newRow_62 : decode cX0_newRow 62 = .ok (.dup, 1) := dk_89 (dk_at dksX0_newRow_3 7 rfl rfl)
theorem dX0_newRow_63 : decode cX0_newRow 63 = .ok (.iload_n 1, 1) := dk_27 (dk_at dksX0_newRow_3 8 rfl rfl)
theorem dX0_newRow_64 : decode cX0_newRow 64 = .ok (.invokespecial 423, 3) := dk_183 1 167 (dk_at dksX0_newRow_3 9 rfl rfl)
theorem dX0_newRow_67 : decode cX0_newRow 67 = .ok (.areturn, 1) := dk_176 (dk_at dksX0_newRow_3 12 rfl rfl)
theorem dX0_newRow_68 : decode cX0_newRow 68 = .ok (.new 424, 3) := dk_187 1 168 (dk_at dksX0_newRow_3 13 rfl rfl)
theorem dX0_newRow_71 : decode cX0_newRow 71 = .ok (.dup, 1) := dk_89 (dk_at dksX0_newRow_3 16 rfl rfl)
theorem dX0_newRow_72 : decode cX0_newRow 72 = .ok (.iload_n 1, 1) := dk_27 (dk_at dksX0_newRow_3 17 rfl rfl)
theorem dX0_newRow_73 : decode cX0_newRow 73 = .ok (.invokespecial 426, 3) := dk_183 1 170 (dk_at dksX0_newRow_3 18 rfl rfl)
theorem dX0_newRow_76 : decode cX0_newRow 76 = .ok (.areturn, 1) := dk_176 (dk_at dksX0_newRow_3 21 rfl rfl)
abbrev cX0_put : ByteArray := prog_1_method_68_code
def yX0_put : MethodName := ⟨RX0, "put", "(IIJ)I"⟩
def dkwX0_put_1 : List UInt8 := [153, 0, 7, 4, 167, 0, 4, 2, 172, 58, 5, 16, 245, 172, 58, 5, 16, 244, 172, 58, 5, 16, 243, 172]
abbrev dktX0_put_1 : List UInt8 := dkwX0_put_1 ++ []
def dkwX0_put_0 : List UInt8 := [27, 184, 0, 237, 154, 0, 5, 2, 172, 42, 180, 0, 67, 27, 50, 192, 1, 177, 28, 33, 182, 1, 179]
abbrev dktX0_put_0 : List UInt8 := dkwX0_put_0 ++ dktX0_put_1
theorem dksX0_put_0 : cX0_put.data.toList.drop 0 = dktX0_put_0 := by decide +kernel
theorem dksX0_put_1 : cX0_put.data.toList.drop 23 = dktX0_put_1 := dk_seg dksX0_put_0 23 rfl rfl
theorem dX0_put_0 : decode cX0_put 0 = .ok (.iload_n 1, 1) := dk_27 (dk_at dksX0_put_0 0 rfl rfl)
theorem dX0_put_1 : decode cX0_put 1 = .ok (.invokestatic 237, 3) := dk_184 0 237 (dk_at dksX0_put_0 1 rfl rfl)
theorem dX0_put_4 : decode cX0_put 4 = .ok (.ifCond .ne 5, 3) := dk_154 0 5 (dk_at dksX0_put_0 4 rfl rfl)
theorem dX0_put_7 : decode cX0_put 7 = .ok (.iconst (-1), 1) := dk_2 (dk_at dksX0_put_0 7 rfl rfl)
theorem dX0_put_8 : decode cX0_put 8 = .ok (.ireturn, 1) := dk_172 (dk_at dksX0_put_0 8 rfl rfl)
theorem dX0_put_9 : decode cX0_put 9 = .ok (.aload_n 0, 1) := dk_42 (dk_at dksX0_put_0 9 rfl rfl)
theorem dX0_put_10 : decode cX0_put 10 = .ok (.getfield 67, 3) := dk_180 0 67 (dk_at dksX0_put_0 10 rfl rfl)
theorem dX0_put_13 : decode cX0_put 13 = .ok (.iload_n 1, 1) := dk_27 (dk_at dksX0_put_0 13 rfl rfl)
theorem dX0_put_14 : decode cX0_put 14 = .ok (.aaload, 1) := dk_50 (dk_at dksX0_put_0 14 rfl rfl)
theorem dX0_put_15 : decode cX0_put 15 = .ok (.checkcast 433, 3) := dk_192 1 177 (dk_at dksX0_put_0 15 rfl rfl)
theorem dX0_put_18 : decode cX0_put 18 = .ok (.iload_n 2, 1) := dk_28 (dk_at dksX0_put_0 18 rfl rfl)
theorem dX0_put_19 : decode cX0_put 19 = .ok (.lload_n 3, 1) := dk_33 (dk_at dksX0_put_0 19 rfl rfl)
theorem dX0_put_20 : decode cX0_put 20 = .ok (.invokevirtual 435, 3) := dk_182 1 179 (dk_at dksX0_put_0 20 rfl rfl)
theorem dX0_put_23 : decode cX0_put 23 = .ok (.ifCond .eq 7, 3) := dk_153 0 7 (dk_at dksX0_put_1 0 rfl rfl)
theorem dX0_put_26 : decode cX0_put 26 = .ok (.iconst 1, 1) := dk_4 (dk_at dksX0_put_1 3 rfl rfl)
theorem dX0_put_27 : decode cX0_put 27 = .ok (.goto 4, 3) := dk_167 0 4 (dk_at dksX0_put_1 4 rfl rfl)
theorem dX0_put_30 : decode cX0_put 30 = .ok (.iconst (-1), 1) := dk_2 (dk_at dksX0_put_1 7 rfl rfl)
theorem dX0_put_31 : decode cX0_put 31 = .ok (.ireturn, 1) := dk_172 (dk_at dksX0_put_1 8 rfl rfl)
theorem dX0_put_32 : decode cX0_put 32 = .ok (.astore 5, 2) := dk_58 5 (dk_at dksX0_put_1 9 rfl rfl)
theorem dX0_put_34 : decode cX0_put 34 = .ok (.bipush (-11), 2) := dk_16 245 (dk_at dksX0_put_1 11 rfl rfl)
theorem dX0_put_36 : decode cX0_put 36 = .ok (.ireturn, 1) := dk_172 (dk_at dksX0_put_1 13 rfl rfl)
theorem dX0_put_37 : decode cX0_put 37 = .ok (.astore 5, 2) := dk_58 5 (dk_at dksX0_put_1 14 rfl rfl)
theorem dX0_put_39 : decode cX0_put 39 = .ok (.bipush (-12), 2) := dk_16 244 (dk_at dksX0_put_1 16 rfl rfl)
theorem dX0_put_41 : decode cX0_put 41 = .ok (.ireturn, 1) := dk_172 (dk_at dksX0_put_1 18 rfl rfl)
theorem dX0_put_42 : decode cX0_put 42 = .ok (.astore 5, 2) := dk_58 5 (dk_at dksX0_put_1 19 rfl rfl)
theorem dX0_put_44 : decode cX0_put 44 = .ok (.bipush (-13), 2) := dk_16 243 (dk_at dksX0_put_1 21 rfl rfl)
theorem dX0_put_46 : decode cX0_put 46 = .ok (.ireturn, 1) := dk_172 (dk_at dksX0_put_1 23 rfl rfl)
abbrev cX0_element : ByteArray := prog_1_method_69_code
def yX0_element : MethodName := ⟨RX0, "element", "(II)J"⟩
def dkwX0_element_1 : List UInt8 := [173, 78, 20, 1, 184, 173, 78, 20, 1, 184, 173, 78, 20, 1, 184, 173]
abbrev dktX0_element_1 : List UInt8 := dkwX0_element_1 ++ []
def dkwX0_element_0 : List UInt8 := [27, 184, 0, 237, 154, 0, 7, 20, 1, 184, 173, 42, 180, 0, 67, 27, 50, 192, 1, 177, 28, 182, 1, 186]
abbrev dktX0_element_0 : List UInt8 := dkwX0_element_0 ++ dktX0_element_1
theorem dksX0_element_0 : cX0_element.data.toList.drop 0 = dktX0_element_0 := by decide +kernel
theorem dksX0_element_1 : cX0_element.data.toList.drop 24 = dktX0_element_1 := dk_seg dksX0_element_0 24 rfl rfl
theorem dX0_element_0 : decode cX0_element 0 = .ok (.iload_n 1, 1) := dk_27 (dk_at dksX0_element_0 0 rfl rfl)
theorem dX0_element_1 : decode cX0_element 1 = .ok (.invokestatic 237, 3) := dk_184 0 237 (dk_at dksX0_element_0 1 rfl rfl)
theorem dX0_element_4 : decode cX0_element 4 = .ok (.ifCond .ne 7, 3) := dk_154 0 7 (dk_at dksX0_element_0 4 rfl rfl)
theorem dX0_element_7 : decode cX0_element 7 = .ok (.ldc2_w 440, 3) := dk_20 1 184 (dk_at dksX0_element_0 7 rfl rfl)
theorem dX0_element_10 : decode cX0_element 10 = .ok (.lreturn, 1) := dk_173 (dk_at dksX0_element_0 10 rfl rfl)
theorem dX0_element_11 : decode cX0_element 11 = .ok (.aload_n 0, 1) := dk_42 (dk_at dksX0_element_0 11 rfl rfl)
theorem dX0_element_12 : decode cX0_element 12 = .ok (.getfield 67, 3) := dk_180 0 67 (dk_at dksX0_element_0 12 rfl rfl)
theorem dX0_element_15 : decode cX0_element 15 = .ok (.iload_n 1, 1) := dk_27 (dk_at dksX0_element_0 15 rfl rfl)
theorem dX0_element_16 : decode cX0_element 16 = .ok (.aaload, 1) := dk_50 (dk_at dksX0_element_0 16 rfl rfl)
theorem dX0_element_17 : decode cX0_element 17 = .ok (.checkcast 433, 3) := dk_192 1 177 (dk_at dksX0_element_0 17 rfl rfl)
theorem dX0_element_20 : decode cX0_element 20 = .ok (.iload_n 2, 1) := dk_28 (dk_at dksX0_element_0 20 rfl rfl)
theorem dX0_element_21 : decode cX0_element 21 = .ok (.invokevirtual 442, 3) := dk_182 1 186 (dk_at dksX0_element_0 21 rfl rfl)
theorem dX0_element_24 : decode cX0_element 24 = .ok (.lreturn, 1) := dk_173 (dk_at dksX0_element_1 0 rfl rfl)
theorem dX0_element_25 : decode cX0_element 25 = .ok (.astore_n 3, 1) := dk_78 (dk_at dksX0_element_1 1 rfl rfl)
theorem dX0_element_26 : decode cX0_element 26 = .ok (.ldc2_w 440, 3) := dk_20 1 184 (dk_at dksX0_element_1 2 rfl rfl)
theorem dX0_element_29 : decode cX0_element 29 = .ok (.lreturn, 1) := dk_173 (dk_at dksX0_element_1 5 rfl rfl)
theorem dX0_element_30 : decode cX0_element 30 = .ok (.astore_n 3, 1) := dk_78 (dk_at dksX0_element_1 6 rfl rfl)
theorem dX0_element_31 : decode cX0_element 31 = .ok (.ldc2_w 440, 3) := dk_20 1 184 (dk_at dksX0_element_1 7 rfl rfl)
theorem dX0_element_34 : decode cX0_element 34 = .ok (.lreturn, 1) := dk_173 (dk_at dksX0_element_1 10 rfl rfl)
theorem dX0_element_35 : decode cX0_element 35 = .ok (.astore_n 3, 1) := dk_78 (dk_at dksX0_element_1 11 rfl rfl)
theorem dX0_element_36 : decode cX0_element 36 = .ok (.ldc2_w 440, 3) := dk_20 1 184 (dk_at dksX0_element_1 12 rfl rfl)
theorem dX0_element_39 : decode cX0_element 39 = .ok (.lreturn, 1) := dk_173 (dk_at dksX0_element_1 15 rfl rfl)
abbrev cX0_shift : ByteArray := prog_1_method_70_code
def yX0_shift : MethodName := ⟨RX0, "shift", "(IIIII)I"⟩
def dkwX0_shift_3 : List UInt8 := [172, 58, 6, 16, 243, 172, 21, 5, 172]
abbrev dktX0_shift_3 : List UInt8 := dkwX0_shift_3 ++ []
def dkwX0_shift_2 : List UInt8 := [28, 42, 180, 0, 67, 29, 50, 192, 1, 177, 21, 4, 21, 5, 182, 1, 187, 167, 0, 13, 58, 6, 16, 244]
abbrev dktX0_shift_2 : List UInt8 := dkwX0_shift_2 ++ dktX0_shift_3
def dkwX0_shift_1 : List UInt8 := [198, 0, 12, 42, 180, 0, 67, 29, 50, 199, 0, 6, 16, 245, 172, 42, 180, 0, 67, 27, 50, 192, 1, 177]
abbrev dktX0_shift_1 : List UInt8 := dkwX0_shift_1 ++ dktX0_shift_2
def dkwX0_shift_0 : List UInt8 := [27, 184, 0, 237, 153, 0, 10, 29, 184, 0, 237, 154, 0, 5, 2, 172, 42, 180, 0, 67, 27, 50]
abbrev dktX0_shift_0 : List UInt8 := dkwX0_shift_0 ++ dktX0_shift_1
theorem dksX0_shift_0 : cX0_shift.data.toList.drop 0 = dktX0_shift_0 := by decide +kernel
theorem dksX0_shift_1 : cX0_shift.data.toList.drop 22 = dktX0_shift_1 := dk_seg dksX0_shift_0 22 rfl rfl
theorem dksX0_shift_2 : cX0_shift.data.toList.drop 46 = dktX0_shift_2 := dk_seg dksX0_shift_1 24 rfl rfl
theorem dksX0_shift_3 : cX0_shift.data.toList.drop 70 = dktX0_shift_3 := dk_seg dksX0_shift_2 24 rfl rfl
theorem dX0_shift_0 : decode cX0_shift 0 = .ok (.iload_n 1, 1) := dk_27 (dk_at dksX0_shift_0 0 rfl rfl)
theorem dX0_shift_1 : decode cX0_shift 1 = .ok (.invokestatic 237, 3) := dk_184 0 237 (dk_at dksX0_shift_0 1 rfl rfl)
theorem dX0_shift_4 : decode cX0_shift 4 = .ok (.ifCond .eq 10, 3) := dk_153 0 10 (dk_at dksX0_shift_0 4 rfl rfl)
theorem dX0_shift_7 : decode cX0_shift 7 = .ok (.iload_n 3, 1) := dk_29 (dk_at dksX0_shift_0 7 rfl rfl)
theorem dX0_shift_8 : decode cX0_shift 8 = .ok (.invokestatic 237, 3) := dk_184 0 237 (dk_at dksX0_shift_0 8 rfl rfl)
theorem dX0_shift_11 : decode cX0_shift 11 = .ok (.ifCond .ne 5, 3) := dk_154 0 5 (dk_at dksX0_shift_0 11 rfl rfl)
theorem dX0_shift_14 : decode cX0_shift 14 = .ok (.iconst (-1), 1) := dk_2 (dk_at dksX0_shift_0 14 rfl rfl)
theorem dX0_shift_15 : decode cX0_shift 15 = .ok (.ireturn, 1) := dk_172 (dk_at dksX0_shift_0 15 rfl rfl)
theorem dX0_shift_16 : decode cX0_shift 16 = .ok (.aload_n 0, 1) := dk_42 (dk_at dksX0_shift_0 16 rfl rfl)
theorem dX0_shift_17 : decode cX0_shift 17 = .ok (.getfield 67, 3) := dk_180 0 67 (dk_at dksX0_shift_0 17 rfl rfl)
theorem dX0_shift_20 : decode cX0_shift 20 = .ok (.iload_n 1, 1) := dk_27 (dk_at dksX0_shift_0 20 rfl rfl)
theorem dX0_shift_21 : decode cX0_shift 21 = .ok (.aaload, 1) := dk_50 (dk_at dksX0_shift_0 21 rfl rfl)
theorem dX0_shift_22 : decode cX0_shift 22 = .ok (.ifnull 12, 3) := dk_198 0 12 (dk_at dksX0_shift_1 0 rfl rfl)
theorem dX0_shift_25 : decode cX0_shift 25 = .ok (.aload_n 0, 1) := dk_42 (dk_at dksX0_shift_1 3 rfl rfl)
theorem dX0_shift_26 : decode cX0_shift 26 = .ok (.getfield 67, 3) := dk_180 0 67 (dk_at dksX0_shift_1 4 rfl rfl)
theorem dX0_shift_29 : decode cX0_shift 29 = .ok (.iload_n 3, 1) := dk_29 (dk_at dksX0_shift_1 7 rfl rfl)
theorem dX0_shift_30 : decode cX0_shift 30 = .ok (.aaload, 1) := dk_50 (dk_at dksX0_shift_1 8 rfl rfl)
theorem dX0_shift_31 : decode cX0_shift 31 = .ok (.ifnonnull 6, 3) := dk_199 0 6 (dk_at dksX0_shift_1 9 rfl rfl)
theorem dX0_shift_34 : decode cX0_shift 34 = .ok (.bipush (-11), 2) := dk_16 245 (dk_at dksX0_shift_1 12 rfl rfl)
theorem dX0_shift_36 : decode cX0_shift 36 = .ok (.ireturn, 1) := dk_172 (dk_at dksX0_shift_1 14 rfl rfl)
theorem dX0_shift_37 : decode cX0_shift 37 = .ok (.aload_n 0, 1) := dk_42 (dk_at dksX0_shift_1 15 rfl rfl)
theorem dX0_shift_38 : decode cX0_shift 38 = .ok (.getfield 67, 3) := dk_180 0 67 (dk_at dksX0_shift_1 16 rfl rfl)
theorem dX0_shift_41 : decode cX0_shift 41 = .ok (.iload_n 1, 1) := dk_27 (dk_at dksX0_shift_1 19 rfl rfl)
theorem dX0_shift_42 : decode cX0_shift 42 = .ok (.aaload, 1) := dk_50 (dk_at dksX0_shift_1 20 rfl rfl)
theorem dX0_shift_43 : decode cX0_shift 43 = .ok (.checkcast 433, 3) := dk_192 1 177 (dk_at dksX0_shift_1 21 rfl rfl)
theorem dX0_shift_46 : decode cX0_shift 46 = .ok (.iload_n 2, 1) := dk_28 (dk_at dksX0_shift_2 0 rfl rfl)
theorem dX0_shift_47 : decode cX0_shift 47 = .ok (.aload_n 0, 1) := dk_42 (dk_at dksX0_shift_2 1 rfl rfl)
theorem dX0_shift_48 : decode cX0_shift 48 = .ok (.getfield 67, 3) := dk_180 0 67 (dk_at dksX0_shift_2 2 rfl rfl)
theorem dX0_shift_51 : decode cX0_shift 51 = .ok (.iload_n 3, 1) := dk_29 (dk_at dksX0_shift_2 5 rfl rfl)
theorem dX0_shift_52 : decode cX0_shift 52 = .ok (.aaload, 1) := dk_50 (dk_at dksX0_shift_2 6 rfl rfl)
theorem dX0_shift_53 : decode cX0_shift 53 = .ok (.checkcast 433, 3) := dk_192 1 177 (dk_at dksX0_shift_2 7 rfl rfl)
theorem dX0_shift_56 : decode cX0_shift 56 = .ok (.iload 4, 2) := dk_21 4 (dk_at dksX0_shift_2 10 rfl rfl)
theorem dX0_shift_58 : decode cX0_shift 58 = .ok (.iload 5, 2) := dk_21 5 (dk_at dksX0_shift_2 12 rfl rfl)
theorem dX0_shift_60 : decode cX0_shift 60 = .ok (.invokevirtual 443, 3) := dk_182 1 187 (dk_at dksX0_shift_2 14 rfl rfl)
theorem dX0_shift_63 : decode cX0_shift 63 = .ok (.goto 13, 3) := dk_167 0 13 (dk_at dksX0_shift_2 17 rfl rfl)
theorem dX0_shift_66 : decode cX0_shift 66 = .ok (.astore 6, 2) := dk_58 6 (dk_at dksX0_shift_2 20 rfl rfl)
theorem dX0_shift_68 : decode cX0_shift 68 = .ok (.bipush (-12), 2) := dk_16 244 (dk_at dksX0_shift_2 22 rfl rfl)
theorem dX0_shift_70 : decode cX0_shift 70 = .ok (.ireturn, 1) := dk_172 (dk_at dksX0_shift_3 0 rfl rfl)
theorem dX0_shift_71 : decode cX0_shift 71 = .ok (.astore 6, 2) := dk_58 6 (dk_at dksX0_shift_3 1 rfl rfl)
theorem dX0_shift_73 : decode cX0_shift 73 = .ok (.bipush (-13), 2) := dk_16 243 (dk_at dksX0_shift_3 3 rfl rfl)
theorem dX0_shift_75 : decode cX0_shift 75 = .ok (.ireturn, 1) := dk_172 (dk_at dksX0_shift_3 5 rfl rfl)
theorem dX0_shift_76 : decode cX0_shift 76 = .ok (.iload 5, 2) := dk_21 5 (dk_at dksX0_shift_3 6 rfl rfl)
theorem dX0_shift_78 : decode cX0_shift 78 = .ok (.ireturn, 1) := dk_172 (dk_at dksX0_shift_3 8 rfl rfl)
abbrev cX0_taken : ByteArray := prog_1_method_71_code
def yX0_taken : MethodName := ⟨RX0, "taken", "(II)I"⟩
def dkwX0_taken_2 : List UInt8 := [16, 245, 172, 78, 16, 244, 172]
abbrev dktX0_taken_2 : List UInt8 := dkwX0_taken_2 ++ []
def dkwX0_taken_1 : List UInt8 := [50, 192, 0, 59, 78, 45, 28, 182, 1, 190, 153, 0, 10, 45, 182, 1, 193, 167, 0, 5, 16, 244, 172, 78]
abbrev dktX0_taken_1 : List UInt8 := dkwX0_taken_1 ++ dktX0_taken_2
def dkwX0_taken_0 : List UInt8 := [27, 184, 0, 237, 153, 0, 13, 28, 3, 16, 7, 184, 0, 73, 154, 0, 5, 2, 172, 42, 180, 0, 67, 27]
abbrev dktX0_taken_0 : List UInt8 := dkwX0_taken_0 ++ dktX0_taken_1
theorem dksX0_taken_0 : cX0_taken.data.toList.drop 0 = dktX0_taken_0 := by decide +kernel
theorem dksX0_taken_1 : cX0_taken.data.toList.drop 24 = dktX0_taken_1 := dk_seg dksX0_taken_0 24 rfl rfl
theorem dksX0_taken_2 : cX0_taken.data.toList.drop 48 = dktX0_taken_2 := dk_seg dksX0_taken_1 24 rfl rfl
theorem dX0_taken_0 : decode cX0_taken 0 = .ok (.iload_n 1, 1) := dk_27 (dk_at dksX0_taken_0 0 rfl rfl)
theorem dX0_taken_1 : decode cX0_taken 1 = .ok (.invokestatic 237, 3) := dk_184 0 237 (dk_at dksX0_taken_0 1 rfl rfl)
theorem dX0_taken_4 : decode cX0_taken 4 = .ok (.ifCond .eq 13, 3) := dk_153 0 13 (dk_at dksX0_taken_0 4 rfl rfl)
theorem dX0_taken_7 : decode cX0_taken 7 = .ok (.iload_n 2, 1) := dk_28 (dk_at dksX0_taken_0 7 rfl rfl)
theorem dX0_taken_8 : decode cX0_taken 8 = .ok (.iconst 0, 1) := dk_3 (dk_at dksX0_taken_0 8 rfl rfl)
theorem dX0_taken_9 : decode cX0_taken 9 = .ok (.bipush 7, 2) := dk_16 7 (dk_at dksX0_taken_0 9 rfl rfl)
theorem dX0_taken_11 : decode cX0_taken 11 = .ok (.invokestatic 73, 3) := dk_184 0 73 (dk_at dksX0_taken_0 11 rfl rfl)
theorem dX0_taken_14 : decode cX0_taken 14 = .ok (.ifCond .ne 5, 3) := dk_154 0 5 (dk_at dksX0_taken_0 14 rfl rfl)
theorem dX0_taken_17 : decode cX0_taken 17 = .ok (.iconst (-1), 1) := dk_2 (dk_at dksX0_taken_0 17 rfl rfl)
theorem dX0_taken_18 : decode cX0_taken 18 = .ok (.ireturn, 1) := dk_172 (dk_at dksX0_taken_0 18 rfl rfl)
theorem dX0_taken_19 : decode cX0_taken 19 = .ok (.aload_n 0, 1) := dk_42 (dk_at dksX0_taken_0 19 rfl rfl)
theorem dX0_taken_20 : decode cX0_taken 20 = .ok (.getfield 67, 3) := dk_180 0 67 (dk_at dksX0_taken_0 20 rfl rfl)
theorem dX0_taken_23 : decode cX0_taken 23 = .ok (.iload_n 1, 1) := dk_27 (dk_at dksX0_taken_0 23 rfl rfl)
theorem dX0_taken_24 : decode cX0_taken 24 = .ok (.aaload, 1) := dk_50 (dk_at dksX0_taken_1 0 rfl rfl)
theorem dX0_taken_25 : decode cX0_taken 25 = .ok (.checkcast 59, 3) := dk_192 0 59 (dk_at dksX0_taken_1 1 rfl rfl)
theorem dX0_taken_28 : decode cX0_taken 28 = .ok (.astore_n 3, 1) := dk_78 (dk_at dksX0_taken_1 4 rfl rfl)
theorem dX0_taken_29 : decode cX0_taken 29 = .ok (.aload_n 3, 1) := dk_45 (dk_at dksX0_taken_1 5 rfl rfl)
theorem dX0_taken_30 : decode cX0_taken 30 = .ok (.iload_n 2, 1) := dk_28 (dk_at dksX0_taken_1 6 rfl rfl)
theorem dX0_taken_31 : decode cX0_taken 31 = .ok (.invokevirtual 446, 3) := dk_182 1 190 (dk_at dksX0_taken_1 7 rfl rfl)
theorem dX0_taken_34 : decode cX0_taken 34 = .ok (.ifCond .eq 10, 3) := dk_153 0 10 (dk_at dksX0_taken_1 10 rfl rfl)
theorem dX0_taken_37 : decode cX0_taken 37 = .ok (.aload_n 3, 1) := dk_45 (dk_at dksX0_taken_1 13 rfl rfl)
theorem dX0_taken_38 : decode cX0_taken 38 = .ok (.invokevirtual 449, 3) := dk_182 1 193 (dk_at dksX0_taken_1 14 rfl rfl)
theorem dX0_taken_41 : decode cX0_taken 41 = .ok (.goto 5, 3) := dk_167 0 5 (dk_at dksX0_taken_1 17 rfl rfl)
theorem dX0_taken_44 : decode cX0_taken 44 = .ok (.bipush (-12), 2) := dk_16 244 (dk_at dksX0_taken_1 20 rfl rfl)
theorem dX0_taken_46 : decode cX0_taken 46 = .ok (.ireturn, 1) := dk_172 (dk_at dksX0_taken_1 22 rfl rfl)
theorem dX0_taken_47 : decode cX0_taken 47 = .ok (.astore_n 3, 1) := dk_78 (dk_at dksX0_taken_1 23 rfl rfl)
theorem dX0_taken_48 : decode cX0_taken 48 = .ok (.bipush (-11), 2) := dk_16 245 (dk_at dksX0_taken_2 0 rfl rfl)
theorem dX0_taken_50 : decode cX0_taken 50 = .ok (.ireturn, 1) := dk_172 (dk_at dksX0_taken_2 2 rfl rfl)
theorem dX0_taken_51 : decode cX0_taken 51 = .ok (.astore_n 3, 1) := dk_78 (dk_at dksX0_taken_2 3 rfl rfl)
theorem dX0_taken_52 : decode cX0_taken 52 = .ok (.bipush (-12), 2) := dk_16 244 (dk_at dksX0_taken_2 4 rfl rfl)
theorem dX0_taken_54 : decode cX0_taken 54 = .ok (.ireturn, 1) := dk_172 (dk_at dksX0_taken_2 6 rfl rfl)
abbrev cX0_count : ByteArray := prog_1_method_72_code
def yX0_count : MethodName := ⟨RX0, "count", "(I)I"⟩
def dkwX0_count_3 : List UInt8 := [172, 42, 180, 1, 106, 172, 42, 180, 1, 103, 172, 2, 172]
abbrev dktX0_count_3 : List UInt8 := dkwX0_count_3 ++ []
def dkwX0_count_2 : List UInt8 := [42, 180, 0, 81, 172, 42, 180, 0, 231, 172, 42, 180, 0, 77, 172, 42, 180, 1, 32, 172, 42, 180, 0, 100]
abbrev dktX0_count_2 : List UInt8 := dkwX0_count_2 ++ dktX0_count_3
def dkwX0_count_1 : List UInt8 := [170, 0, 0, 0, 0, 0, 78, 0, 0, 0, 0, 0, 0, 0, 6, 0, 0, 0, 43, 0, 0, 0, 48, 0, 0, 0, 53, 0, 0, 0, 58, 0, 0, 0, 63, 0, 0, 0, 68, 0, 0, 0, 73]
abbrev dktX0_count_1 : List UInt8 := dkwX0_count_1 ++ dktX0_count_2
def dkwX0_count_0 : List UInt8 := [27]
abbrev dktX0_count_0 : List UInt8 := dkwX0_count_0 ++ dktX0_count_1
theorem dksX0_count_0 : cX0_count.data.toList.drop 0 = dktX0_count_0 := by decide +kernel
theorem dksX0_count_1 : cX0_count.data.toList.drop 1 = dktX0_count_1 := dk_seg dksX0_count_0 1 rfl rfl
theorem dksX0_count_2 : cX0_count.data.toList.drop 44 = dktX0_count_2 := dk_seg dksX0_count_1 43 rfl rfl
theorem dksX0_count_3 : cX0_count.data.toList.drop 68 = dktX0_count_3 := dk_seg dksX0_count_2 24 rfl rfl
theorem dX0_count_0 : decode cX0_count 0 = .ok (.iload_n 1, 1) := dk_27 (dk_at dksX0_count_0 0 rfl rfl)
theorem dX0_count_1 : decode cX0_count 1 = .ok (.tableswitch 78 0 6 #[43, 48, 53, 58, 63, 68, 73], 43) := by decide +kernel
theorem dX0_count_44 : decode cX0_count 44 = .ok (.aload_n 0, 1) := dk_42 (dk_at dksX0_count_2 0 rfl rfl)
theorem dX0_count_45 : decode cX0_count 45 = .ok (.getfield 81, 3) := dk_180 0 81 (dk_at dksX0_count_2 1 rfl rfl)
theorem dX0_count_48 : decode cX0_count 48 = .ok (.ireturn, 1) := dk_172 (dk_at dksX0_count_2 4 rfl rfl)
theorem dX0_count_49 : decode cX0_count 49 = .ok (.aload_n 0, 1) := dk_42 (dk_at dksX0_count_2 5 rfl rfl)
theorem dX0_count_50 : decode cX0_count 50 = .ok (.getfield 231, 3) := dk_180 0 231 (dk_at dksX0_count_2 6 rfl rfl)
theorem dX0_count_53 : decode cX0_count 53 = .ok (.ireturn, 1) := dk_172 (dk_at dksX0_count_2 9 rfl rfl)
theorem dX0_count_54 : decode cX0_count 54 = .ok (.aload_n 0, 1) := dk_42 (dk_at dksX0_count_2 10 rfl rfl)
theorem dX0_count_55 : decode cX0_count 55 = .ok (.getfield 77, 3) := dk_180 0 77 (dk_at dksX0_count_2 11 rfl rfl)
theorem dX0_count_58 : decode cX0_count 58 = .ok (.ireturn, 1) := dk_172 (dk_at dksX0_count_2 14 rfl rfl)
theorem dX0_count_59 : decode cX0_count 59 = .ok (.aload_n 0, 1) := dk_42 (dk_at dksX0_count_2 15 rfl rfl)
theorem dX0_count_60 : decode cX0_count 60 = .ok (.getfield 288, 3) := dk_180 1 32 (dk_at dksX0_count_2 16 rfl rfl)
theorem dX0_count_63 : decode cX0_count 63 = .ok (.ireturn, 1) := dk_172 (dk_at dksX0_count_2 19 rfl rfl)
theorem dX0_count_64 : decode cX0_count 64 = .ok (.aload_n 0, 1) := dk_42 (dk_at dksX0_count_2 20 rfl rfl)
theorem dX0_count_65 : decode cX0_count 65 = .ok (.getfield 100, 3) := dk_180 0 100 (dk_at dksX0_count_2 21 rfl rfl)
theorem dX0_count_68 : decode cX0_count 68 = .ok (.ireturn, 1) := dk_172 (dk_at dksX0_count_3 0 rfl rfl)
theorem dX0_count_69 : decode cX0_count 69 = .ok (.aload_n 0, 1) := dk_42 (dk_at dksX0_count_3 1 rfl rfl)
theorem dX0_count_70 : decode cX0_count 70 = .ok (.getfield 362, 3) := dk_180 1 106 (dk_at dksX0_count_3 2 rfl rfl)
theorem dX0_count_73 : decode cX0_count 73 = .ok (.ireturn, 1) := dk_172 (dk_at dksX0_count_3 5 rfl rfl)
theorem dX0_count_74 : decode cX0_count 74 = .ok (.aload_n 0, 1) := dk_42 (dk_at dksX0_count_3 6 rfl rfl)
theorem dX0_count_75 : decode cX0_count 75 = .ok (.getfield 359, 3) := dk_180 1 103 (dk_at dksX0_count_3 7 rfl rfl)
theorem dX0_count_78 : decode cX0_count 78 = .ok (.ireturn, 1) := dk_172 (dk_at dksX0_count_3 10 rfl rfl)
theorem dX0_count_79 : decode cX0_count 79 = .ok (.iconst (-1), 1) := dk_2 (dk_at dksX0_count_3 11 rfl rfl)
theorem dX0_count_80 : decode cX0_count 80 = .ok (.ireturn, 1) := dk_172 (dk_at dksX0_count_3 12 rfl rfl)
theorem q92 : (Jvm.Cond.initialized "HeadReckons") ∈ lw_all := lw_g (lw_at lw_m1 1 rfl) rfl
theorem q139 : (Jvm.Cond.instantiable "HeadReckons" (23 : Nat)) ∈ lw_all := lw_g (lw_at lw_m1 48 rfl) rfl
theorem q141 : (Jvm.Cond.instanceMethod ({ cls := "HeadReckons", name := "<init>", desc := "()V" } : Jvm.MethodName)) ∈ lw_all := lw_g (lw_at lw_m1 50 rfl) rfl
theorem q142 : (Jvm.Cond.code ({ cls := "HeadReckons", name := "<init>", desc := "()V" } : Jvm.MethodName) prog_1_method_1_code (1 : Nat) (Option.none : Option Jvm.ClassFile.FieldType)) ∈ lw_all := lw_g (lw_at lw_m1 51 rfl) rfl
theorem q143 : (Jvm.Cond.methodLink "HeadReckons" (1 : Nat) ({ cls := "java/lang/Object", name := "<init>", desc := "()V" } : Jvm.MethodName)) ∈ lw_all := lw_g (lw_at lw_m1 52 rfl) rfl
theorem q146 : (Jvm.Cond.classLink "HeadReckons" (13 : Nat) "HeadReckons$Head") ∈ lw_all := lw_g (lw_at lw_m1 55 rfl) rfl
theorem q148 : (Jvm.Cond.classLink "HeadReckons" (19 : Nat) "HeadReckons$Change") ∈ lw_all := lw_g (lw_at lw_m1 57 rfl) rfl
theorem q150 : (Jvm.Cond.classLink "HeadReckons" (25 : Nat) "HeadReckons$Facts") ∈ lw_all := lw_g (lw_at lw_m1 59 rfl) rfl
theorem q152 : (Jvm.Cond.methodLinkNest "HeadReckons" (27 : Nat) ({ cls := "HeadReckons$Facts", name := "<init>", desc := "()V" } : Jvm.MethodName) "HeadReckons") ∈ lw_tbl := lw_at lw_m1 61 rfl
theorem q158 : (Jvm.Cond.fieldLinkNest "HeadReckons" (189 : Nat) "HeadReckons$Facts" "named" "[I" "HeadReckons") ∈ lw_tbl := lw_at lw_m1 67 rfl
theorem q164 : (Jvm.Cond.classLink "HeadReckons" (32 : Nat) "HeadReckons$Acts") ∈ lw_all := lw_g (lw_at lw_m1 73 rfl) rfl
theorem q166 : (Jvm.Cond.methodLinkNest "HeadReckons" (34 : Nat) ({ cls := "HeadReckons$Acts", name := "<init>", desc := "(LHeadReckons;)V" } : Jvm.MethodName) "HeadReckons") ∈ lw_tbl := lw_at lw_m1 75 rfl
theorem q171 : (Jvm.Cond.fieldLinkNest "HeadReckons" (173 : Nat) "HeadReckons$Acts" "sort" "[I" "HeadReckons") ∈ lw_tbl := lw_at lw_m1 80 rfl
theorem q173 : (Jvm.Cond.fieldLinkNest "HeadReckons" (180 : Nat) "HeadReckons$Acts" "length" "[I" "HeadReckons") ∈ lw_tbl := lw_at lw_m1 82 rfl
theorem q175 : (Jvm.Cond.fieldLinkNest "HeadReckons" (183 : Nat) "HeadReckons$Acts" "held" "[I" "HeadReckons") ∈ lw_tbl := lw_at lw_m1 84 rfl
theorem q177 : (Jvm.Cond.fieldLinkNest "HeadReckons" (176 : Nat) "HeadReckons$Acts" "makes" "[J" "HeadReckons") ∈ lw_tbl := lw_at lw_m1 86 rfl
theorem q181 : (Jvm.Cond.fieldLinkNest "HeadReckons" (169 : Nat) "HeadReckons$Acts" "many" "I" "HeadReckons") ∈ lw_tbl := lw_at lw_m1 90 rfl
theorem q184 : (Jvm.Cond.fieldLinkNest "HeadReckons" (163 : Nat) "HeadReckons$Acts" "seconds" "I" "HeadReckons") ∈ lw_tbl := lw_at lw_m1 93 rfl
theorem q186 : (Jvm.Cond.fieldLinkNest "HeadReckons" (166 : Nat) "HeadReckons$Acts" "most" "I" "HeadReckons") ∈ lw_tbl := lw_at lw_m1 95 rfl
theorem q227 : (Jvm.Cond.classLink "HeadReckons" (41 : Nat) "HeadReckons$Seen") ∈ lw_all := lw_g (lw_at lw_m1 136 rfl) rfl
theorem q230 : (Jvm.Cond.methodLinkNest "HeadReckons" (51 : Nat) ({ cls := "HeadReckons$Head", name := "<init>", desc := "()V" } : Jvm.MethodName) "HeadReckons") ∈ lw_tbl := lw_at lw_m1 139 rfl
theorem q238 : (Jvm.Cond.fieldLinkNest "HeadReckons" (88 : Nat) "HeadReckons$Head" "told" "[I" "HeadReckons") ∈ lw_tbl := lw_at lw_m1 147 rfl
theorem q248 : (Jvm.Cond.classLink "HeadReckons" (59 : Nat) "HeadReckons$Way") ∈ lw_all := lw_g (lw_at lw_m1 157 rfl) rfl
theorem q250 : (Jvm.Cond.classLink "HeadReckons" (65 : Nat) "HeadReckons$Held") ∈ lw_all := lw_g (lw_at lw_m1 159 rfl) rfl
theorem q252 : (Jvm.Cond.fieldLink "HeadReckons" (9 : Nat) "HeadReckons" "tape" "[B") ∈ lw_all := lw_g (lw_at lw_m1 161 rfl) rfl
theorem q255 : (Jvm.Cond.fieldLink "HeadReckons" (77 : Nat) "HeadReckons" "taped" "I") ∈ lw_all := lw_g (lw_at lw_m1 164 rfl) rfl
theorem q256 : (Jvm.Cond.fieldLink "HeadReckons" (15 : Nat) "HeadReckons" "heads" "[LHeadReckons$Head;") ∈ lw_all := lw_g (lw_at lw_m1 165 rfl) rfl
theorem q257 : (Jvm.Cond.fieldLink "HeadReckons" (81 : Nat) "HeadReckons" "headMany" "I") ∈ lw_all := lw_g (lw_at lw_m1 166 rfl) rfl
theorem q258 : (Jvm.Cond.fieldLink "HeadReckons" (21 : Nat) "HeadReckons" "changes" "[LHeadReckons$Change;") ∈ lw_all := lw_g (lw_at lw_m1 167 rfl) rfl
theorem q259 : (Jvm.Cond.fieldLink "HeadReckons" (100 : Nat) "HeadReckons" "doneMany" "I") ∈ lw_all := lw_g (lw_at lw_m1 168 rfl) rfl
theorem q260 : (Jvm.Cond.fieldLink "HeadReckons" (97 : Nat) "HeadReckons" "undoneMany" "I") ∈ lw_all := lw_g (lw_at lw_m1 169 rfl) rfl
theorem q261 : (Jvm.Cond.fieldLink "HeadReckons" (128 : Nat) "HeadReckons" "law" "LHeadReckons$Line;") ∈ lw_all := lw_g (lw_at lw_m1 170 rfl) rfl
theorem q262 : (Jvm.Cond.fieldLink "HeadReckons" (28 : Nat) "HeadReckons" "facts" "LHeadReckons$Facts;") ∈ lw_all := lw_g (lw_at lw_m1 171 rfl) rfl
theorem q263 : (Jvm.Cond.fieldLink "HeadReckons" (37 : Nat) "HeadReckons" "acts" "LHeadReckons$Acts;") ∈ lw_all := lw_g (lw_at lw_m1 172 rfl) rfl
theorem q264 : (Jvm.Cond.fieldLink "HeadReckons" (43 : Nat) "HeadReckons" "seen" "[LHeadReckons$Seen;") ∈ lw_all := lw_g (lw_at lw_m1 173 rfl) rfl
theorem q265 : (Jvm.Cond.fieldLink "HeadReckons" (231 : Nat) "HeadReckons" "seenMany" "I") ∈ lw_all := lw_g (lw_at lw_m1 174 rfl) rfl
theorem q266 : (Jvm.Cond.fieldLink "HeadReckons" (47 : Nat) "HeadReckons" "told" "[I") ∈ lw_all := lw_g (lw_at lw_m1 175 rfl) rfl
theorem q267 : (Jvm.Cond.fieldLink "HeadReckons" (288 : Nat) "HeadReckons" "toldMany" "I") ∈ lw_all := lw_g (lw_at lw_m1 176 rfl) rfl
theorem q268 : (Jvm.Cond.fieldLink "HeadReckons" (52 : Nat) "HeadReckons" "pupil" "LHeadReckons$Head;") ∈ lw_all := lw_g (lw_at lw_m1 177 rfl) rfl
theorem q269 : (Jvm.Cond.fieldLink "HeadReckons" (311 : Nat) "HeadReckons" "bestOrder" "I") ∈ lw_all := lw_g (lw_at lw_m1 178 rfl) rfl
theorem q270 : (Jvm.Cond.fieldLink "HeadReckons" (314 : Nat) "HeadReckons" "bestSeconds" "I") ∈ lw_all := lw_g (lw_at lw_m1 179 rfl) rfl
theorem q271 : (Jvm.Cond.fieldLink "HeadReckons" (347 : Nat) "HeadReckons" "leastFirst" "J") ∈ lw_all := lw_g (lw_at lw_m1 180 rfl) rfl
theorem q272 : (Jvm.Cond.fieldLink "HeadReckons" (359 : Nat) "HeadReckons" "traces" "I") ∈ lw_all := lw_g (lw_at lw_m1 181 rfl) rfl
theorem q273 : (Jvm.Cond.fieldLink "HeadReckons" (56 : Nat) "HeadReckons" "traced" "[B") ∈ lw_all := lw_g (lw_at lw_m1 182 rfl) rfl
theorem q274 : (Jvm.Cond.fieldLink "HeadReckons" (61 : Nat) "HeadReckons" "bodies" "[LHeadReckons$Way;") ∈ lw_all := lw_g (lw_at lw_m1 183 rfl) rfl
theorem q275 : (Jvm.Cond.fieldLink "HeadReckons" (362 : Nat) "HeadReckons" "bodyMany" "I") ∈ lw_all := lw_g (lw_at lw_m1 184 rfl) rfl
theorem q276 : (Jvm.Cond.fieldLink "HeadReckons" (67 : Nat) "HeadReckons" "shelves" "[LHeadReckons$Held;") ∈ lw_all := lw_g (lw_at lw_m1 185 rfl) rfl
theorem q277 : (Jvm.Cond.laysFinal "HeadReckons" "HeadReckons" "tape" "[B") ∈ lw_all := lw_g (lw_at lw_m1 186 rfl) rfl
theorem q278 : (Jvm.Cond.soleField "HeadReckons" "tape") ∈ lw_all := lw_g (lw_at lw_m1 187 rfl) rfl
theorem q279 : (Jvm.Cond.lays "HeadReckons" "HeadReckons" "taped" "I") ∈ lw_all := lw_g (lw_at lw_m1 188 rfl) rfl
theorem q280 : (Jvm.Cond.soleField "HeadReckons" "taped") ∈ lw_all := lw_g (lw_at lw_m1 189 rfl) rfl
theorem q281 : (Jvm.Cond.laysFinal "HeadReckons" "HeadReckons" "heads" "[LHeadReckons$Head;") ∈ lw_all := lw_g (lw_at lw_m1 190 rfl) rfl
theorem q282 : (Jvm.Cond.soleField "HeadReckons" "heads") ∈ lw_all := lw_g (lw_at lw_m1 191 rfl) rfl
theorem q283 : (Jvm.Cond.lays "HeadReckons" "HeadReckons" "headMany" "I") ∈ lw_all := lw_g (lw_at lw_m1 192 rfl) rfl
theorem q284 : (Jvm.Cond.soleField "HeadReckons" "headMany") ∈ lw_all := lw_g (lw_at lw_m1 193 rfl) rfl
theorem q285 : (Jvm.Cond.laysFinal "HeadReckons" "HeadReckons" "changes" "[LHeadReckons$Change;") ∈ lw_all := lw_g (lw_at lw_m1 194 rfl) rfl
theorem q286 : (Jvm.Cond.soleField "HeadReckons" "changes") ∈ lw_all := lw_g (lw_at lw_m1 195 rfl) rfl
theorem q287 : (Jvm.Cond.lays "HeadReckons" "HeadReckons" "doneMany" "I") ∈ lw_all := lw_g (lw_at lw_m1 196 rfl) rfl
theorem q288 : (Jvm.Cond.soleField "HeadReckons" "doneMany") ∈ lw_all := lw_g (lw_at lw_m1 197 rfl) rfl
theorem q289 : (Jvm.Cond.lays "HeadReckons" "HeadReckons" "undoneMany" "I") ∈ lw_all := lw_g (lw_at lw_m1 198 rfl) rfl
theorem q290 : (Jvm.Cond.soleField "HeadReckons" "undoneMany") ∈ lw_all := lw_g (lw_at lw_m1 199 rfl) rfl
theorem q291 : (Jvm.Cond.lays "HeadReckons" "HeadReckons" "law" "LHeadReckons$Line;") ∈ lw_all := lw_g (lw_at lw_m1 200 rfl) rfl
theorem q292 : (Jvm.Cond.soleField "HeadReckons" "law") ∈ lw_all := lw_g (lw_at lw_m1 201 rfl) rfl
theorem q293 : (Jvm.Cond.laysFinal "HeadReckons" "HeadReckons" "facts" "LHeadReckons$Facts;") ∈ lw_all := lw_g (lw_at lw_m1 202 rfl) rfl
theorem q294 : (Jvm.Cond.soleField "HeadReckons" "facts") ∈ lw_all := lw_g (lw_at lw_m1 203 rfl) rfl
theorem q295 : (Jvm.Cond.laysFinal "HeadReckons" "HeadReckons" "acts" "LHeadReckons$Acts;") ∈ lw_all := lw_g (lw_at lw_m1 204 rfl) rfl
theorem q296 : (Jvm.Cond.soleField "HeadReckons" "acts") ∈ lw_all := lw_g (lw_at lw_m1 205 rfl) rfl
theorem q297 : (Jvm.Cond.laysFinal "HeadReckons" "HeadReckons" "seen" "[LHeadReckons$Seen;") ∈ lw_all := lw_g (lw_at lw_m1 206 rfl) rfl
theorem q298 : (Jvm.Cond.soleField "HeadReckons" "seen") ∈ lw_all := lw_g (lw_at lw_m1 207 rfl) rfl
theorem q299 : (Jvm.Cond.lays "HeadReckons" "HeadReckons" "seenMany" "I") ∈ lw_all := lw_g (lw_at lw_m1 208 rfl) rfl
theorem q300 : (Jvm.Cond.soleField "HeadReckons" "seenMany") ∈ lw_all := lw_g (lw_at lw_m1 209 rfl) rfl
theorem q301 : (Jvm.Cond.laysFinal "HeadReckons" "HeadReckons" "told" "[I") ∈ lw_all := lw_g (lw_at lw_m1 210 rfl) rfl
theorem q302 : (Jvm.Cond.soleField "HeadReckons" "told") ∈ lw_all := lw_g (lw_at lw_m1 211 rfl) rfl
theorem q303 : (Jvm.Cond.lays "HeadReckons" "HeadReckons" "toldMany" "I") ∈ lw_all := lw_g (lw_at lw_m1 212 rfl) rfl
theorem q304 : (Jvm.Cond.soleField "HeadReckons" "toldMany") ∈ lw_all := lw_g (lw_at lw_m1 213 rfl) rfl
theorem q305 : (Jvm.Cond.laysFinal "HeadReckons" "HeadReckons" "pupil" "LHeadReckons$Head;") ∈ lw_all := lw_g (lw_at lw_m1 214 rfl) rfl
theorem q306 : (Jvm.Cond.soleField "HeadReckons" "pupil") ∈ lw_all := lw_g (lw_at lw_m1 215 rfl) rfl
theorem q307 : (Jvm.Cond.lays "HeadReckons" "HeadReckons" "bestOrder" "I") ∈ lw_all := lw_g (lw_at lw_m1 216 rfl) rfl
theorem q308 : (Jvm.Cond.soleField "HeadReckons" "bestOrder") ∈ lw_all := lw_g (lw_at lw_m1 217 rfl) rfl
theorem q309 : (Jvm.Cond.lays "HeadReckons" "HeadReckons" "bestSeconds" "I") ∈ lw_all := lw_g (lw_at lw_m1 218 rfl) rfl
theorem q310 : (Jvm.Cond.soleField "HeadReckons" "bestSeconds") ∈ lw_all := lw_g (lw_at lw_m1 219 rfl) rfl
theorem q311 : (Jvm.Cond.lays "HeadReckons" "HeadReckons" "leastFirst" "J") ∈ lw_all := lw_g (lw_at lw_m1 220 rfl) rfl
theorem q312 : (Jvm.Cond.soleField "HeadReckons" "leastFirst") ∈ lw_all := lw_g (lw_at lw_m1 221 rfl) rfl
theorem q313 : (Jvm.Cond.lays "HeadReckons" "HeadReckons" "traces" "I") ∈ lw_all := lw_g (lw_at lw_m1 222 rfl) rfl
theorem q314 : (Jvm.Cond.soleField "HeadReckons" "traces") ∈ lw_all := lw_g (lw_at lw_m1 223 rfl) rfl
theorem q315 : (Jvm.Cond.laysFinal "HeadReckons" "HeadReckons" "traced" "[B") ∈ lw_all := lw_g (lw_at lw_m1 224 rfl) rfl
theorem q316 : (Jvm.Cond.soleField "HeadReckons" "traced") ∈ lw_all := lw_g (lw_at lw_m1 225 rfl) rfl
theorem q317 : (Jvm.Cond.laysFinal "HeadReckons" "HeadReckons" "bodies" "[LHeadReckons$Way;") ∈ lw_all := lw_g (lw_at lw_m1 226 rfl) rfl
theorem q318 : (Jvm.Cond.soleField "HeadReckons" "bodies") ∈ lw_all := lw_g (lw_at lw_m1 227 rfl) rfl
theorem q319 : (Jvm.Cond.lays "HeadReckons" "HeadReckons" "bodyMany" "I") ∈ lw_all := lw_g (lw_at lw_m1 228 rfl) rfl
theorem q320 : (Jvm.Cond.soleField "HeadReckons" "bodyMany") ∈ lw_all := lw_g (lw_at lw_m1 229 rfl) rfl
theorem q321 : (Jvm.Cond.laysFinal "HeadReckons" "HeadReckons" "shelves" "[LHeadReckons$Held;") ∈ lw_all := lw_g (lw_at lw_m1 230 rfl) rfl
theorem q322 : (Jvm.Cond.soleField "HeadReckons" "shelves") ∈ lw_all := lw_g (lw_at lw_m1 231 rfl) rfl
theorem q323 : (Jvm.Cond.superclass "HeadReckons" "java/lang/Object") ∈ lw_all := lw_g (lw_at lw_m1 232 rfl) rfl
theorem q325 : (Jvm.Cond.instanceMethod ({ cls := "HeadReckons", name := "feed", desc := "(II)I" } : Jvm.MethodName)) ∈ lw_all := lw_g (lw_at lw_m1 234 rfl) rfl
theorem q326 : (Jvm.Cond.selects "HeadReckons" ({ cls := "HeadReckons", name := "feed", desc := "(II)I" } : Jvm.MethodName) ({ cls := "HeadReckons", name := "feed", desc := "(II)I" } : Jvm.MethodName)) ∈ lw_all := lw_g (lw_at lw_m1 235 rfl) rfl
theorem q327 : (Jvm.Cond.code ({ cls := "HeadReckons", name := "feed", desc := "(II)I" } : Jvm.MethodName) prog_1_method_5_code (4 : Nat) (Option.some Jvm.ClassFile.FieldType.int)) ∈ lw_all := lw_g (lw_at lw_m1 236 rfl) rfl
theorem q328 : (Jvm.Cond.methodLink "HeadReckons" (73 : Nat) ({ cls := "HeadReckons", name := "in", desc := "(III)Z" } : Jvm.MethodName)) ∈ lw_all := lw_g (lw_at lw_m1 237 rfl) rfl
theorem q329 : (Jvm.Cond.static ({ cls := "HeadReckons", name := "in", desc := "(III)Z" } : Jvm.MethodName)) ∈ lw_all := lw_g (lw_at lw_m1 238 rfl) rfl
theorem q330 : (Jvm.Cond.code ({ cls := "HeadReckons", name := "in", desc := "(III)Z" } : Jvm.MethodName) prog_1_method_2_code (3 : Nat) (Option.some Jvm.ClassFile.FieldType.boolean)) ∈ lw_all := lw_g (lw_at lw_m1 239 rfl) rfl
theorem q332 : (Jvm.Cond.instanceMethod ({ cls := "HeadReckons", name := "head", desc := "()I" } : Jvm.MethodName)) ∈ lw_all := lw_g (lw_at lw_m2 1 rfl) rfl
theorem q333 : (Jvm.Cond.selects "HeadReckons" ({ cls := "HeadReckons", name := "head", desc := "()I" } : Jvm.MethodName) ({ cls := "HeadReckons", name := "head", desc := "()I" } : Jvm.MethodName)) ∈ lw_all := lw_g (lw_at lw_m2 2 rfl) rfl
theorem q334 : (Jvm.Cond.code ({ cls := "HeadReckons", name := "head", desc := "()I" } : Jvm.MethodName) prog_1_method_8_code (8 : Nat) (Option.some Jvm.ClassFile.FieldType.int)) ∈ lw_all := lw_g (lw_at lw_m2 3 rfl) rfl
theorem q335 : (Jvm.Cond.methodLink "HeadReckons" (84 : Nat) ({ cls := "HeadReckons", name := "isTold", desc := "(II)Z" } : Jvm.MethodName)) ∈ lw_all := lw_g (lw_at lw_m2 4 rfl) rfl
theorem q336 : (Jvm.Cond.static ({ cls := "HeadReckons", name := "isTold", desc := "(II)Z" } : Jvm.MethodName)) ∈ lw_all := lw_g (lw_at lw_m2 5 rfl) rfl
theorem q337 : (Jvm.Cond.code ({ cls := "HeadReckons", name := "isTold", desc := "(II)Z" } : Jvm.MethodName) prog_1_method_7_code (2 : Nat) (Option.some Jvm.ClassFile.FieldType.boolean)) ∈ lw_all := lw_g (lw_at lw_m2 6 rfl) rfl
theorem q339 : (Jvm.Cond.instanceMethod ({ cls := "HeadReckons", name := "of", desc := "(II)I" } : Jvm.MethodName)) ∈ lw_all := lw_g (lw_at lw_m2 8 rfl) rfl
theorem q340 : (Jvm.Cond.selects "HeadReckons" ({ cls := "HeadReckons", name := "of", desc := "(II)I" } : Jvm.MethodName) ({ cls := "HeadReckons", name := "of", desc := "(II)I" } : Jvm.MethodName)) ∈ lw_all := lw_g (lw_at lw_m2 9 rfl) rfl
theorem q341 : (Jvm.Cond.code ({ cls := "HeadReckons", name := "of", desc := "(II)I" } : Jvm.MethodName) prog_1_method_9_code (3 : Nat) (Option.some Jvm.ClassFile.FieldType.int)) ∈ lw_all := lw_g (lw_at lw_m2 10 rfl) rfl
theorem q342 : (Jvm.Cond.methodLink "HeadReckons" (89 : Nat) ({ cls := "HeadReckons", name := "isHead", desc := "(I)Z" } : Jvm.MethodName)) ∈ lw_all := lw_g (lw_at lw_m2 11 rfl) rfl
theorem q343 : (Jvm.Cond.privateMethod ({ cls := "HeadReckons", name := "isHead", desc := "(I)Z" } : Jvm.MethodName)) ∈ lw_tbl := lw_at lw_m2 12 rfl
theorem q344 : (Jvm.Cond.instanceMethod ({ cls := "HeadReckons", name := "isHead", desc := "(I)Z" } : Jvm.MethodName)) ∈ lw_all := lw_g (lw_at lw_m2 13 rfl) rfl
theorem q345 : (Jvm.Cond.code ({ cls := "HeadReckons", name := "isHead", desc := "(I)Z" } : Jvm.MethodName) prog_1_method_6_code (2 : Nat) (Option.some Jvm.ClassFile.FieldType.boolean)) ∈ lw_all := lw_g (lw_at lw_m2 14 rfl) rfl
theorem q346 : (Jvm.Cond.methodLink "HeadReckons" (93 : Nat) ({ cls := "HeadReckons$Head", name := "learnt", desc := "()I" } : Jvm.MethodName)) ∈ lw_all := lw_g (lw_at lw_m2 15 rfl) rfl
theorem q351 : (Jvm.Cond.instanceMethod ({ cls := "HeadReckons", name := "turn", desc := "(III)I" } : Jvm.MethodName)) ∈ lw_all := lw_g (lw_at lw_m2 20 rfl) rfl
theorem q352 : (Jvm.Cond.selects "HeadReckons" ({ cls := "HeadReckons", name := "turn", desc := "(III)I" } : Jvm.MethodName) ({ cls := "HeadReckons", name := "turn", desc := "(III)I" } : Jvm.MethodName)) ∈ lw_all := lw_g (lw_at lw_m2 21 rfl) rfl
theorem q353 : (Jvm.Cond.code ({ cls := "HeadReckons", name := "turn", desc := "(III)I" } : Jvm.MethodName) prog_1_method_10_code (7 : Nat) (Option.some Jvm.ClassFile.FieldType.int)) ∈ lw_all := lw_g (lw_at lw_m2 22 rfl) rfl
theorem q355 : (Jvm.Cond.methodLink "HeadReckons" (103 : Nat) ({ cls := "HeadReckons$Change", name := "<init>", desc := "(LHeadReckons$Head;III)V" } : Jvm.MethodName)) ∈ lw_all := lw_g (lw_at lw_m2 24 rfl) rfl
theorem q360 : (Jvm.Cond.fieldLinkNest "HeadReckons" (106 : Nat) "HeadReckons$Change" "head" "LHeadReckons$Head;" "HeadReckons") ∈ lw_tbl := lw_at lw_m2 29 rfl
theorem q362 : (Jvm.Cond.fieldLinkNest "HeadReckons" (109 : Nat) "HeadReckons$Change" "what" "I" "HeadReckons") ∈ lw_tbl := lw_at lw_m2 31 rfl
theorem q364 : (Jvm.Cond.fieldLinkNest "HeadReckons" (112 : Nat) "HeadReckons$Change" "before" "I" "HeadReckons") ∈ lw_tbl := lw_at lw_m2 33 rfl
theorem q366 : (Jvm.Cond.fieldLinkNest "HeadReckons" (115 : Nat) "HeadReckons$Change" "behind" "I" "HeadReckons") ∈ lw_tbl := lw_at lw_m2 35 rfl
theorem q377 : (Jvm.Cond.instanceMethod ({ cls := "HeadReckons", name := "undo", desc := "()I" } : Jvm.MethodName)) ∈ lw_all := lw_g (lw_at lw_m2 46 rfl) rfl
theorem q378 : (Jvm.Cond.selects "HeadReckons" ({ cls := "HeadReckons", name := "undo", desc := "()I" } : Jvm.MethodName) ({ cls := "HeadReckons", name := "undo", desc := "()I" } : Jvm.MethodName)) ∈ lw_all := lw_g (lw_at lw_m2 47 rfl) rfl
theorem q379 : (Jvm.Cond.code ({ cls := "HeadReckons", name := "undo", desc := "()I" } : Jvm.MethodName) prog_1_method_11_code (1 : Nat) (Option.some Jvm.ClassFile.FieldType.int)) ∈ lw_all := lw_g (lw_at lw_m2 48 rfl) rfl
theorem q381 : (Jvm.Cond.instanceMethod ({ cls := "HeadReckons", name := "redo", desc := "()I" } : Jvm.MethodName)) ∈ lw_all := lw_g (lw_at lw_m2 50 rfl) rfl
theorem q382 : (Jvm.Cond.selects "HeadReckons" ({ cls := "HeadReckons", name := "redo", desc := "()I" } : Jvm.MethodName) ({ cls := "HeadReckons", name := "redo", desc := "()I" } : Jvm.MethodName)) ∈ lw_all := lw_g (lw_at lw_m2 51 rfl) rfl
theorem q383 : (Jvm.Cond.code ({ cls := "HeadReckons", name := "redo", desc := "()I" } : Jvm.MethodName) prog_1_method_12_code (1 : Nat) (Option.some Jvm.ClassFile.FieldType.int)) ∈ lw_all := lw_g (lw_at lw_m2 52 rfl) rfl
theorem q385 : (Jvm.Cond.instanceMethod ({ cls := "HeadReckons", name := "choice", desc := "()I" } : Jvm.MethodName)) ∈ lw_all := lw_g (lw_at lw_m2 54 rfl) rfl
theorem q386 : (Jvm.Cond.selects "HeadReckons" ({ cls := "HeadReckons", name := "choice", desc := "()I" } : Jvm.MethodName) ({ cls := "HeadReckons", name := "choice", desc := "()I" } : Jvm.MethodName)) ∈ lw_all := lw_g (lw_at lw_m2 55 rfl) rfl
theorem q387 : (Jvm.Cond.code ({ cls := "HeadReckons", name := "choice", desc := "()I" } : Jvm.MethodName) prog_1_method_13_code (3 : Nat) (Option.some Jvm.ClassFile.FieldType.int)) ∈ lw_all := lw_g (lw_at lw_m2 56 rfl) rfl
theorem q388 : (Jvm.Cond.classLink "HeadReckons" (118 : Nat) "HeadReckons$Reader") ∈ lw_all := lw_g (lw_at lw_m2 57 rfl) rfl
theorem q390 : (Jvm.Cond.methodLinkNest "HeadReckons" (120 : Nat) ({ cls := "HeadReckons$Reader", name := "<init>", desc := "(LHeadReckons;)V" } : Jvm.MethodName) "HeadReckons") ∈ lw_tbl := lw_at lw_m2 59 rfl
theorem q396 : (Jvm.Cond.fieldLinkNest "HeadReckons" (125 : Nat) "HeadReckons$Reader" "fault" "I" "HeadReckons") ∈ lw_tbl := lw_at lw_m2 65 rfl
theorem q408 : (Jvm.Cond.methodLink "HeadReckons" (121 : Nat) ({ cls := "HeadReckons$Reader", name := "lines", desc := "()LHeadReckons$Line;" } : Jvm.MethodName)) ∈ lw_all := lw_g (lw_at lw_m2 77 rfl) rfl
theorem q423 : (Jvm.Cond.fieldLinkNest "HeadReckons" (132 : Nat) "HeadReckons$Line" "test" "LHeadReckons$Node;" "HeadReckons") ∈ lw_tbl := lw_at lw_m2 92 rfl
theorem q425 : (Jvm.Cond.fieldLinkNest "HeadReckons" (144 : Nat) "HeadReckons$Line" "gives" "LHeadReckons$Node;" "HeadReckons") ∈ lw_tbl := lw_at lw_m2 94 rfl
theorem q427 : (Jvm.Cond.fieldLinkNest "HeadReckons" (147 : Nat) "HeadReckons$Line" "next" "LHeadReckons$Line;" "HeadReckons") ∈ lw_tbl := lw_at lw_m2 96 rfl
theorem q630 : (Jvm.Cond.instanceMethod ({ cls := "HeadReckons", name := "way", desc := "(III)I" } : Jvm.MethodName)) ∈ lw_all := lw_g (lw_at lw_m3 59 rfl) rfl
theorem q631 : (Jvm.Cond.selects "HeadReckons" ({ cls := "HeadReckons", name := "way", desc := "(III)I" } : Jvm.MethodName) ({ cls := "HeadReckons", name := "way", desc := "(III)I" } : Jvm.MethodName)) ∈ lw_all := lw_g (lw_at lw_m3 60 rfl) rfl
theorem q632 : (Jvm.Cond.code ({ cls := "HeadReckons", name := "way", desc := "(III)I" } : Jvm.MethodName) prog_1_method_18_code (4 : Nat) (Option.some Jvm.ClassFile.FieldType.int)) ∈ lw_all := lw_g (lw_at lw_m3 61 rfl) rfl
theorem q633 : (Jvm.Cond.methodLink "HeadReckons" (154 : Nat) ({ cls := "HeadReckons", name := "isBy", desc := "(I)Z" } : Jvm.MethodName)) ∈ lw_all := lw_g (lw_at lw_m3 62 rfl) rfl
theorem q634 : (Jvm.Cond.privateMethod ({ cls := "HeadReckons", name := "isBy", desc := "(I)Z" } : Jvm.MethodName)) ∈ lw_tbl := lw_at lw_m3 63 rfl
theorem q635 : (Jvm.Cond.instanceMethod ({ cls := "HeadReckons", name := "isBy", desc := "(I)Z" } : Jvm.MethodName)) ∈ lw_all := lw_g (lw_at lw_m3 64 rfl) rfl
theorem q636 : (Jvm.Cond.code ({ cls := "HeadReckons", name := "isBy", desc := "(I)Z" } : Jvm.MethodName) prog_1_method_16_code (2 : Nat) (Option.some Jvm.ClassFile.FieldType.boolean)) ∈ lw_all := lw_g (lw_at lw_m3 65 rfl) rfl
theorem q637 : (Jvm.Cond.methodLink "HeadReckons" (157 : Nat) ({ cls := "HeadReckons", name := "isPair", desc := "(I)Z" } : Jvm.MethodName)) ∈ lw_all := lw_g (lw_at lw_m3 66 rfl) rfl
theorem q638 : (Jvm.Cond.static ({ cls := "HeadReckons", name := "isPair", desc := "(I)Z" } : Jvm.MethodName)) ∈ lw_all := lw_g (lw_at lw_m3 67 rfl) rfl
theorem q639 : (Jvm.Cond.code ({ cls := "HeadReckons", name := "isPair", desc := "(I)Z" } : Jvm.MethodName) prog_1_method_15_code (1 : Nat) (Option.some Jvm.ClassFile.FieldType.boolean)) ∈ lw_all := lw_g (lw_at lw_m3 68 rfl) rfl
theorem q640 : (Jvm.Cond.methodLink "HeadReckons" (160 : Nat) ({ cls := "HeadReckons", name := "lays", desc := "(II)Z" } : Jvm.MethodName)) ∈ lw_all := lw_g (lw_at lw_m3 69 rfl) rfl
theorem q641 : (Jvm.Cond.privateMethod ({ cls := "HeadReckons", name := "lays", desc := "(II)Z" } : Jvm.MethodName)) ∈ lw_tbl := lw_at lw_m3 70 rfl
theorem q642 : (Jvm.Cond.instanceMethod ({ cls := "HeadReckons", name := "lays", desc := "(II)Z" } : Jvm.MethodName)) ∈ lw_all := lw_g (lw_at lw_m3 71 rfl) rfl
theorem q643 : (Jvm.Cond.code ({ cls := "HeadReckons", name := "lays", desc := "(II)Z" } : Jvm.MethodName) prog_1_method_17_code (3 : Nat) (Option.some Jvm.ClassFile.FieldType.boolean)) ∈ lw_all := lw_g (lw_at lw_m3 72 rfl) rfl
theorem q644 : (Jvm.Cond.methodLink "HeadReckons" (150 : Nat) ({ cls := "HeadReckons$Acts", name := "lay", desc := "(LHeadReckons$Head;III)Z" } : Jvm.MethodName)) ∈ lw_all := lw_g (lw_at lw_m3 73 rfl) rfl
theorem q676 : (Jvm.Cond.static ({ cls := "HeadReckons", name := "sizeOf", desc := "(J)I" } : Jvm.MethodName)) ∈ lw_all := lw_g (lw_at lw_m3 105 rfl) rfl
theorem q677 : (Jvm.Cond.code ({ cls := "HeadReckons", name := "sizeOf", desc := "(J)I" } : Jvm.MethodName) prog_1_method_3_code (5 : Nat) (Option.some Jvm.ClassFile.FieldType.int)) ∈ lw_all := lw_g (lw_at lw_m3 106 rfl) rfl
theorem q678 : (Jvm.Cond.constantLong "HeadReckons" (71 : Nat) (10 : Int64)) ∈ lw_all := lw_g (lw_at lw_m3 107 rfl) rfl
theorem q685 : (Jvm.Cond.static ({ cls := "HeadReckons", name := "tenTo", desc := "(I)J" } : Jvm.MethodName)) ∈ lw_all := lw_g (lw_at lw_m3 114 rfl) rfl
theorem q686 : (Jvm.Cond.code ({ cls := "HeadReckons", name := "tenTo", desc := "(I)J" } : Jvm.MethodName) prog_1_method_4_code (4 : Nat) (Option.some Jvm.ClassFile.FieldType.long)) ∈ lw_all := lw_g (lw_at lw_m3 115 rfl) rfl
theorem q713 : (Jvm.Cond.instanceMethod ({ cls := "HeadReckons", name := "step", desc := "(IIII)I" } : Jvm.MethodName)) ∈ lw_all := lw_g (lw_at lw_m3 142 rfl) rfl
theorem q714 : (Jvm.Cond.selects "HeadReckons" ({ cls := "HeadReckons", name := "step", desc := "(IIII)I" } : Jvm.MethodName) ({ cls := "HeadReckons", name := "step", desc := "(IIII)I" } : Jvm.MethodName)) ∈ lw_all := lw_g (lw_at lw_m3 143 rfl) rfl
theorem q715 : (Jvm.Cond.code ({ cls := "HeadReckons", name := "step", desc := "(IIII)I" } : Jvm.MethodName) prog_1_method_19_code (5 : Nat) (Option.some Jvm.ClassFile.FieldType.int)) ∈ lw_all := lw_g (lw_at lw_m3 144 rfl) rfl
theorem q716 : (Jvm.Cond.constant "HeadReckons" (172 : Nat) (-2000000000 : Int32)) ∈ lw_all := lw_g (lw_at lw_m3 145 rfl) rfl
theorem q718 : (Jvm.Cond.instanceMethod ({ cls := "HeadReckons", name := "chosen", desc := "(II)I" } : Jvm.MethodName)) ∈ lw_all := lw_g (lw_at lw_m3 147 rfl) rfl
theorem q719 : (Jvm.Cond.selects "HeadReckons" ({ cls := "HeadReckons", name := "chosen", desc := "(II)I" } : Jvm.MethodName) ({ cls := "HeadReckons", name := "chosen", desc := "(II)I" } : Jvm.MethodName)) ∈ lw_all := lw_g (lw_at lw_m3 148 rfl) rfl
theorem q720 : (Jvm.Cond.code ({ cls := "HeadReckons", name := "chosen", desc := "(II)I" } : Jvm.MethodName) prog_1_method_23_code (3 : Nat) (Option.some Jvm.ClassFile.FieldType.int)) ∈ lw_all := lw_g (lw_at lw_m3 149 rfl) rfl
theorem q721 : (Jvm.Cond.methodLink "HeadReckons" (207 : Nat) ({ cls := "HeadReckons", name := "chosenOf", desc := "(LHeadReckons$Head;II)I" } : Jvm.MethodName)) ∈ lw_all := lw_g (lw_at lw_m3 150 rfl) rfl
theorem q722 : (Jvm.Cond.privateMethod ({ cls := "HeadReckons", name := "chosenOf", desc := "(LHeadReckons$Head;II)I" } : Jvm.MethodName)) ∈ lw_tbl := lw_at lw_m3 151 rfl
theorem q723 : (Jvm.Cond.instanceMethod ({ cls := "HeadReckons", name := "chosenOf", desc := "(LHeadReckons$Head;II)I" } : Jvm.MethodName)) ∈ lw_all := lw_g (lw_at lw_m3 152 rfl) rfl
theorem q724 : (Jvm.Cond.code ({ cls := "HeadReckons", name := "chosenOf", desc := "(LHeadReckons$Head;II)I" } : Jvm.MethodName) prog_1_method_21_code (5 : Nat) (Option.some Jvm.ClassFile.FieldType.int)) ∈ lw_all := lw_g (lw_at lw_m3 153 rfl) rfl
theorem q725 : (Jvm.Cond.methodLink "HeadReckons" (186 : Nat) ({ cls := "HeadReckons$Facts", name := "clear", desc := "()V" } : Jvm.MethodName)) ∈ lw_all := lw_g (lw_at lw_m3 154 rfl) rfl
theorem q729 : (Jvm.Cond.methodLink "HeadReckons" (192 : Nat) ({ cls := "HeadReckons", name := "sizeOf", desc := "(J)I" } : Jvm.MethodName)) ∈ lw_all := lw_g (lw_at lw_m3 158 rfl) rfl
theorem q730 : (Jvm.Cond.methodLink "HeadReckons" (196 : Nat) ({ cls := "java/lang/Math", name := "abs", desc := "(I)I" } : Jvm.MethodName)) ∈ lw_all := lw_g (lw_at lw_m3 159 rfl) rfl
theorem q733 : (Jvm.Cond.methodLink "HeadReckons" (202 : Nat) ({ cls := "HeadReckons", name := "noughts", desc := "(I)I" } : Jvm.MethodName)) ∈ lw_all := lw_g (lw_at lw_m3 162 rfl) rfl
theorem q734 : (Jvm.Cond.static ({ cls := "HeadReckons", name := "noughts", desc := "(I)I" } : Jvm.MethodName)) ∈ lw_all := lw_g (lw_at lw_m3 163 rfl) rfl
theorem q735 : (Jvm.Cond.code ({ cls := "HeadReckons", name := "noughts", desc := "(I)I" } : Jvm.MethodName) prog_1_method_20_code (3 : Nat) (Option.some Jvm.ClassFile.FieldType.int)) ∈ lw_all := lw_g (lw_at lw_m3 164 rfl) rfl
theorem q736 : (Jvm.Cond.methodLink "HeadReckons" (205 : Nat) ({ cls := "HeadReckons", name := "gives", desc := "()I" } : Jvm.MethodName)) ∈ lw_all := lw_g (lw_at lw_m3 165 rfl) rfl
theorem q737 : (Jvm.Cond.privateMethod ({ cls := "HeadReckons", name := "gives", desc := "()I" } : Jvm.MethodName)) ∈ lw_tbl := lw_at lw_m3 166 rfl
theorem q738 : (Jvm.Cond.instanceMethod ({ cls := "HeadReckons", name := "gives", desc := "()I" } : Jvm.MethodName)) ∈ lw_all := lw_g (lw_at lw_m3 167 rfl) rfl
theorem q739 : (Jvm.Cond.code ({ cls := "HeadReckons", name := "gives", desc := "()I" } : Jvm.MethodName) prog_1_method_14_code (2 : Nat) (Option.some Jvm.ClassFile.FieldType.int)) ∈ lw_all := lw_g (lw_at lw_m3 168 rfl) rfl
theorem q740 : (Jvm.Cond.methodLink "HeadReckons" (138 : Nat) ({ cls := "HeadReckons$Node", name := "value", desc := "(LHeadReckons$Facts;)I" } : Jvm.MethodName)) ∈ lw_all := lw_g (lw_at lw_m3 169 rfl) rfl
theorem q765 : (Jvm.Cond.instanceMethod ({ cls := "HeadReckons", name := "answer", desc := "(III)I" } : Jvm.MethodName)) ∈ lw_all := lw_g (lw_at lw_m3 194 rfl) rfl
theorem q766 : (Jvm.Cond.selects "HeadReckons" ({ cls := "HeadReckons", name := "answer", desc := "(III)I" } : Jvm.MethodName) ({ cls := "HeadReckons", name := "answer", desc := "(III)I" } : Jvm.MethodName)) ∈ lw_all := lw_g (lw_at lw_m3 195 rfl) rfl
theorem q767 : (Jvm.Cond.code ({ cls := "HeadReckons", name := "answer", desc := "(III)I" } : Jvm.MethodName) prog_1_method_24_code (9 : Nat) (Option.some Jvm.ClassFile.FieldType.int)) ∈ lw_all := lw_g (lw_at lw_m3 196 rfl) rfl
theorem q768 : (Jvm.Cond.constant "HeadReckons" (211 : Nat) (1103515245 : Int32)) ∈ lw_all := lw_g (lw_at lw_m3 197 rfl) rfl
theorem q769 : (Jvm.Cond.methodLink "HeadReckons" (212 : Nat) ({ cls := "java/lang/Math", name := "min", desc := "(II)I" } : Jvm.MethodName)) ∈ lw_all := lw_g (lw_at lw_m3 198 rfl) rfl
theorem q770 : (Jvm.Cond.methodLink "HeadReckons" (216 : Nat) ({ cls := "HeadReckons$Acts", name := "slipWays", desc := "(I)I" } : Jvm.MethodName)) ∈ lw_all := lw_g (lw_at lw_m3 199 rfl) rfl
theorem q774 : (Jvm.Cond.methodLink "HeadReckons" (219 : Nat) ({ cls := "HeadReckons$Acts", name := "slip", desc := "(II)J" } : Jvm.MethodName)) ∈ lw_all := lw_g (lw_at lw_m3 203 rfl) rfl
theorem q779 : (Jvm.Cond.instanceMethod ({ cls := "HeadReckons", name := "quickest", desc := "(III)I" } : Jvm.MethodName)) ∈ lw_all := lw_g (lw_at lw_m3 208 rfl) rfl
theorem q780 : (Jvm.Cond.selects "HeadReckons" ({ cls := "HeadReckons", name := "quickest", desc := "(III)I" } : Jvm.MethodName) ({ cls := "HeadReckons", name := "quickest", desc := "(III)I" } : Jvm.MethodName)) ∈ lw_all := lw_g (lw_at lw_m3 209 rfl) rfl
theorem q781 : (Jvm.Cond.code ({ cls := "HeadReckons", name := "quickest", desc := "(III)I" } : Jvm.MethodName) prog_1_method_25_code (7 : Nat) (Option.some Jvm.ClassFile.FieldType.int)) ∈ lw_all := lw_g (lw_at lw_m3 210 rfl) rfl
theorem q783 : (Jvm.Cond.instanceMethod ({ cls := "HeadReckons", name := "table", desc := "(III)I" } : Jvm.MethodName)) ∈ lw_all := lw_g (lw_at lw_m3 212 rfl) rfl
theorem q784 : (Jvm.Cond.selects "HeadReckons" ({ cls := "HeadReckons", name := "table", desc := "(III)I" } : Jvm.MethodName) ({ cls := "HeadReckons", name := "table", desc := "(III)I" } : Jvm.MethodName)) ∈ lw_all := lw_g (lw_at lw_m3 213 rfl) rfl
theorem q785 : (Jvm.Cond.code ({ cls := "HeadReckons", name := "table", desc := "(III)I" } : Jvm.MethodName) prog_1_method_26_code (8 : Nat) (Option.some Jvm.ClassFile.FieldType.int)) ∈ lw_all := lw_g (lw_at lw_m3 214 rfl) rfl
theorem q786 : (Jvm.Cond.methodLink "HeadReckons" (223 : Nat) ({ cls := "HeadReckons", name := "chosenSeconds", desc := "(LHeadReckons$Head;II)I" } : Jvm.MethodName)) ∈ lw_all := lw_g (lw_at lw_m3 215 rfl) rfl
theorem q787 : (Jvm.Cond.privateMethod ({ cls := "HeadReckons", name := "chosenSeconds", desc := "(LHeadReckons$Head;II)I" } : Jvm.MethodName)) ∈ lw_tbl := lw_at lw_m3 216 rfl
theorem q788 : (Jvm.Cond.instanceMethod ({ cls := "HeadReckons", name := "chosenSeconds", desc := "(LHeadReckons$Head;II)I" } : Jvm.MethodName)) ∈ lw_all := lw_g (lw_at lw_m3 217 rfl) rfl
theorem q789 : (Jvm.Cond.code ({ cls := "HeadReckons", name := "chosenSeconds", desc := "(LHeadReckons$Head;II)I" } : Jvm.MethodName) prog_1_method_22_code (4 : Nat) (Option.some Jvm.ClassFile.FieldType.int)) ∈ lw_all := lw_g (lw_at lw_m3 218 rfl) rfl
theorem q791 : (Jvm.Cond.instanceMethod ({ cls := "HeadReckons", name := "see", desc := "(III)I" } : Jvm.MethodName)) ∈ lw_all := lw_g (lw_at lw_m3 220 rfl) rfl
theorem q792 : (Jvm.Cond.selects "HeadReckons" ({ cls := "HeadReckons", name := "see", desc := "(III)I" } : Jvm.MethodName) ({ cls := "HeadReckons", name := "see", desc := "(III)I" } : Jvm.MethodName)) ∈ lw_all := lw_g (lw_at lw_m3 221 rfl) rfl
theorem q793 : (Jvm.Cond.code ({ cls := "HeadReckons", name := "see", desc := "(III)I" } : Jvm.MethodName) prog_1_method_28_code (4 : Nat) (Option.some Jvm.ClassFile.FieldType.int)) ∈ lw_all := lw_g (lw_at lw_m3 222 rfl) rfl
theorem q794 : (Jvm.Cond.methodLink "HeadReckons" (228 : Nat) ({ cls := "HeadReckons", name := "isSeen", desc := "(III)Z" } : Jvm.MethodName)) ∈ lw_all := lw_g (lw_at lw_m3 223 rfl) rfl
theorem q795 : (Jvm.Cond.static ({ cls := "HeadReckons", name := "isSeen", desc := "(III)Z" } : Jvm.MethodName)) ∈ lw_all := lw_g (lw_at lw_m3 224 rfl) rfl
theorem q796 : (Jvm.Cond.code ({ cls := "HeadReckons", name := "isSeen", desc := "(III)Z" } : Jvm.MethodName) prog_1_method_27_code (3 : Nat) (Option.some Jvm.ClassFile.FieldType.boolean)) ∈ lw_all := lw_g (lw_at lw_m3 225 rfl) rfl
theorem q797 : (Jvm.Cond.constant "HeadReckons" (226 : Nat) (-999999999 : Int32)) ∈ lw_all := lw_g (lw_at lw_m3 226 rfl) rfl
theorem q798 : (Jvm.Cond.constant "HeadReckons" (227 : Nat) (999999999 : Int32)) ∈ lw_all := lw_g (lw_at lw_m3 227 rfl) rfl
theorem q800 : (Jvm.Cond.methodLink "HeadReckons" (234 : Nat) ({ cls := "HeadReckons$Seen", name := "<init>", desc := "(III)V" } : Jvm.MethodName)) ∈ lw_all := lw_g (lw_at lw_m3 229 rfl) rfl
theorem q805 : (Jvm.Cond.fieldLinkNest "HeadReckons" (259 : Nat) "HeadReckons$Seen" "a" "I" "HeadReckons") ∈ lw_tbl := lw_at lw_m3 234 rfl
theorem q807 : (Jvm.Cond.fieldLinkNest "HeadReckons" (262 : Nat) "HeadReckons$Seen" "b" "I" "HeadReckons") ∈ lw_tbl := lw_at lw_m3 236 rfl
theorem q809 : (Jvm.Cond.fieldLinkNest "HeadReckons" (265 : Nat) "HeadReckons$Seen" "tenths" "I" "HeadReckons") ∈ lw_tbl := lw_at lw_m3 238 rfl
theorem q821 : (Jvm.Cond.instanceMethod ({ cls := "HeadReckons", name := "asks", desc := "(III)I" } : Jvm.MethodName)) ∈ lw_all := lw_g (lw_at lw_m4 10 rfl) rfl
theorem q822 : (Jvm.Cond.selects "HeadReckons" ({ cls := "HeadReckons", name := "asks", desc := "(III)I" } : Jvm.MethodName) ({ cls := "HeadReckons", name := "asks", desc := "(III)I" } : Jvm.MethodName)) ∈ lw_all := lw_g (lw_at lw_m4 11 rfl) rfl
theorem q823 : (Jvm.Cond.codeWith ({ cls := "HeadReckons", name := "asks", desc := "(III)I" } : Jvm.MethodName) prog_1_method_29_code (12 : Nat) (Option.some Jvm.ClassFile.FieldType.int) [((22 : Nat), (142 : Nat), (155 : Nat), (250 : Nat)), ((143 : Nat), (152 : Nat), (155 : Nat), (250 : Nat)), ((22 : Nat), (142 : Nat), (160 : Nat), (252 : Nat)), ((143 : Nat), (152 : Nat), (160 : Nat), (252 : Nat)), ((22 : Nat), (142 : Nat), (165 : Nat), (254 : Nat)), ((143 : Nat), (152 : Nat), (165 : Nat), (254 : Nat))]) ∈ lw_all := lw_g (lw_at lw_m4 12 rfl) rfl
theorem q824 : (Jvm.Cond.classLink "HeadReckons" (250 : Nat) "java/lang/ClassCastException") ∈ lw_all := lw_g (lw_at lw_m4 13 rfl) rfl
theorem q908 : (Jvm.Cond.classLink "HeadReckons" (252 : Nat) "java/lang/NullPointerException") ∈ lw_all := lw_g (lw_at lw_m4 97 rfl) rfl
theorem q933 : (Jvm.Cond.classLink "HeadReckons" (254 : Nat) "java/lang/IndexOutOfBoundsException") ∈ lw_all := lw_g (lw_at lw_m4 122 rfl) rfl
theorem q952 : (Jvm.Cond.methodLink "HeadReckons" (237 : Nat) ({ cls := "HeadReckons", name := "isShelf", desc := "(I)Z" } : Jvm.MethodName)) ∈ lw_all := lw_g (lw_at lw_m4 141 rfl) rfl
theorem q953 : (Jvm.Cond.static ({ cls := "HeadReckons", name := "isShelf", desc := "(I)Z" } : Jvm.MethodName)) ∈ lw_all := lw_g (lw_at lw_m4 142 rfl) rfl
theorem q954 : (Jvm.Cond.code ({ cls := "HeadReckons", name := "isShelf", desc := "(I)Z" } : Jvm.MethodName) prog_1_method_62_code (1 : Nat) (Option.some Jvm.ClassFile.FieldType.boolean)) ∈ lw_all := lw_g (lw_at lw_m4 143 rfl) rfl
theorem q955 : (Jvm.Cond.classLink "HeadReckons" (240 : Nat) "HeadReckons$IntRow") ∈ lw_all := lw_g (lw_at lw_m4 144 rfl) rfl
theorem q956 : (Jvm.Cond.methodLink "HeadReckons" (242 : Nat) ({ cls := "HeadReckons$IntRow", name := "at", desc := "(I)J" } : Jvm.MethodName)) ∈ lw_all := lw_g (lw_at lw_m4 145 rfl) rfl
theorem q960 : (Jvm.Cond.methodLink "HeadReckons" (246 : Nat) ({ cls := "HeadReckons", name := "see", desc := "(III)I" } : Jvm.MethodName)) ∈ lw_all := lw_g (lw_at lw_m4 149 rfl) rfl
theorem q962 : (Jvm.Cond.instanceMethod ({ cls := "HeadReckons", name := "seen", desc := "(II)I" } : Jvm.MethodName)) ∈ lw_all := lw_g (lw_at lw_m4 151 rfl) rfl
theorem q963 : (Jvm.Cond.selects "HeadReckons" ({ cls := "HeadReckons", name := "seen", desc := "(II)I" } : Jvm.MethodName) ({ cls := "HeadReckons", name := "seen", desc := "(II)I" } : Jvm.MethodName)) ∈ lw_all := lw_g (lw_at lw_m4 152 rfl) rfl
theorem q964 : (Jvm.Cond.code ({ cls := "HeadReckons", name := "seen", desc := "(II)I" } : Jvm.MethodName) prog_1_method_31_code (4 : Nat) (Option.some Jvm.ClassFile.FieldType.int)) ∈ lw_all := lw_g (lw_at lw_m4 153 rfl) rfl
theorem q965 : (Jvm.Cond.methodLink "HeadReckons" (256 : Nat) ({ cls := "HeadReckons", name := "isAsk", desc := "(I)Z" } : Jvm.MethodName)) ∈ lw_all := lw_g (lw_at lw_m4 154 rfl) rfl
theorem q966 : (Jvm.Cond.privateMethod ({ cls := "HeadReckons", name := "isAsk", desc := "(I)Z" } : Jvm.MethodName)) ∈ lw_tbl := lw_at lw_m4 155 rfl
theorem q967 : (Jvm.Cond.instanceMethod ({ cls := "HeadReckons", name := "isAsk", desc := "(I)Z" } : Jvm.MethodName)) ∈ lw_all := lw_g (lw_at lw_m4 156 rfl) rfl
theorem q968 : (Jvm.Cond.code ({ cls := "HeadReckons", name := "isAsk", desc := "(I)Z" } : Jvm.MethodName) prog_1_method_30_code (2 : Nat) (Option.some Jvm.ClassFile.FieldType.boolean)) ∈ lw_all := lw_g (lw_at lw_m4 157 rfl) rfl
theorem q969 : (Jvm.Cond.methodLink "HeadReckons" (268 : Nat) ({ cls := "HeadReckons$Seen", name := "off", desc := "()J" } : Jvm.MethodName)) ∈ lw_all := lw_g (lw_at lw_m4 158 rfl) rfl
theorem q974 : (Jvm.Cond.instanceMethod ({ cls := "HeadReckons", name := "fits", desc := "(II)I" } : Jvm.MethodName)) ∈ lw_all := lw_g (lw_at lw_m4 163 rfl) rfl
theorem q975 : (Jvm.Cond.selects "HeadReckons" ({ cls := "HeadReckons", name := "fits", desc := "(II)I" } : Jvm.MethodName) ({ cls := "HeadReckons", name := "fits", desc := "(II)I" } : Jvm.MethodName)) ∈ lw_all := lw_g (lw_at lw_m4 164 rfl) rfl
theorem q976 : (Jvm.Cond.code ({ cls := "HeadReckons", name := "fits", desc := "(II)I" } : Jvm.MethodName) prog_1_method_34_code (5 : Nat) (Option.some Jvm.ClassFile.FieldType.int)) ∈ lw_all := lw_g (lw_at lw_m4 165 rfl) rfl
theorem q977 : (Jvm.Cond.methodLink "HeadReckons" (280 : Nat) ({ cls := "HeadReckons", name := "doesFit", desc := "(LHeadReckons$Head;II)Z" } : Jvm.MethodName)) ∈ lw_all := lw_g (lw_at lw_m4 166 rfl) rfl
theorem q978 : (Jvm.Cond.privateMethod ({ cls := "HeadReckons", name := "doesFit", desc := "(LHeadReckons$Head;II)Z" } : Jvm.MethodName)) ∈ lw_tbl := lw_at lw_m4 167 rfl
theorem q979 : (Jvm.Cond.instanceMethod ({ cls := "HeadReckons", name := "doesFit", desc := "(LHeadReckons$Head;II)Z" } : Jvm.MethodName)) ∈ lw_all := lw_g (lw_at lw_m4 168 rfl) rfl
theorem q980 : (Jvm.Cond.code ({ cls := "HeadReckons", name := "doesFit", desc := "(LHeadReckons$Head;II)Z" } : Jvm.MethodName) prog_1_method_33_code (5 : Nat) (Option.some Jvm.ClassFile.FieldType.boolean)) ∈ lw_all := lw_g (lw_at lw_m4 169 rfl) rfl
theorem q981 : (Jvm.Cond.methodLink "HeadReckons" (276 : Nat) ({ cls := "HeadReckons", name := "isBySlip", desc := "(J)Z" } : Jvm.MethodName)) ∈ lw_all := lw_g (lw_at lw_m4 170 rfl) rfl
theorem q982 : (Jvm.Cond.privateMethod ({ cls := "HeadReckons", name := "isBySlip", desc := "(J)Z" } : Jvm.MethodName)) ∈ lw_tbl := lw_at lw_m4 171 rfl
theorem q983 : (Jvm.Cond.instanceMethod ({ cls := "HeadReckons", name := "isBySlip", desc := "(J)Z" } : Jvm.MethodName)) ∈ lw_all := lw_g (lw_at lw_m4 172 rfl) rfl
theorem q984 : (Jvm.Cond.code ({ cls := "HeadReckons", name := "isBySlip", desc := "(J)Z" } : Jvm.MethodName) prog_1_method_32_code (4 : Nat) (Option.some Jvm.ClassFile.FieldType.boolean)) ∈ lw_all := lw_g (lw_at lw_m4 173 rfl) rfl
theorem q985 : (Jvm.Cond.methodLink "HeadReckons" (272 : Nat) ({ cls := "HeadReckons$Acts", name := "canSlip", desc := "(IJ)Z" } : Jvm.MethodName)) ∈ lw_all := lw_g (lw_at lw_m4 174 rfl) rfl
theorem q992 : (Jvm.Cond.instanceMethod ({ cls := "HeadReckons", name := "best", desc := "(II)I" } : Jvm.MethodName)) ∈ lw_all := lw_g (lw_at lw_m4 181 rfl) rfl
theorem q993 : (Jvm.Cond.selects "HeadReckons" ({ cls := "HeadReckons", name := "best", desc := "(II)I" } : Jvm.MethodName) ({ cls := "HeadReckons", name := "best", desc := "(II)I" } : Jvm.MethodName)) ∈ lw_all := lw_g (lw_at lw_m4 182 rfl) rfl
theorem q994 : (Jvm.Cond.code ({ cls := "HeadReckons", name := "best", desc := "(II)I" } : Jvm.MethodName) prog_1_method_36_code (7 : Nat) (Option.some Jvm.ClassFile.FieldType.int)) ∈ lw_all := lw_g (lw_at lw_m4 183 rfl) rfl
theorem q995 : (Jvm.Cond.methodLink "HeadReckons" (284 : Nat) ({ cls := "HeadReckons", name := "differs", desc := "(LHeadReckons$Head;I)I" } : Jvm.MethodName)) ∈ lw_all := lw_g (lw_at lw_m4 184 rfl) rfl
theorem q996 : (Jvm.Cond.privateMethod ({ cls := "HeadReckons", name := "differs", desc := "(LHeadReckons$Head;I)I" } : Jvm.MethodName)) ∈ lw_tbl := lw_at lw_m4 185 rfl
theorem q997 : (Jvm.Cond.instanceMethod ({ cls := "HeadReckons", name := "differs", desc := "(LHeadReckons$Head;I)I" } : Jvm.MethodName)) ∈ lw_all := lw_g (lw_at lw_m4 186 rfl) rfl
theorem q998 : (Jvm.Cond.code ({ cls := "HeadReckons", name := "differs", desc := "(LHeadReckons$Head;I)I" } : Jvm.MethodName) prog_1_method_35_code (6 : Nat) (Option.some Jvm.ClassFile.FieldType.int)) ∈ lw_all := lw_g (lw_at lw_m4 187 rfl) rfl
theorem q1000 : (Jvm.Cond.instanceMethod ({ cls := "HeadReckons", name := "slip", desc := "(III)I" } : Jvm.MethodName)) ∈ lw_all := lw_g (lw_at lw_m4 189 rfl) rfl
theorem q1001 : (Jvm.Cond.selects "HeadReckons" ({ cls := "HeadReckons", name := "slip", desc := "(III)I" } : Jvm.MethodName) ({ cls := "HeadReckons", name := "slip", desc := "(III)I" } : Jvm.MethodName)) ∈ lw_all := lw_g (lw_at lw_m4 190 rfl) rfl
theorem q1002 : (Jvm.Cond.code ({ cls := "HeadReckons", name := "slip", desc := "(III)I" } : Jvm.MethodName) prog_1_method_37_code (8 : Nat) (Option.some Jvm.ClassFile.FieldType.int)) ∈ lw_all := lw_g (lw_at lw_m4 191 rfl) rfl
theorem q1004 : (Jvm.Cond.instanceMethod ({ cls := "HeadReckons", name := "suits", desc := "(I)I" } : Jvm.MethodName)) ∈ lw_all := lw_g (lw_at lw_m4 193 rfl) rfl
theorem q1005 : (Jvm.Cond.selects "HeadReckons" ({ cls := "HeadReckons", name := "suits", desc := "(I)I" } : Jvm.MethodName) ({ cls := "HeadReckons", name := "suits", desc := "(I)I" } : Jvm.MethodName)) ∈ lw_all := lw_g (lw_at lw_m4 194 rfl) rfl
theorem q1006 : (Jvm.Cond.code ({ cls := "HeadReckons", name := "suits", desc := "(I)I" } : Jvm.MethodName) prog_1_method_38_code (5 : Nat) (Option.some Jvm.ClassFile.FieldType.int)) ∈ lw_all := lw_g (lw_at lw_m4 195 rfl) rfl
theorem q1008 : (Jvm.Cond.instanceMethod ({ cls := "HeadReckons", name := "tell", desc := "(I)I" } : Jvm.MethodName)) ∈ lw_all := lw_g (lw_at lw_m4 197 rfl) rfl
theorem q1009 : (Jvm.Cond.selects "HeadReckons" ({ cls := "HeadReckons", name := "tell", desc := "(I)I" } : Jvm.MethodName) ({ cls := "HeadReckons", name := "tell", desc := "(I)I" } : Jvm.MethodName)) ∈ lw_all := lw_g (lw_at lw_m4 198 rfl) rfl
theorem q1010 : (Jvm.Cond.code ({ cls := "HeadReckons", name := "tell", desc := "(I)I" } : Jvm.MethodName) prog_1_method_39_code (2 : Nat) (Option.some Jvm.ClassFile.FieldType.int)) ∈ lw_all := lw_g (lw_at lw_m4 199 rfl) rfl
theorem q1012 : (Jvm.Cond.instanceMethod ({ cls := "HeadReckons", name := "untell", desc := "()I" } : Jvm.MethodName)) ∈ lw_all := lw_g (lw_at lw_m4 201 rfl) rfl
theorem q1013 : (Jvm.Cond.selects "HeadReckons" ({ cls := "HeadReckons", name := "untell", desc := "()I" } : Jvm.MethodName) ({ cls := "HeadReckons", name := "untell", desc := "()I" } : Jvm.MethodName)) ∈ lw_all := lw_g (lw_at lw_m4 202 rfl) rfl
theorem q1014 : (Jvm.Cond.code ({ cls := "HeadReckons", name := "untell", desc := "()I" } : Jvm.MethodName) prog_1_method_40_code (2 : Nat) (Option.some Jvm.ClassFile.FieldType.int)) ∈ lw_all := lw_g (lw_at lw_m4 203 rfl) rfl
theorem q1016 : (Jvm.Cond.instanceMethod ({ cls := "HeadReckons", name := "parts", desc := "(III)I" } : Jvm.MethodName)) ∈ lw_all := lw_g (lw_at lw_m4 205 rfl) rfl
theorem q1017 : (Jvm.Cond.selects "HeadReckons" ({ cls := "HeadReckons", name := "parts", desc := "(III)I" } : Jvm.MethodName) ({ cls := "HeadReckons", name := "parts", desc := "(III)I" } : Jvm.MethodName)) ∈ lw_all := lw_g (lw_at lw_m4 206 rfl) rfl
theorem q1018 : (Jvm.Cond.code ({ cls := "HeadReckons", name := "parts", desc := "(III)I" } : Jvm.MethodName) prog_1_method_41_code (10 : Nat) (Option.some Jvm.ClassFile.FieldType.int)) ∈ lw_all := lw_g (lw_at lw_m4 207 rfl) rfl
theorem q1019 : (Jvm.Cond.methodLink "HeadReckons" (291 : Nat) ({ cls := "java/lang/Math", name := "max", desc := "(II)I" } : Jvm.MethodName)) ∈ lw_all := lw_g (lw_at lw_m4 208 rfl) rfl
theorem q1021 : (Jvm.Cond.instanceMethod ({ cls := "HeadReckons", name := "ask", desc := "(II)I" } : Jvm.MethodName)) ∈ lw_all := lw_g (lw_at lw_m4 210 rfl) rfl
theorem q1022 : (Jvm.Cond.selects "HeadReckons" ({ cls := "HeadReckons", name := "ask", desc := "(II)I" } : Jvm.MethodName) ({ cls := "HeadReckons", name := "ask", desc := "(II)I" } : Jvm.MethodName)) ∈ lw_all := lw_g (lw_at lw_m4 211 rfl) rfl
theorem q1023 : (Jvm.Cond.code ({ cls := "HeadReckons", name := "ask", desc := "(II)I" } : Jvm.MethodName) prog_1_method_43_code (3 : Nat) (Option.some Jvm.ClassFile.FieldType.int)) ∈ lw_all := lw_g (lw_at lw_m4 212 rfl) rfl
theorem q1024 : (Jvm.Cond.methodLink "HeadReckons" (294 : Nat) ({ cls := "HeadReckons", name := "isSmall", desc := "(I)Z" } : Jvm.MethodName)) ∈ lw_all := lw_g (lw_at lw_m4 213 rfl) rfl
theorem q1025 : (Jvm.Cond.static ({ cls := "HeadReckons", name := "isSmall", desc := "(I)Z" } : Jvm.MethodName)) ∈ lw_all := lw_g (lw_at lw_m4 214 rfl) rfl
theorem q1026 : (Jvm.Cond.code ({ cls := "HeadReckons", name := "isSmall", desc := "(I)Z" } : Jvm.MethodName) prog_1_method_42_code (1 : Nat) (Option.some Jvm.ClassFile.FieldType.boolean)) ∈ lw_all := lw_g (lw_at lw_m4 215 rfl) rfl
theorem q1027 : (Jvm.Cond.methodLink "HeadReckons" (297 : Nat) ({ cls := "HeadReckons$Head", name := "ask", desc := "(II)I" } : Jvm.MethodName)) ∈ lw_all := lw_g (lw_at lw_m4 216 rfl) rfl
theorem q1058 : (Jvm.Cond.instanceMethod ({ cls := "HeadReckons", name := "taught", desc := "(III)I" } : Jvm.MethodName)) ∈ lw_all := lw_g (lw_at lw_m5 7 rfl) rfl
theorem q1059 : (Jvm.Cond.selects "HeadReckons" ({ cls := "HeadReckons", name := "taught", desc := "(III)I" } : Jvm.MethodName) ({ cls := "HeadReckons", name := "taught", desc := "(III)I" } : Jvm.MethodName)) ∈ lw_all := lw_g (lw_at lw_m5 8 rfl) rfl
theorem q1060 : (Jvm.Cond.code ({ cls := "HeadReckons", name := "taught", desc := "(III)I" } : Jvm.MethodName) prog_1_method_46_code (6 : Nat) (Option.some Jvm.ClassFile.FieldType.int)) ∈ lw_all := lw_g (lw_at lw_m5 9 rfl) rfl
theorem q1061 : (Jvm.Cond.methodLink "HeadReckons" (300 : Nat) ({ cls := "HeadReckons", name := "canTeach", desc := "()Z" } : Jvm.MethodName)) ∈ lw_all := lw_g (lw_at lw_m5 10 rfl) rfl
theorem q1062 : (Jvm.Cond.privateMethod ({ cls := "HeadReckons", name := "canTeach", desc := "()Z" } : Jvm.MethodName)) ∈ lw_tbl := lw_at lw_m5 11 rfl
theorem q1063 : (Jvm.Cond.instanceMethod ({ cls := "HeadReckons", name := "canTeach", desc := "()Z" } : Jvm.MethodName)) ∈ lw_all := lw_g (lw_at lw_m5 12 rfl) rfl
theorem q1064 : (Jvm.Cond.code ({ cls := "HeadReckons", name := "canTeach", desc := "()Z" } : Jvm.MethodName) prog_1_method_45_code (2 : Nat) (Option.some Jvm.ClassFile.FieldType.boolean)) ∈ lw_all := lw_g (lw_at lw_m5 13 rfl) rfl
theorem q1065 : (Jvm.Cond.methodLink "HeadReckons" (304 : Nat) ({ cls := "HeadReckons$Head", name := "copy", desc := "(LHeadReckons$Head;)V" } : Jvm.MethodName)) ∈ lw_all := lw_g (lw_at lw_m5 14 rfl) rfl
theorem q1069 : (Jvm.Cond.methodLink "HeadReckons" (308 : Nat) ({ cls := "HeadReckons", name := "teach", desc := "(I)I" } : Jvm.MethodName)) ∈ lw_all := lw_g (lw_at lw_m5 18 rfl) rfl
theorem q1070 : (Jvm.Cond.privateMethod ({ cls := "HeadReckons", name := "teach", desc := "(I)I" } : Jvm.MethodName)) ∈ lw_tbl := lw_at lw_m5 19 rfl
theorem q1071 : (Jvm.Cond.instanceMethod ({ cls := "HeadReckons", name := "teach", desc := "(I)I" } : Jvm.MethodName)) ∈ lw_all := lw_g (lw_at lw_m5 20 rfl) rfl
theorem q1072 : (Jvm.Cond.code ({ cls := "HeadReckons", name := "teach", desc := "(I)I" } : Jvm.MethodName) prog_1_method_44_code (3 : Nat) (Option.some Jvm.ClassFile.FieldType.int)) ∈ lw_all := lw_g (lw_at lw_m5 21 rfl) rfl
theorem q1074 : (Jvm.Cond.instanceMethod ({ cls := "HeadReckons", name := "first", desc := "(II)I" } : Jvm.MethodName)) ∈ lw_all := lw_g (lw_at lw_m5 23 rfl) rfl
theorem q1075 : (Jvm.Cond.selects "HeadReckons" ({ cls := "HeadReckons", name := "first", desc := "(II)I" } : Jvm.MethodName) ({ cls := "HeadReckons", name := "first", desc := "(II)I" } : Jvm.MethodName)) ∈ lw_all := lw_g (lw_at lw_m5 24 rfl) rfl
theorem q1076 : (Jvm.Cond.code ({ cls := "HeadReckons", name := "first", desc := "(II)I" } : Jvm.MethodName) prog_1_method_48_code (3 : Nat) (Option.some Jvm.ClassFile.FieldType.int)) ∈ lw_all := lw_g (lw_at lw_m5 25 rfl) rfl
theorem q1077 : (Jvm.Cond.methodLink "HeadReckons" (317 : Nat) ({ cls := "HeadReckons", name := "orders", desc := "(LHeadReckons$Head;[III)V" } : Jvm.MethodName)) ∈ lw_all := lw_g (lw_at lw_m5 26 rfl) rfl
theorem q1078 : (Jvm.Cond.privateMethod ({ cls := "HeadReckons", name := "orders", desc := "(LHeadReckons$Head;[III)V" } : Jvm.MethodName)) ∈ lw_tbl := lw_at lw_m5 27 rfl
theorem q1079 : (Jvm.Cond.instanceMethod ({ cls := "HeadReckons", name := "orders", desc := "(LHeadReckons$Head;[III)V" } : Jvm.MethodName)) ∈ lw_all := lw_g (lw_at lw_m5 28 rfl) rfl
theorem q1080 : (Jvm.Cond.code ({ cls := "HeadReckons", name := "orders", desc := "(LHeadReckons$Head;[III)V" } : Jvm.MethodName) prog_1_method_47_code (9 : Nat) (Option.none : Option Jvm.ClassFile.FieldType)) ∈ lw_all := lw_g (lw_at lw_m5 29 rfl) rfl
theorem q1082 : (Jvm.Cond.instanceMethod ({ cls := "HeadReckons", name := "root", desc := "(JI)I" } : Jvm.MethodName)) ∈ lw_all := lw_g (lw_at lw_m5 31 rfl) rfl
theorem q1083 : (Jvm.Cond.selects "HeadReckons" ({ cls := "HeadReckons", name := "root", desc := "(JI)I" } : Jvm.MethodName) ({ cls := "HeadReckons", name := "root", desc := "(JI)I" } : Jvm.MethodName)) ∈ lw_all := lw_g (lw_at lw_m5 32 rfl) rfl
theorem q1084 : (Jvm.Cond.code ({ cls := "HeadReckons", name := "root", desc := "(JI)I" } : Jvm.MethodName) prog_1_method_54_code (6 : Nat) (Option.some Jvm.ClassFile.FieldType.int)) ∈ lw_all := lw_g (lw_at lw_m5 33 rfl) rfl
theorem q1085 : (Jvm.Cond.methodLink "HeadReckons" (331 : Nat) ({ cls := "HeadReckons", name := "isNumber", desc := "(J)Z" } : Jvm.MethodName)) ∈ lw_all := lw_g (lw_at lw_m5 34 rfl) rfl
theorem q1086 : (Jvm.Cond.static ({ cls := "HeadReckons", name := "isNumber", desc := "(J)Z" } : Jvm.MethodName)) ∈ lw_all := lw_g (lw_at lw_m5 35 rfl) rfl
theorem q1087 : (Jvm.Cond.code ({ cls := "HeadReckons", name := "isNumber", desc := "(J)Z" } : Jvm.MethodName) prog_1_method_50_code (2 : Nat) (Option.some Jvm.ClassFile.FieldType.boolean)) ∈ lw_all := lw_g (lw_at lw_m5 36 rfl) rfl
theorem q1088 : (Jvm.Cond.constantLong "HeadReckons" (321 : Nat) (999999999999999999 : Int64)) ∈ lw_all := lw_g (lw_at lw_m5 37 rfl) rfl
theorem q1089 : (Jvm.Cond.methodLink "HeadReckons" (334 : Nat) ({ cls := "HeadReckons", name := "isPower", desc := "(I)Z" } : Jvm.MethodName)) ∈ lw_all := lw_g (lw_at lw_m5 38 rfl) rfl
theorem q1090 : (Jvm.Cond.static ({ cls := "HeadReckons", name := "isPower", desc := "(I)Z" } : Jvm.MethodName)) ∈ lw_all := lw_g (lw_at lw_m5 39 rfl) rfl
theorem q1091 : (Jvm.Cond.code ({ cls := "HeadReckons", name := "isPower", desc := "(I)Z" } : Jvm.MethodName) prog_1_method_49_code (1 : Nat) (Option.some Jvm.ClassFile.FieldType.boolean)) ∈ lw_all := lw_g (lw_at lw_m5 40 rfl) rfl
theorem q1092 : (Jvm.Cond.methodLink "HeadReckons" (337 : Nat) ({ cls := "HeadReckons", name := "rootOf", desc := "(JI)J" } : Jvm.MethodName)) ∈ lw_all := lw_g (lw_at lw_m5 41 rfl) rfl
theorem q1093 : (Jvm.Cond.static ({ cls := "HeadReckons", name := "rootOf", desc := "(JI)J" } : Jvm.MethodName)) ∈ lw_all := lw_g (lw_at lw_m5 42 rfl) rfl
theorem q1094 : (Jvm.Cond.code ({ cls := "HeadReckons", name := "rootOf", desc := "(JI)J" } : Jvm.MethodName) prog_1_method_52_code (9 : Nat) (Option.some Jvm.ClassFile.FieldType.long)) ∈ lw_all := lw_g (lw_at lw_m5 43 rfl) rfl
theorem q1095 : (Jvm.Cond.constantLong "HeadReckons" (323 : Nat) (1000000001 : Int64)) ∈ lw_all := lw_g (lw_at lw_m5 44 rfl) rfl
theorem q1096 : (Jvm.Cond.constantLong "HeadReckons" (325 : Nat) (2 : Int64)) ∈ lw_all := lw_g (lw_at lw_m5 45 rfl) rfl
theorem q1097 : (Jvm.Cond.methodLink "HeadReckons" (327 : Nat) ({ cls := "HeadReckons", name := "isAbove", desc := "(JIJ)Z" } : Jvm.MethodName)) ∈ lw_all := lw_g (lw_at lw_m5 46 rfl) rfl
theorem q1098 : (Jvm.Cond.static ({ cls := "HeadReckons", name := "isAbove", desc := "(JIJ)Z" } : Jvm.MethodName)) ∈ lw_all := lw_g (lw_at lw_m5 47 rfl) rfl
theorem q1099 : (Jvm.Cond.code ({ cls := "HeadReckons", name := "isAbove", desc := "(JIJ)Z" } : Jvm.MethodName) prog_1_method_51_code (8 : Nat) (Option.some Jvm.ClassFile.FieldType.boolean)) ∈ lw_all := lw_g (lw_at lw_m5 48 rfl) rfl
theorem q1100 : (Jvm.Cond.methodLink "HeadReckons" (341 : Nat) ({ cls := "HeadReckons", name := "raise", desc := "(JI)J" } : Jvm.MethodName)) ∈ lw_all := lw_g (lw_at lw_m5 49 rfl) rfl
theorem q1101 : (Jvm.Cond.static ({ cls := "HeadReckons", name := "raise", desc := "(JI)J" } : Jvm.MethodName)) ∈ lw_all := lw_g (lw_at lw_m5 50 rfl) rfl
theorem q1102 : (Jvm.Cond.code ({ cls := "HeadReckons", name := "raise", desc := "(JI)J" } : Jvm.MethodName) prog_1_method_53_code (6 : Nat) (Option.some Jvm.ClassFile.FieldType.long)) ∈ lw_all := lw_g (lw_at lw_m5 51 rfl) rfl
theorem q1104 : (Jvm.Cond.instanceMethod ({ cls := "HeadReckons", name := "firsts", desc := "(JII)I" } : Jvm.MethodName)) ∈ lw_all := lw_g (lw_at lw_m5 53 rfl) rfl
theorem q1105 : (Jvm.Cond.selects "HeadReckons" ({ cls := "HeadReckons", name := "firsts", desc := "(JII)I" } : Jvm.MethodName) ({ cls := "HeadReckons", name := "firsts", desc := "(JII)I" } : Jvm.MethodName)) ∈ lw_all := lw_g (lw_at lw_m5 54 rfl) rfl
theorem q1106 : (Jvm.Cond.code ({ cls := "HeadReckons", name := "firsts", desc := "(JII)I" } : Jvm.MethodName) prog_1_method_56_code (7 : Nat) (Option.some Jvm.ClassFile.FieldType.int)) ∈ lw_all := lw_g (lw_at lw_m5 55 rfl) rfl
theorem q1107 : (Jvm.Cond.methodLink "HeadReckons" (355 : Nat) ({ cls := "HeadReckons", name := "rootsBy", desc := "(JII)J" } : Jvm.MethodName)) ∈ lw_all := lw_g (lw_at lw_m5 56 rfl) rfl
theorem q1108 : (Jvm.Cond.privateMethod ({ cls := "HeadReckons", name := "rootsBy", desc := "(JII)J" } : Jvm.MethodName)) ∈ lw_tbl := lw_at lw_m5 57 rfl
theorem q1109 : (Jvm.Cond.instanceMethod ({ cls := "HeadReckons", name := "rootsBy", desc := "(JII)J" } : Jvm.MethodName)) ∈ lw_all := lw_g (lw_at lw_m5 58 rfl) rfl
theorem q1110 : (Jvm.Cond.code ({ cls := "HeadReckons", name := "rootsBy", desc := "(JII)J" } : Jvm.MethodName) prog_1_method_55_code (19 : Nat) (Option.some Jvm.ClassFile.FieldType.long)) ∈ lw_all := lw_g (lw_at lw_m5 59 rfl) rfl
theorem q1111 : (Jvm.Cond.methodLink "HeadReckons" (344 : Nat) ({ cls := "HeadReckons", name := "tenTo", desc := "(I)J" } : Jvm.MethodName)) ∈ lw_all := lw_g (lw_at lw_m5 60 rfl) rfl
theorem q1112 : (Jvm.Cond.methodLink "HeadReckons" (351 : Nat) ({ cls := "java/lang/Math", name := "floorMod", desc := "(JJ)J" } : Jvm.MethodName)) ∈ lw_all := lw_g (lw_at lw_m5 61 rfl) rfl
theorem q1116 : (Jvm.Cond.instanceMethod ({ cls := "HeadReckons", name := "enough", desc := "(JI)I" } : Jvm.MethodName)) ∈ lw_all := lw_g (lw_at lw_m5 65 rfl) rfl
theorem q1117 : (Jvm.Cond.selects "HeadReckons" ({ cls := "HeadReckons", name := "enough", desc := "(JI)I" } : Jvm.MethodName) ({ cls := "HeadReckons", name := "enough", desc := "(JI)I" } : Jvm.MethodName)) ∈ lw_all := lw_g (lw_at lw_m5 66 rfl) rfl
theorem q1118 : (Jvm.Cond.code ({ cls := "HeadReckons", name := "enough", desc := "(JI)I" } : Jvm.MethodName) prog_1_method_57_code (5 : Nat) (Option.some Jvm.ClassFile.FieldType.int)) ∈ lw_all := lw_g (lw_at lw_m5 67 rfl) rfl
theorem q1120 : (Jvm.Cond.instanceMethod ({ cls := "HeadReckons", name := "body", desc := "(I)I" } : Jvm.MethodName)) ∈ lw_all := lw_g (lw_at lw_m5 69 rfl) rfl
theorem q1121 : (Jvm.Cond.selects "HeadReckons" ({ cls := "HeadReckons", name := "body", desc := "(I)I" } : Jvm.MethodName) ({ cls := "HeadReckons", name := "body", desc := "(I)I" } : Jvm.MethodName)) ∈ lw_all := lw_g (lw_at lw_m5 70 rfl) rfl
theorem q1122 : (Jvm.Cond.code ({ cls := "HeadReckons", name := "body", desc := "(I)I" } : Jvm.MethodName) prog_1_method_61_code (2 : Nat) (Option.some Jvm.ClassFile.FieldType.int)) ∈ lw_all := lw_g (lw_at lw_m5 71 rfl) rfl
theorem q1123 : (Jvm.Cond.methodLink "HeadReckons" (389 : Nat) ({ cls := "HeadReckons", name := "made", desc := "(I)LHeadReckons$Way;" } : Jvm.MethodName)) ∈ lw_all := lw_g (lw_at lw_m5 72 rfl) rfl
theorem q1124 : (Jvm.Cond.privateMethod ({ cls := "HeadReckons", name := "made", desc := "(I)LHeadReckons$Way;" } : Jvm.MethodName)) ∈ lw_tbl := lw_at lw_m5 73 rfl
theorem q1125 : (Jvm.Cond.instanceMethod ({ cls := "HeadReckons", name := "made", desc := "(I)LHeadReckons$Way;" } : Jvm.MethodName)) ∈ lw_all := lw_g (lw_at lw_m5 74 rfl) rfl
theorem q1126 : (Jvm.Cond.code ({ cls := "HeadReckons", name := "made", desc := "(I)LHeadReckons$Way;" } : Jvm.MethodName) prog_1_method_60_code (2 : Nat) (Option.some (Jvm.ClassFile.FieldType.object "HeadReckons$Way"))) ∈ lw_all := lw_g (lw_at lw_m5 75 rfl) rfl
theorem q1127 : (Jvm.Cond.classLink "HeadReckons" (365 : Nat) "HeadReckons$FromLeft") ∈ lw_all := lw_g (lw_at lw_m5 76 rfl) rfl
theorem q1129 : (Jvm.Cond.methodLink "HeadReckons" (367 : Nat) ({ cls := "HeadReckons$FromLeft", name := "<init>", desc := "(LHeadReckons;I)V" } : Jvm.MethodName)) ∈ lw_all := lw_g (lw_at lw_m5 78 rfl) rfl
theorem q1149 : (Jvm.Cond.classLink "HeadReckons" (370 : Nat) "HeadReckons$FromRight") ∈ lw_all := lw_g (lw_at lw_m5 98 rfl) rfl
theorem q1151 : (Jvm.Cond.methodLink "HeadReckons" (372 : Nat) ({ cls := "HeadReckons$FromRight", name := "<init>", desc := "(LHeadReckons;I)V" } : Jvm.MethodName)) ∈ lw_all := lw_g (lw_at lw_m5 100 rfl) rfl
theorem q1161 : (Jvm.Cond.classLink "HeadReckons" (373 : Nat) "HeadReckons$Crosswise") ∈ lw_all := lw_g (lw_at lw_m5 110 rfl) rfl
theorem q1163 : (Jvm.Cond.methodLink "HeadReckons" (375 : Nat) ({ cls := "HeadReckons$Crosswise", name := "<init>", desc := "(LHeadReckons;I)V" } : Jvm.MethodName)) ∈ lw_all := lw_g (lw_at lw_m5 112 rfl) rfl
theorem q1174 : (Jvm.Cond.classLink "HeadReckons" (376 : Nat) "HeadReckons$BySquares") ∈ lw_all := lw_g (lw_at lw_m5 123 rfl) rfl
theorem q1176 : (Jvm.Cond.methodLink "HeadReckons" (378 : Nat) ({ cls := "HeadReckons$BySquares", name := "<init>", desc := "(LHeadReckons;I)V" } : Jvm.MethodName)) ∈ lw_all := lw_g (lw_at lw_m5 125 rfl) rfl
theorem q1186 : (Jvm.Cond.classLink "HeadReckons" (379 : Nat) "HeadReckons$ByFactors") ∈ lw_all := lw_g (lw_at lw_m5 135 rfl) rfl
theorem q1188 : (Jvm.Cond.methodLink "HeadReckons" (381 : Nat) ({ cls := "HeadReckons$ByFactors", name := "<init>", desc := "(LHeadReckons;I)V" } : Jvm.MethodName)) ∈ lw_all := lw_g (lw_at lw_m5 137 rfl) rfl
theorem q1199 : (Jvm.Cond.classLink "HeadReckons" (382 : Nat) "HeadReckons$ByHeart") ∈ lw_all := lw_g (lw_at lw_m5 148 rfl) rfl
theorem q1201 : (Jvm.Cond.methodLink "HeadReckons" (384 : Nat) ({ cls := "HeadReckons$ByHeart", name := "<init>", desc := "(LHeadReckons;I)V" } : Jvm.MethodName)) ∈ lw_all := lw_g (lw_at lw_m5 150 rfl) rfl
theorem q1211 : (Jvm.Cond.classLink "HeadReckons" (385 : Nat) "HeadReckons$Rooted") ∈ lw_all := lw_g (lw_at lw_m5 160 rfl) rfl
theorem q1213 : (Jvm.Cond.methodLink "HeadReckons" (387 : Nat) ({ cls := "HeadReckons$Rooted", name := "<init>", desc := "(LHeadReckons;I)V" } : Jvm.MethodName)) ∈ lw_all := lw_g (lw_at lw_m5 162 rfl) rfl
theorem q1225 : (Jvm.Cond.methodLink "HeadReckons" (388 : Nat) ({ cls := "HeadReckons$Way", name := "<init>", desc := "(LHeadReckons;I)V" } : Jvm.MethodName)) ∈ lw_all := lw_g (lw_at lw_m5 174 rfl) rfl
theorem q1230 : (Jvm.Cond.instanceMethod ({ cls := "HeadReckons", name := "act", desc := "(III)I" } : Jvm.MethodName)) ∈ lw_all := lw_g (lw_at lw_m5 179 rfl) rfl
theorem q1231 : (Jvm.Cond.selects "HeadReckons" ({ cls := "HeadReckons", name := "act", desc := "(III)I" } : Jvm.MethodName) ({ cls := "HeadReckons", name := "act", desc := "(III)I" } : Jvm.MethodName)) ∈ lw_all := lw_g (lw_at lw_m5 180 rfl) rfl
theorem q1232 : (Jvm.Cond.code ({ cls := "HeadReckons", name := "act", desc := "(III)I" } : Jvm.MethodName) prog_1_method_63_code (6 : Nat) (Option.some Jvm.ClassFile.FieldType.int)) ∈ lw_all := lw_g (lw_at lw_m5 181 rfl) rfl
theorem q1233 : (Jvm.Cond.methodLink "HeadReckons" (393 : Nat) ({ cls := "HeadReckons", name := "isBody", desc := "(I)Z" } : Jvm.MethodName)) ∈ lw_all := lw_g (lw_at lw_m5 182 rfl) rfl
theorem q1234 : (Jvm.Cond.privateMethod ({ cls := "HeadReckons", name := "isBody", desc := "(I)Z" } : Jvm.MethodName)) ∈ lw_tbl := lw_at lw_m5 183 rfl
theorem q1235 : (Jvm.Cond.instanceMethod ({ cls := "HeadReckons", name := "isBody", desc := "(I)Z" } : Jvm.MethodName)) ∈ lw_all := lw_g (lw_at lw_m5 184 rfl) rfl
theorem q1236 : (Jvm.Cond.code ({ cls := "HeadReckons", name := "isBody", desc := "(I)Z" } : Jvm.MethodName) prog_1_method_59_code (2 : Nat) (Option.some Jvm.ClassFile.FieldType.boolean)) ∈ lw_all := lw_g (lw_at lw_m5 185 rfl) rfl
theorem q1237 : (Jvm.Cond.interfaceEntry "HeadReckons" (396 : Nat)) ∈ lw_tbl := lw_at lw_m5 186 rfl
theorem q1238 : (Jvm.Cond.methodLink "HeadReckons" (396 : Nat) ({ cls := "HeadReckons$Costs", name := "costs", desc := "(I)I" } : Jvm.MethodName)) ∈ lw_all := lw_g (lw_at lw_m5 187 rfl) rfl
theorem q1248 : (Jvm.Cond.privateMethod ({ cls := "HeadReckons", name := "ran", desc := "(I)V" } : Jvm.MethodName)) ∈ lw_tbl := lw_at lw_m5 197 rfl
theorem q1249 : (Jvm.Cond.instanceMethod ({ cls := "HeadReckons", name := "ran", desc := "(I)V" } : Jvm.MethodName)) ∈ lw_all := lw_g (lw_at lw_m5 198 rfl) rfl
theorem q1250 : (Jvm.Cond.code ({ cls := "HeadReckons", name := "ran", desc := "(I)V" } : Jvm.MethodName) prog_1_method_58_code (2 : Nat) (Option.none : Option Jvm.ClassFile.FieldType)) ∈ lw_all := lw_g (lw_at lw_m5 199 rfl) rfl
theorem q1282 : (Jvm.Cond.interfaceEntry "HeadReckons" (401 : Nat)) ∈ lw_tbl := lw_at lw_m5 231 rfl
theorem q1283 : (Jvm.Cond.methodLink "HeadReckons" (401 : Nat) ({ cls := "HeadReckons$Tells", name := "tells", desc := "(I)I" } : Jvm.MethodName)) ∈ lw_all := lw_g (lw_at lw_m5 232 rfl) rfl
theorem q1378 : (Jvm.Cond.methodLink "HeadReckons" (406 : Nat) ({ cls := "HeadReckons$Way", name := "keeps", desc := "(I)I" } : Jvm.MethodName)) ∈ lw_all := lw_g (lw_at lw_m6 87 rfl) rfl
theorem q1379 : (Jvm.Cond.methodLink "HeadReckons" (409 : Nat) ({ cls := "HeadReckons$Way", name := "slips", desc := "(I)I" } : Jvm.MethodName)) ∈ lw_all := lw_g (lw_at lw_m6 88 rfl) rfl
theorem q1381 : (Jvm.Cond.instanceMethod ({ cls := "HeadReckons", name := "trace", desc := "(I)I" } : Jvm.MethodName)) ∈ lw_all := lw_g (lw_at lw_m6 90 rfl) rfl
theorem q1382 : (Jvm.Cond.selects "HeadReckons" ({ cls := "HeadReckons", name := "trace", desc := "(I)I" } : Jvm.MethodName) ({ cls := "HeadReckons", name := "trace", desc := "(I)I" } : Jvm.MethodName)) ∈ lw_all := lw_g (lw_at lw_m6 91 rfl) rfl
theorem q1383 : (Jvm.Cond.code ({ cls := "HeadReckons", name := "trace", desc := "(I)I" } : Jvm.MethodName) prog_1_method_64_code (2 : Nat) (Option.some Jvm.ClassFile.FieldType.int)) ∈ lw_all := lw_g (lw_at lw_m6 92 rfl) rfl
theorem q1385 : (Jvm.Cond.instanceMethod ({ cls := "HeadReckons", name := "keep", desc := "(II)I" } : Jvm.MethodName)) ∈ lw_all := lw_g (lw_at lw_m6 94 rfl) rfl
theorem q1386 : (Jvm.Cond.selects "HeadReckons" ({ cls := "HeadReckons", name := "keep", desc := "(II)I" } : Jvm.MethodName) ({ cls := "HeadReckons", name := "keep", desc := "(II)I" } : Jvm.MethodName)) ∈ lw_all := lw_g (lw_at lw_m6 95 rfl) rfl
theorem q1387 : (Jvm.Cond.code ({ cls := "HeadReckons", name := "keep", desc := "(II)I" } : Jvm.MethodName) prog_1_method_65_code (3 : Nat) (Option.some Jvm.ClassFile.FieldType.int)) ∈ lw_all := lw_g (lw_at lw_m6 96 rfl) rfl
theorem q1389 : (Jvm.Cond.instanceMethod ({ cls := "HeadReckons", name := "row", desc := "(III)I" } : Jvm.MethodName)) ∈ lw_all := lw_g (lw_at lw_m6 98 rfl) rfl
theorem q1390 : (Jvm.Cond.selects "HeadReckons" ({ cls := "HeadReckons", name := "row", desc := "(III)I" } : Jvm.MethodName) ({ cls := "HeadReckons", name := "row", desc := "(III)I" } : Jvm.MethodName)) ∈ lw_all := lw_g (lw_at lw_m6 99 rfl) rfl
theorem q1391 : (Jvm.Cond.codeWith ({ cls := "HeadReckons", name := "row", desc := "(III)I" } : Jvm.MethodName) prog_1_method_67_code (5 : Nat) (Option.some Jvm.ClassFile.FieldType.int) [((24 : Nat), (35 : Nat), (38 : Nat), (431 : Nat))]) ∈ lw_all := lw_g (lw_at lw_m6 100 rfl) rfl
theorem q1392 : (Jvm.Cond.classLink "HeadReckons" (431 : Nat) "java/lang/NegativeArraySizeException") ∈ lw_all := lw_g (lw_at lw_m6 101 rfl) rfl
theorem q1406 : (Jvm.Cond.methodLink "HeadReckons" (427 : Nat) ({ cls := "HeadReckons", name := "newRow", desc := "(II)LHeadReckons$Row;" } : Jvm.MethodName)) ∈ lw_all := lw_g (lw_at lw_m6 115 rfl) rfl
theorem q1407 : (Jvm.Cond.static ({ cls := "HeadReckons", name := "newRow", desc := "(II)LHeadReckons$Row;" } : Jvm.MethodName)) ∈ lw_all := lw_g (lw_at lw_m6 116 rfl) rfl
theorem q1408 : (Jvm.Cond.code ({ cls := "HeadReckons", name := "newRow", desc := "(II)LHeadReckons$Row;" } : Jvm.MethodName) prog_1_method_66_code (2 : Nat) (Option.some (Jvm.ClassFile.FieldType.object "HeadReckons$Row"))) ∈ lw_all := lw_g (lw_at lw_m6 117 rfl) rfl
theorem q1409 : (Jvm.Cond.classLink "HeadReckons" (412 : Nat) "HeadReckons$ByteRow") ∈ lw_all := lw_g (lw_at lw_m6 118 rfl) rfl
theorem q1411 : (Jvm.Cond.methodLink "HeadReckons" (414 : Nat) ({ cls := "HeadReckons$ByteRow", name := "<init>", desc := "(I)V" } : Jvm.MethodName)) ∈ lw_all := lw_g (lw_at lw_m6 120 rfl) rfl
theorem q1422 : (Jvm.Cond.classLink "HeadReckons" (417 : Nat) "HeadReckons$ShortRow") ∈ lw_all := lw_g (lw_at lw_m6 131 rfl) rfl
theorem q1424 : (Jvm.Cond.methodLink "HeadReckons" (419 : Nat) ({ cls := "HeadReckons$ShortRow", name := "<init>", desc := "(I)V" } : Jvm.MethodName)) ∈ lw_all := lw_g (lw_at lw_m6 133 rfl) rfl
theorem q1434 : (Jvm.Cond.methodLink "HeadReckons" (420 : Nat) ({ cls := "HeadReckons$IntRow", name := "<init>", desc := "(I)V" } : Jvm.MethodName)) ∈ lw_all := lw_g (lw_at lw_m6 143 rfl) rfl
theorem q1442 : (Jvm.Cond.classLink "HeadReckons" (421 : Nat) "HeadReckons$LongRow") ∈ lw_all := lw_g (lw_at lw_m6 151 rfl) rfl
theorem q1444 : (Jvm.Cond.methodLink "HeadReckons" (423 : Nat) ({ cls := "HeadReckons$LongRow", name := "<init>", desc := "(I)V" } : Jvm.MethodName)) ∈ lw_all := lw_g (lw_at lw_m6 153 rfl) rfl
theorem q1452 : (Jvm.Cond.classLink "HeadReckons" (424 : Nat) "HeadReckons$BooleanRow") ∈ lw_all := lw_g (lw_at lw_m6 161 rfl) rfl
theorem q1454 : (Jvm.Cond.methodLink "HeadReckons" (426 : Nat) ({ cls := "HeadReckons$BooleanRow", name := "<init>", desc := "(I)V" } : Jvm.MethodName)) ∈ lw_all := lw_g (lw_at lw_m6 163 rfl) rfl
theorem q1464 : (Jvm.Cond.instanceMethod ({ cls := "HeadReckons", name := "put", desc := "(IIJ)I" } : Jvm.MethodName)) ∈ lw_all := lw_g (lw_at lw_m6 173 rfl) rfl
theorem q1465 : (Jvm.Cond.selects "HeadReckons" ({ cls := "HeadReckons", name := "put", desc := "(IIJ)I" } : Jvm.MethodName) ({ cls := "HeadReckons", name := "put", desc := "(IIJ)I" } : Jvm.MethodName)) ∈ lw_all := lw_g (lw_at lw_m6 174 rfl) rfl
theorem q1466 : (Jvm.Cond.codeWith ({ cls := "HeadReckons", name := "put", desc := "(IIJ)I" } : Jvm.MethodName) prog_1_method_68_code (6 : Nat) (Option.some Jvm.ClassFile.FieldType.int) [((9 : Nat), (31 : Nat), (32 : Nat), (252 : Nat)), ((9 : Nat), (31 : Nat), (37 : Nat), (250 : Nat)), ((9 : Nat), (31 : Nat), (42 : Nat), (254 : Nat))]) ∈ lw_all := lw_g (lw_at lw_m6 175 rfl) rfl
theorem q1467 : (Jvm.Cond.classLink "HeadReckons" (433 : Nat) "HeadReckons$Row") ∈ lw_all := lw_g (lw_at lw_m6 176 rfl) rfl
theorem q1468 : (Jvm.Cond.methodLink "HeadReckons" (435 : Nat) ({ cls := "HeadReckons$Row", name := "put", desc := "(IJ)Z" } : Jvm.MethodName)) ∈ lw_all := lw_g (lw_at lw_m6 177 rfl) rfl
theorem q1487 : (Jvm.Cond.instanceMethod ({ cls := "HeadReckons", name := "element", desc := "(II)J" } : Jvm.MethodName)) ∈ lw_all := lw_g (lw_at lw_m6 196 rfl) rfl
theorem q1488 : (Jvm.Cond.selects "HeadReckons" ({ cls := "HeadReckons", name := "element", desc := "(II)J" } : Jvm.MethodName) ({ cls := "HeadReckons", name := "element", desc := "(II)J" } : Jvm.MethodName)) ∈ lw_all := lw_g (lw_at lw_m6 197 rfl) rfl
theorem q1489 : (Jvm.Cond.codeWith ({ cls := "HeadReckons", name := "element", desc := "(II)J" } : Jvm.MethodName) prog_1_method_69_code (4 : Nat) (Option.some Jvm.ClassFile.FieldType.long) [((11 : Nat), (24 : Nat), (25 : Nat), (252 : Nat)), ((11 : Nat), (24 : Nat), (30 : Nat), (250 : Nat)), ((11 : Nat), (24 : Nat), (35 : Nat), (254 : Nat))]) ∈ lw_all := lw_g (lw_at lw_m6 198 rfl) rfl
theorem q1490 : (Jvm.Cond.constantLong "HeadReckons" (440 : Nat) (-9223372036854775808 : Int64)) ∈ lw_all := lw_g (lw_at lw_m6 199 rfl) rfl
theorem q1491 : (Jvm.Cond.methodLink "HeadReckons" (442 : Nat) ({ cls := "HeadReckons$Row", name := "at", desc := "(I)J" } : Jvm.MethodName)) ∈ lw_all := lw_g (lw_at lw_m6 200 rfl) rfl
theorem q1508 : (Jvm.Cond.instanceMethod ({ cls := "HeadReckons", name := "shift", desc := "(IIIII)I" } : Jvm.MethodName)) ∈ lw_all := lw_g (lw_at lw_m6 217 rfl) rfl
theorem q1509 : (Jvm.Cond.selects "HeadReckons" ({ cls := "HeadReckons", name := "shift", desc := "(IIIII)I" } : Jvm.MethodName) ({ cls := "HeadReckons", name := "shift", desc := "(IIIII)I" } : Jvm.MethodName)) ∈ lw_all := lw_g (lw_at lw_m6 218 rfl) rfl
theorem q1510 : (Jvm.Cond.codeWith ({ cls := "HeadReckons", name := "shift", desc := "(IIIII)I" } : Jvm.MethodName) prog_1_method_70_code (7 : Nat) (Option.some Jvm.ClassFile.FieldType.int) [((37 : Nat), (63 : Nat), (66 : Nat), (250 : Nat)), ((37 : Nat), (63 : Nat), (71 : Nat), (254 : Nat))]) ∈ lw_all := lw_g (lw_at lw_m6 219 rfl) rfl
theorem q1511 : (Jvm.Cond.methodLink "HeadReckons" (443 : Nat) ({ cls := "HeadReckons$Row", name := "copy", desc := "(ILHeadReckons$Row;II)V" } : Jvm.MethodName)) ∈ lw_all := lw_g (lw_at lw_m6 220 rfl) rfl
theorem q1542 : (Jvm.Cond.instanceMethod ({ cls := "HeadReckons", name := "taken", desc := "(II)I" } : Jvm.MethodName)) ∈ lw_all := lw_g (lw_at lw_m7 11 rfl) rfl
theorem q1543 : (Jvm.Cond.selects "HeadReckons" ({ cls := "HeadReckons", name := "taken", desc := "(II)I" } : Jvm.MethodName) ({ cls := "HeadReckons", name := "taken", desc := "(II)I" } : Jvm.MethodName)) ∈ lw_all := lw_g (lw_at lw_m7 12 rfl) rfl
theorem q1544 : (Jvm.Cond.codeWith ({ cls := "HeadReckons", name := "taken", desc := "(II)I" } : Jvm.MethodName) prog_1_method_71_code (4 : Nat) (Option.some Jvm.ClassFile.FieldType.int) [((19 : Nat), (46 : Nat), (47 : Nat), (252 : Nat)), ((19 : Nat), (46 : Nat), (51 : Nat), (250 : Nat))]) ∈ lw_all := lw_g (lw_at lw_m7 13 rfl) rfl
theorem q1545 : (Jvm.Cond.methodLink "HeadReckons" (446 : Nat) ({ cls := "HeadReckons$Way", name := "isUnder", desc := "(I)Z" } : Jvm.MethodName)) ∈ lw_all := lw_g (lw_at lw_m7 14 rfl) rfl
theorem q1592 : (Jvm.Cond.methodLink "HeadReckons" (449 : Nat) ({ cls := "HeadReckons$Way", name := "kind", desc := "()I" } : Jvm.MethodName)) ∈ lw_all := lw_g (lw_at lw_m7 61 rfl) rfl
theorem q1594 : (Jvm.Cond.instanceMethod ({ cls := "HeadReckons", name := "count", desc := "(I)I" } : Jvm.MethodName)) ∈ lw_all := lw_g (lw_at lw_m7 63 rfl) rfl
theorem q1595 : (Jvm.Cond.selects "HeadReckons" ({ cls := "HeadReckons", name := "count", desc := "(I)I" } : Jvm.MethodName) ({ cls := "HeadReckons", name := "count", desc := "(I)I" } : Jvm.MethodName)) ∈ lw_all := lw_g (lw_at lw_m7 64 rfl) rfl
theorem q1596 : (Jvm.Cond.code ({ cls := "HeadReckons", name := "count", desc := "(I)I" } : Jvm.MethodName) prog_1_method_72_code (2 : Nat) (Option.some Jvm.ClassFile.FieldType.int)) ∈ lw_all := lw_g (lw_at lw_m7 65 rfl) rfl
theorem in_X0 : ∀ w ∈ wsX00, w ∈ lw_all := lw_in wsX00 [277, 279, 281, 283, 285, 287, 289, 291, 293, 295, 297, 299, 301, 303, 305, 307, 309, 311, 313, 315, 317, 319, 321] (by decide +kernel) (by decide +kernel)
