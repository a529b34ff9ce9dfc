set_option maxRecDepth 100000
/-! java/lang/String -/
set_option maxRecDepth 100000
def RJ0 : String := "java/lang/String"
def TJ0 : u_T := fun k => match k with
  | 0 => ("java/lang/String", "value", "[B", true)
  | _ => ("java/lang/String", "coder", "B", true)
def tyJ0 : Nat → FieldType := fun k => match k with
  | 0 => .array .byte
  | _ => .byte
abbrev wsJ00 : List Cond := u_ws RJ0 TJ0 2
theorem nmJ0 : ∀ a, a < 2 → ∀ b, b < 2 → a ≠ b → (TJ0 a).2.1 ≠ (TJ0 b).2.1 := by decide +kernel
theorem tyJ0_ok : ∀ k, k < 2 → parseFieldDescriptor (TJ0 k).2.2.1 = some (tyJ0 k) := by decide +kernel
abbrev cJ0_indexOf : ByteArray := prog_44_method_79_code
def yJ0_indexOf : MethodName := ⟨RJ0, "indexOf", "(I)I"⟩
def dkwJ0_indexOf_0 : List UInt8 := [42, 27, 3, 182, 2, 121, 172]
abbrev dktJ0_indexOf_0 : List UInt8 := dkwJ0_indexOf_0 ++ []
theorem dksJ0_indexOf_0 : cJ0_indexOf.data.toList.drop 0 = dktJ0_indexOf_0 := by decide +kernel
theorem dJ0_indexOf_0 : decode cJ0_indexOf 0 = .ok (.aload_n 0, 1) := dk_42 (dk_at dksJ0_indexOf_0 0 rfl rfl)
theorem dJ0_indexOf_1 : decode cJ0_indexOf 1 = .ok (.iload_n 1, 1) := dk_27 (dk_at dksJ0_indexOf_0 1 rfl rfl)
theorem dJ0_indexOf_2 : decode cJ0_indexOf 2 = .ok (.iconst 0, 1) := dk_3 (dk_at dksJ0_indexOf_0 2 rfl rfl)
theorem dJ0_indexOf_3 : decode cJ0_indexOf 3 = .ok (.invokevirtual 633, 3) := dk_182 2 121 (dk_at dksJ0_indexOf_0 3 rfl rfl)
theorem dJ0_indexOf_6 : decode cJ0_indexOf 6 = .ok (.ireturn, 1) := dk_172 (dk_at dksJ0_indexOf_0 6 rfl rfl)
abbrev cJ0_indexOf_2 : ByteArray := prog_44_method_80_code
def yJ0_indexOf_2 : MethodName := ⟨RJ0, "indexOf", "(II)I"⟩
def dkwJ0_indexOf_2_1 : List UInt8 := [180, 0, 9, 27, 28, 42, 182, 1, 249, 184, 2, 128, 172]
abbrev dktJ0_indexOf_2_1 : List UInt8 := dkwJ0_indexOf_2_1 ++ []
def dkwJ0_indexOf_2_0 : List UInt8 := [42, 182, 1, 236, 153, 0, 19, 42, 180, 0, 9, 27, 28, 42, 182, 1, 249, 184, 2, 125, 167, 0, 16, 42]
abbrev dktJ0_indexOf_2_0 : List UInt8 := dkwJ0_indexOf_2_0 ++ dktJ0_indexOf_2_1
theorem dksJ0_indexOf_2_0 : cJ0_indexOf_2.data.toList.drop 0 = dktJ0_indexOf_2_0 := by decide +kernel
theorem dksJ0_indexOf_2_1 : cJ0_indexOf_2.data.toList.drop 24 = dktJ0_indexOf_2_1 := dk_seg dksJ0_indexOf_2_0 24 rfl rfl
theorem dJ0_indexOf_2_0 : decode cJ0_indexOf_2 0 = .ok (.aload_n 0, 1) := dk_42 (dk_at dksJ0_indexOf_2_0 0 rfl rfl)
theorem dJ0_indexOf_2_1 : decode cJ0_indexOf_2 1 = .ok (.invokevirtual 492, 3) := dk_182 1 236 (dk_at dksJ0_indexOf_2_0 1 rfl rfl)
theorem dJ0_indexOf_2_4 : decode cJ0_indexOf_2 4 = .ok (.ifCond .eq 19, 3) := dk_153 0 19 (dk_at dksJ0_indexOf_2_0 4 rfl rfl)
theorem dJ0_indexOf_2_7 : decode cJ0_indexOf_2 7 = .ok (.aload_n 0, 1) := dk_42 (dk_at dksJ0_indexOf_2_0 7 rfl rfl)
theorem dJ0_indexOf_2_8 : decode cJ0_indexOf_2 8 = .ok (.getfield 9, 3) := dk_180 0 9 (dk_at dksJ0_indexOf_2_0 8 rfl rfl)
theorem dJ0_indexOf_2_11 : decode cJ0_indexOf_2 11 = .ok (.iload_n 1, 1) := dk_27 (dk_at dksJ0_indexOf_2_0 11 rfl rfl)
theorem dJ0_indexOf_2_12 : decode cJ0_indexOf_2 12 = .ok (.iload_n 2, 1) := dk_28 (dk_at dksJ0_indexOf_2_0 12 rfl rfl)
theorem dJ0_indexOf_2_13 : decode cJ0_indexOf_2 13 = .ok (.aload_n 0, 1) := dk_42 (dk_at dksJ0_indexOf_2_0 13 rfl rfl)
theorem dJ0_indexOf_2_14 : decode cJ0_indexOf_2 14 = .ok (.invokevirtual 505, 3) := dk_182 1 249 (dk_at dksJ0_indexOf_2_0 14 rfl rfl)
theorem dJ0_indexOf_2_17 : decode cJ0_indexOf_2 17 = .ok (.invokestatic 637, 3) := dk_184 2 125 (dk_at dksJ0_indexOf_2_0 17 rfl rfl)
theorem dJ0_indexOf_2_20 : decode cJ0_indexOf_2 20 = .ok (.goto 16, 3) := dk_167 0 16 (dk_at dksJ0_indexOf_2_0 20 rfl rfl)
theorem dJ0_indexOf_2_23 : decode cJ0_indexOf_2 23 = .ok (.aload_n 0, 1) := dk_42 (dk_at dksJ0_indexOf_2_0 23 rfl rfl)
theorem dJ0_indexOf_2_24 : decode cJ0_indexOf_2 24 = .ok (.getfield 9, 3) := dk_180 0 9 (dk_at dksJ0_indexOf_2_1 0 rfl rfl)
theorem dJ0_indexOf_2_27 : decode cJ0_indexOf_2 27 = .ok (.iload_n 1, 1) := dk_27 (dk_at dksJ0_indexOf_2_1 3 rfl rfl)
theorem dJ0_indexOf_2_28 : decode cJ0_indexOf_2 28 = .ok (.iload_n 2, 1) := dk_28 (dk_at dksJ0_indexOf_2_1 4 rfl rfl)
theorem dJ0_indexOf_2_29 : decode cJ0_indexOf_2 29 = .ok (.aload_n 0, 1) := dk_42 (dk_at dksJ0_indexOf_2_1 5 rfl rfl)
theorem dJ0_indexOf_2_30 : decode cJ0_indexOf_2 30 = .ok (.invokevirtual 505, 3) := dk_182 1 249 (dk_at dksJ0_indexOf_2_1 6 rfl rfl)
theorem dJ0_indexOf_2_33 : decode cJ0_indexOf_2 33 = .ok (.invokestatic 640, 3) := dk_184 2 128 (dk_at dksJ0_indexOf_2_1 9 rfl rfl)
theorem dJ0_indexOf_2_36 : decode cJ0_indexOf_2 36 = .ok (.ireturn, 1) := dk_172 (dk_at dksJ0_indexOf_2_1 12 rfl rfl)
abbrev cJ0_isLatin1 : ByteArray := prog_44_method_154_code
def yJ0_isLatin1 : MethodName := ⟨RJ0, "isLatin1", "()Z"⟩
def dkwJ0_isLatin1_0 : List UInt8 := [178, 0, 38, 153, 0, 14, 42, 180, 0, 15, 154, 0, 7, 4, 167, 0, 4, 3, 172]
abbrev dktJ0_isLatin1_0 : List UInt8 := dkwJ0_isLatin1_0 ++ []
theorem dksJ0_isLatin1_0 : cJ0_isLatin1.data.toList.drop 0 = dktJ0_isLatin1_0 := by decide +kernel
theorem dJ0_isLatin1_0 : decode cJ0_isLatin1 0 = .ok (.getstatic 38, 3) := dk_178 0 38 (dk_at dksJ0_isLatin1_0 0 rfl rfl)
theorem dJ0_isLatin1_3 : decode cJ0_isLatin1 3 = .ok (.ifCond .eq 14, 3) := dk_153 0 14 (dk_at dksJ0_isLatin1_0 3 rfl rfl)
theorem dJ0_isLatin1_6 : decode cJ0_isLatin1 6 = .ok (.aload_n 0, 1) := dk_42 (dk_at dksJ0_isLatin1_0 6 rfl rfl)
theorem dJ0_isLatin1_7 : decode cJ0_isLatin1 7 = .ok (.getfield 15, 3) := dk_180 0 15 (dk_at dksJ0_isLatin1_0 7 rfl rfl)
theorem dJ0_isLatin1_10 : decode cJ0_isLatin1 10 = .ok (.ifCond .ne 7, 3) := dk_154 0 7 (dk_at dksJ0_isLatin1_0 10 rfl rfl)
theorem dJ0_isLatin1_13 : decode cJ0_isLatin1 13 = .ok (.iconst 1, 1) := dk_4 (dk_at dksJ0_isLatin1_0 13 rfl rfl)
theorem dJ0_isLatin1_14 : decode cJ0_isLatin1 14 = .ok (.goto 4, 3) := dk_167 0 4 (dk_at dksJ0_isLatin1_0 14 rfl rfl)
theorem dJ0_isLatin1_17 : decode cJ0_isLatin1 17 = .ok (.iconst 0, 1) := dk_3 (dk_at dksJ0_isLatin1_0 17 rfl rfl)
theorem dJ0_isLatin1_18 : decode cJ0_isLatin1 18 = .ok (.ireturn, 1) := dk_172 (dk_at dksJ0_isLatin1_0 18 rfl rfl)
abbrev cJ0_length : ByteArray := prog_44_method_54_code
def yJ0_length : MethodName := ⟨RJ0, "length", "()I"⟩
def dkwJ0_length_0 : List UInt8 := [42, 180, 0, 9, 190, 42, 182, 1, 79, 122, 172]
abbrev dktJ0_length_0 : List UInt8 := dkwJ0_length_0 ++ []
theorem dksJ0_length_0 : cJ0_length.data.toList.drop 0 = dktJ0_length_0 := by decide +kernel
theorem dJ0_length_0 : decode cJ0_length 0 = .ok (.aload_n 0, 1) := dk_42 (dk_at dksJ0_length_0 0 rfl rfl)
theorem dJ0_length_1 : decode cJ0_length 1 = .ok (.getfield 9, 3) := dk_180 0 9 (dk_at dksJ0_length_0 1 rfl rfl)
theorem dJ0_length_4 : decode cJ0_length 4 = .ok (.arraylength, 1) := dk_190 (dk_at dksJ0_length_0 4 rfl rfl)
theorem dJ0_length_5 : decode cJ0_length 5 = .ok (.aload_n 0, 1) := dk_42 (dk_at dksJ0_length_0 5 rfl rfl)
theorem dJ0_length_6 : decode cJ0_length 6 = .ok (.invokevirtual 335, 3) := dk_182 1 79 (dk_at dksJ0_length_0 6 rfl rfl)
theorem dJ0_length_9 : decode cJ0_length 9 = .ok (.ishr, 1) := dk_122 (dk_at dksJ0_length_0 9 rfl rfl)
theorem dJ0_length_10 : decode cJ0_length 10 = .ok (.ireturn, 1) := dk_172 (dk_at dksJ0_length_0 10 rfl rfl)
abbrev cJ0_coder : ByteArray := prog_44_method_152_code
def yJ0_coder : MethodName := ⟨RJ0, "coder", "()B"⟩
def dkwJ0_coder_0 : List UInt8 := [178, 0, 38, 153, 0, 10, 42, 180, 0, 15, 167, 0, 4, 4, 172]
abbrev dktJ0_coder_0 : List UInt8 := dkwJ0_coder_0 ++ []
theorem dksJ0_coder_0 : cJ0_coder.data.toList.drop 0 = dktJ0_coder_0 := by decide +kernel
theorem dJ0_coder_0 : decode cJ0_coder 0 = .ok (.getstatic 38, 3) := dk_178 0 38 (dk_at dksJ0_coder_0 0 rfl rfl)
theorem dJ0_coder_3 : decode cJ0_coder 3 = .ok (.ifCond .eq 10, 3) := dk_153 0 10 (dk_at dksJ0_coder_0 3 rfl rfl)
theorem dJ0_coder_6 : decode cJ0_coder 6 = .ok (.aload_n 0, 1) := dk_42 (dk_at dksJ0_coder_0 6 rfl rfl)
theorem dJ0_coder_7 : decode cJ0_coder 7 = .ok (.getfield 15, 3) := dk_180 0 15 (dk_at dksJ0_coder_0 7 rfl rfl)
theorem dJ0_coder_10 : decode cJ0_coder 10 = .ok (.goto 4, 3) := dk_167 0 4 (dk_at dksJ0_coder_0 10 rfl rfl)
theorem dJ0_coder_13 : decode cJ0_coder 13 = .ok (.iconst 1, 1) := dk_4 (dk_at dksJ0_coder_0 13 rfl rfl)
theorem dJ0_coder_14 : decode cJ0_coder 14 = .ok (.ireturn, 1) := dk_172 (dk_at dksJ0_coder_0 14 rfl rfl)
abbrev cJ0_checkBoundsBeginEnd : ByteArray := prog_44_method_158_code
def yJ0_checkBoundsBeginEnd : MethodName := ⟨RJ0, "checkBoundsBeginEnd", "(III)V"⟩
def dkwJ0_checkBoundsBeginEnd_0 : List UInt8 := [26, 27, 28, 178, 4, 29, 184, 4, 38, 87, 177]
abbrev dktJ0_checkBoundsBeginEnd_0 : List UInt8 := dkwJ0_checkBoundsBeginEnd_0 ++ []
theorem dksJ0_checkBoundsBeginEnd_0 : cJ0_checkBoundsBeginEnd.data.toList.drop 0 = dktJ0_checkBoundsBeginEnd_0 := by decide +kernel
theorem dJ0_checkBoundsBeginEnd_0 : decode cJ0_checkBoundsBeginEnd 0 = .ok (.iload_n 0, 1) := dk_26 (dk_at dksJ0_checkBoundsBeginEnd_0 0 rfl rfl)
theorem dJ0_checkBoundsBeginEnd_1 : decode cJ0_checkBoundsBeginEnd 1 = .ok (.iload_n 1, 1) := dk_27 (dk_at dksJ0_checkBoundsBeginEnd_0 1 rfl rfl)
theorem dJ0_checkBoundsBeginEnd_2 : decode cJ0_checkBoundsBeginEnd 2 = .ok (.iload_n 2, 1) := dk_28 (dk_at dksJ0_checkBoundsBeginEnd_0 2 rfl rfl)
theorem dJ0_checkBoundsBeginEnd_3 : decode cJ0_checkBoundsBeginEnd 3 = .ok (.getstatic 1053, 3) := dk_178 4 29 (dk_at dksJ0_checkBoundsBeginEnd_0 3 rfl rfl)
theorem dJ0_checkBoundsBeginEnd_6 : decode cJ0_checkBoundsBeginEnd 6 = .ok (.invokestatic 1062, 3) := dk_184 4 38 (dk_at dksJ0_checkBoundsBeginEnd_0 6 rfl rfl)
theorem dJ0_checkBoundsBeginEnd_9 : decode cJ0_checkBoundsBeginEnd 9 = .ok (.pop, 1) := dk_87 (dk_at dksJ0_checkBoundsBeginEnd_0 9 rfl rfl)
theorem dJ0_checkBoundsBeginEnd_10 : decode cJ0_checkBoundsBeginEnd 10 = .ok (.return_, 1) := dk_177 (dk_at dksJ0_checkBoundsBeginEnd_0 10 rfl rfl)
theorem q100 : (Jvm.Cond.initialized "java/lang/String") ∈ lw_all := lw_g (lw_at lw_m1 9 rfl) rfl
theorem q469 : (Jvm.Cond.instanceMethod ({ cls := "java/lang/String", name := "indexOf", desc := "(I)I" } : Jvm.MethodName)) ∈ lw_all := lw_g (lw_at lw_m2 138 rfl) rfl
theorem q470 : (Jvm.Cond.selects "java/lang/String" ({ cls := "java/lang/String", name := "indexOf", desc := "(I)I" } : Jvm.MethodName) ({ cls := "java/lang/String", name := "indexOf", desc := "(I)I" } : Jvm.MethodName)) ∈ lw_all := lw_g (lw_at lw_m2 139 rfl) rfl
theorem q471 : (Jvm.Cond.code ({ cls := "java/lang/String", name := "indexOf", desc := "(I)I" } : Jvm.MethodName) prog_44_method_79_code (2 : Nat) (Option.some Jvm.ClassFile.FieldType.int)) ∈ lw_all := lw_g (lw_at lw_m2 140 rfl) rfl
theorem q472 : (Jvm.Cond.methodLink "java/lang/String" (633 : Nat) ({ cls := "java/lang/String", name := "indexOf", desc := "(II)I" } : Jvm.MethodName)) ∈ lw_all := lw_g (lw_at lw_m2 141 rfl) rfl
theorem q473 : (Jvm.Cond.instanceMethod ({ cls := "java/lang/String", name := "indexOf", desc := "(II)I" } : Jvm.MethodName)) ∈ lw_all := lw_g (lw_at lw_m2 142 rfl) rfl
theorem q474 : (Jvm.Cond.selects "java/lang/String" ({ cls := "java/lang/String", name := "indexOf", desc := "(II)I" } : Jvm.MethodName) ({ cls := "java/lang/String", name := "indexOf", desc := "(II)I" } : Jvm.MethodName)) ∈ lw_all := lw_g (lw_at lw_m2 143 rfl) rfl
theorem q475 : (Jvm.Cond.code ({ cls := "java/lang/String", name := "indexOf", desc := "(II)I" } : Jvm.MethodName) prog_44_method_80_code (3 : Nat) (Option.some Jvm.ClassFile.FieldType.int)) ∈ lw_all := lw_g (lw_at lw_m2 144 rfl) rfl
theorem q476 : (Jvm.Cond.methodLink "java/lang/String" (492 : Nat) ({ cls := "java/lang/String", name := "isLatin1", desc := "()Z" } : Jvm.MethodName)) ∈ lw_all := lw_g (lw_at lw_m2 145 rfl) rfl
theorem q477 : (Jvm.Cond.instanceMethod ({ cls := "java/lang/String", name := "isLatin1", desc := "()Z" } : Jvm.MethodName)) ∈ lw_all := lw_g (lw_at lw_m2 146 rfl) rfl
theorem q478 : (Jvm.Cond.selects "java/lang/String" ({ cls := "java/lang/String", name := "isLatin1", desc := "()Z" } : Jvm.MethodName) ({ cls := "java/lang/String", name := "isLatin1", desc := "()Z" } : Jvm.MethodName)) ∈ lw_all := lw_g (lw_at lw_m2 147 rfl) rfl
theorem q479 : (Jvm.Cond.code ({ cls := "java/lang/String", name := "isLatin1", desc := "()Z" } : Jvm.MethodName) prog_44_method_154_code (1 : Nat) (Option.some Jvm.ClassFile.FieldType.boolean)) ∈ lw_all := lw_g (lw_at lw_m2 148 rfl) rfl
theorem q480 : (Jvm.Cond.fieldLink "java/lang/String" (38 : Nat) "java/lang/String" "COMPACT_STRINGS" "Z") ∈ lw_all := lw_g (lw_at lw_m2 149 rfl) rfl
theorem q481 : (Jvm.Cond.laysStatic "java/lang/String" "COMPACT_STRINGS" "Z") ∈ lw_tbl := lw_at lw_m2 150 rfl
theorem q482 : (Jvm.Cond.methodLink "java/lang/String" (505 : Nat) ({ cls := "java/lang/String", name := "length", desc := "()I" } : Jvm.MethodName)) ∈ lw_all := lw_g (lw_at lw_m2 151 rfl) rfl
theorem q483 : (Jvm.Cond.instanceMethod ({ cls := "java/lang/String", name := "length", desc := "()I" } : Jvm.MethodName)) ∈ lw_all := lw_g (lw_at lw_m2 152 rfl) rfl
theorem q484 : (Jvm.Cond.selects "java/lang/String" ({ cls := "java/lang/String", name := "length", desc := "()I" } : Jvm.MethodName) ({ cls := "java/lang/String", name := "length", desc := "()I" } : Jvm.MethodName)) ∈ lw_all := lw_g (lw_at lw_m2 153 rfl) rfl
theorem q485 : (Jvm.Cond.code ({ cls := "java/lang/String", name := "length", desc := "()I" } : Jvm.MethodName) prog_44_method_54_code (1 : Nat) (Option.some Jvm.ClassFile.FieldType.int)) ∈ lw_all := lw_g (lw_at lw_m2 154 rfl) rfl
theorem q486 : (Jvm.Cond.methodLink "java/lang/String" (335 : Nat) ({ cls := "java/lang/String", name := "coder", desc := "()B" } : Jvm.MethodName)) ∈ lw_all := lw_g (lw_at lw_m2 155 rfl) rfl
theorem q487 : (Jvm.Cond.instanceMethod ({ cls := "java/lang/String", name := "coder", desc := "()B" } : Jvm.MethodName)) ∈ lw_all := lw_g (lw_at lw_m2 156 rfl) rfl
theorem q488 : (Jvm.Cond.selects "java/lang/String" ({ cls := "java/lang/String", name := "coder", desc := "()B" } : Jvm.MethodName) ({ cls := "java/lang/String", name := "coder", desc := "()B" } : Jvm.MethodName)) ∈ lw_all := lw_g (lw_at lw_m2 157 rfl) rfl
theorem q489 : (Jvm.Cond.code ({ cls := "java/lang/String", name := "coder", desc := "()B" } : Jvm.MethodName) prog_44_method_152_code (1 : Nat) (Option.some Jvm.ClassFile.FieldType.byte)) ∈ lw_all := lw_g (lw_at lw_m2 158 rfl) rfl
theorem q490 : (Jvm.Cond.methodLink "java/lang/String" (637 : Nat) ({ cls := "java/lang/StringLatin1", name := "indexOf", desc := "([BIII)I" } : Jvm.MethodName)) ∈ lw_all := lw_g (lw_at lw_m2 159 rfl) rfl
theorem q505 : (Jvm.Cond.methodLink "java/lang/String" (640 : Nat) ({ cls := "java/lang/StringUTF16", name := "indexOf", desc := "([BIII)I" } : Jvm.MethodName)) ∈ lw_all := lw_g (lw_at lw_m2 174 rfl) rfl
theorem q521 : (Jvm.Cond.static ({ cls := "java/lang/String", name := "checkBoundsBeginEnd", desc := "(III)V" } : Jvm.MethodName)) ∈ lw_all := lw_g (lw_at lw_m2 190 rfl) rfl
theorem q522 : (Jvm.Cond.code ({ cls := "java/lang/String", name := "checkBoundsBeginEnd", desc := "(III)V" } : Jvm.MethodName) prog_44_method_158_code (3 : Nat) (Option.none : Option Jvm.ClassFile.FieldType)) ∈ lw_all := lw_g (lw_at lw_m2 191 rfl) rfl
theorem q523 : (Jvm.Cond.fieldLink "java/lang/String" (1053 : Nat) "jdk/internal/util/Preconditions" "SIOOBE_FORMATTER" "Ljava/util/function/BiFunction;") ∈ lw_all := lw_g (lw_at lw_m2 192 rfl) rfl
theorem q525 : (Jvm.Cond.methodLink "java/lang/String" (1062 : Nat) ({ cls := "jdk/internal/util/Preconditions", name := "checkFromToIndex", desc := "(IIILjava/util/function/BiFunction;)I" } : Jvm.MethodName)) ∈ lw_all := lw_g (lw_at lw_m2 194 rfl) rfl
theorem q903 : (Jvm.Cond.instantiable "java/lang/String" (4 : Nat)) ∈ lw_all := lw_g (lw_at lw_m4 92 rfl) rfl
theorem q904 : (Jvm.Cond.laysFinal "java/lang/String" "java/lang/String" "value" "[B") ∈ lw_all := lw_g (lw_at lw_m4 93 rfl) rfl
theorem q905 : (Jvm.Cond.soleField "java/lang/String" "value") ∈ lw_all := lw_g (lw_at lw_m4 94 rfl) rfl
theorem q906 : (Jvm.Cond.laysFinal "java/lang/String" "java/lang/String" "coder" "B") ∈ lw_all := lw_g (lw_at lw_m4 95 rfl) rfl
theorem q907 : (Jvm.Cond.soleField "java/lang/String" "coder") ∈ lw_all := lw_g (lw_at lw_m4 96 rfl) rfl
theorem q2254 : (Jvm.Cond.fieldLink "java/lang/String" (15 : Nat) "java/lang/String" "coder" "B") ∈ lw_all := lw_g (lw_at lw_m10 3 rfl) rfl
theorem q2255 : (Jvm.Cond.fieldLink "java/lang/String" (9 : Nat) "java/lang/String" "value" "[B") ∈ lw_all := lw_g (lw_at lw_m10 4 rfl) rfl
theorem in_J0 : ∀ w ∈ wsJ00, w ∈ lw_all := lw_in wsJ00 [904, 906] (by decide +kernel) (by decide +kernel)

/-! java/lang/StringLatin1 -/
set_option maxRecDepth 100000
def RJ1 : String := "java/lang/StringLatin1"
abbrev cJ1_indexOf : ByteArray := prog_45_method_22_code
def yJ1_indexOf : MethodName := ⟨RJ1, "indexOf", "([BIII)I"⟩
def dkwJ1_indexOf_1 : List UInt8 := [161, 0, 5, 2, 172, 42, 27, 28, 29, 184, 0, 95, 172]
abbrev dktJ1_indexOf_1 : List UInt8 := dkwJ1_indexOf_1 ++ []
def dkwJ1_indexOf_0 : List UInt8 := [27, 184, 0, 88, 154, 0, 5, 2, 172, 28, 3, 184, 0, 92, 61, 29, 42, 190, 184, 0, 38, 62, 28, 29]
abbrev dktJ1_indexOf_0 : List UInt8 := dkwJ1_indexOf_0 ++ dktJ1_indexOf_1
theorem dksJ1_indexOf_0 : cJ1_indexOf.data.toList.drop 0 = dktJ1_indexOf_0 := by decide +kernel
theorem dksJ1_indexOf_1 : cJ1_indexOf.data.toList.drop 24 = dktJ1_indexOf_1 := dk_seg dksJ1_indexOf_0 24 rfl rfl
theorem dJ1_indexOf_0 : decode cJ1_indexOf 0 = .ok (.iload_n 1, 1) := dk_27 (dk_at dksJ1_indexOf_0 0 rfl rfl)
theorem dJ1_indexOf_1 : decode cJ1_indexOf 1 = .ok (.invokestatic 88, 3) := dk_184 0 88 (dk_at dksJ1_indexOf_0 1 rfl rfl)
theorem dJ1_indexOf_4 : decode cJ1_indexOf 4 = .ok (.ifCond .ne 5, 3) := dk_154 0 5 (dk_at dksJ1_indexOf_0 4 rfl rfl)
theorem dJ1_indexOf_7 : decode cJ1_indexOf 7 = .ok (.iconst (-1), 1) := dk_2 (dk_at dksJ1_indexOf_0 7 rfl rfl)
theorem dJ1_indexOf_8 : decode cJ1_indexOf 8 = .ok (.ireturn, 1) := dk_172 (dk_at dksJ1_indexOf_0 8 rfl rfl)
theorem dJ1_indexOf_9 : decode cJ1_indexOf 9 = .ok (.iload_n 2, 1) := dk_28 (dk_at dksJ1_indexOf_0 9 rfl rfl)
theorem dJ1_indexOf_10 : decode cJ1_indexOf 10 = .ok (.iconst 0, 1) := dk_3 (dk_at dksJ1_indexOf_0 10 rfl rfl)
theorem dJ1_indexOf_11 : decode cJ1_indexOf 11 = .ok (.invokestatic 92, 3) := dk_184 0 92 (dk_at dksJ1_indexOf_0 11 rfl rfl)
theorem dJ1_indexOf_14 : decode cJ1_indexOf 14 = .ok (.istore_n 2, 1) := dk_61 (dk_at dksJ1_indexOf_0 14 rfl rfl)
theorem dJ1_indexOf_15 : decode cJ1_indexOf 15 = .ok (.iload_n 3, 1) := dk_29 (dk_at dksJ1_indexOf_0 15 rfl rfl)
theorem dJ1_indexOf_16 : decode cJ1_indexOf 16 = .ok (.aload_n 0, 1) := dk_42 (dk_at dksJ1_indexOf_0 16 rfl rfl)
theorem dJ1_indexOf_17 : decode cJ1_indexOf 17 = .ok (.arraylength, 1) := dk_190 (dk_at dksJ1_indexOf_0 17 rfl rfl)
theorem dJ1_indexOf_18 : decode cJ1_indexOf 18 = .ok (.invokestatic 38, 3) := dk_184 0 38 (dk_at dksJ1_indexOf_0 18 rfl rfl)
theorem dJ1_indexOf_21 : decode cJ1_indexOf 21 = .ok (.istore_n 3, 1) := dk_62 (dk_at dksJ1_indexOf_0 21 rfl rfl)
theorem dJ1_indexOf_22 : decode cJ1_indexOf 22 = .ok (.iload_n 2, 1) := dk_28 (dk_at dksJ1_indexOf_0 22 rfl rfl)
theorem dJ1_indexOf_23 : decode cJ1_indexOf 23 = .ok (.iload_n 3, 1) := dk_29 (dk_at dksJ1_indexOf_0 23 rfl rfl)
theorem dJ1_indexOf_24 : decode cJ1_indexOf 24 = .ok (.if_icmp .lt 5, 3) := dk_161 0 5 (dk_at dksJ1_indexOf_1 0 rfl rfl)
theorem dJ1_indexOf_27 : decode cJ1_indexOf 27 = .ok (.iconst (-1), 1) := dk_2 (dk_at dksJ1_indexOf_1 3 rfl rfl)
theorem dJ1_indexOf_28 : decode cJ1_indexOf 28 = .ok (.ireturn, 1) := dk_172 (dk_at dksJ1_indexOf_1 4 rfl rfl)
theorem dJ1_indexOf_29 : decode cJ1_indexOf 29 = .ok (.aload_n 0, 1) := dk_42 (dk_at dksJ1_indexOf_1 5 rfl rfl)
theorem dJ1_indexOf_30 : decode cJ1_indexOf 30 = .ok (.iload_n 1, 1) := dk_27 (dk_at dksJ1_indexOf_1 6 rfl rfl)
theorem dJ1_indexOf_31 : decode cJ1_indexOf 31 = .ok (.iload_n 2, 1) := dk_28 (dk_at dksJ1_indexOf_1 7 rfl rfl)
theorem dJ1_indexOf_32 : decode cJ1_indexOf 32 = .ok (.iload_n 3, 1) := dk_29 (dk_at dksJ1_indexOf_1 8 rfl rfl)
theorem dJ1_indexOf_33 : decode cJ1_indexOf 33 = .ok (.invokestatic 95, 3) := dk_184 0 95 (dk_at dksJ1_indexOf_1 9 rfl rfl)
theorem dJ1_indexOf_36 : decode cJ1_indexOf 36 = .ok (.ireturn, 1) := dk_172 (dk_at dksJ1_indexOf_1 12 rfl rfl)
abbrev cJ1_canEncode : ByteArray := prog_45_method_4_code
def yJ1_canEncode : MethodName := ⟨RJ1, "canEncode", "(I)Z"⟩
def dkwJ1_canEncode_0 : List UInt8 := [26, 155, 0, 14, 26, 17, 0, 255, 163, 0, 7, 4, 167, 0, 4, 3, 172]
abbrev dktJ1_canEncode_0 : List UInt8 := dkwJ1_canEncode_0 ++ []
theorem dksJ1_canEncode_0 : cJ1_canEncode.data.toList.drop 0 = dktJ1_canEncode_0 := by decide +kernel
theorem dJ1_canEncode_0 : decode cJ1_canEncode 0 = .ok (.iload_n 0, 1) := dk_26 (dk_at dksJ1_canEncode_0 0 rfl rfl)
theorem dJ1_canEncode_1 : decode cJ1_canEncode 1 = .ok (.ifCond .lt 14, 3) := dk_155 0 14 (dk_at dksJ1_canEncode_0 1 rfl rfl)
theorem dJ1_canEncode_4 : decode cJ1_canEncode 4 = .ok (.iload_n 0, 1) := dk_26 (dk_at dksJ1_canEncode_0 4 rfl rfl)
theorem dJ1_canEncode_5 : decode cJ1_canEncode 5 = .ok (.sipush 255, 3) := dk_17 0 255 (dk_at dksJ1_canEncode_0 5 rfl rfl)
theorem dJ1_canEncode_8 : decode cJ1_canEncode 8 = .ok (.if_icmp .gt 7, 3) := dk_163 0 7 (dk_at dksJ1_canEncode_0 8 rfl rfl)
theorem dJ1_canEncode_11 : decode cJ1_canEncode 11 = .ok (.iconst 1, 1) := dk_4 (dk_at dksJ1_canEncode_0 11 rfl rfl)
theorem dJ1_canEncode_12 : decode cJ1_canEncode 12 = .ok (.goto 4, 3) := dk_167 0 4 (dk_at dksJ1_canEncode_0 12 rfl rfl)
theorem dJ1_canEncode_15 : decode cJ1_canEncode 15 = .ok (.iconst 0, 1) := dk_3 (dk_at dksJ1_canEncode_0 15 rfl rfl)
theorem dJ1_canEncode_16 : decode cJ1_canEncode 16 = .ok (.ireturn, 1) := dk_172 (dk_at dksJ1_canEncode_0 16 rfl rfl)
abbrev cJ1_indexOfChar : ByteArray := prog_45_method_23_code
def yJ1_indexOfChar : MethodName := ⟨RJ1, "indexOfChar", "([BIII)I"⟩
def dkwJ1_indexOfChar_1 : List UInt8 := [172, 132, 5, 1, 167, 255, 235, 2, 172]
abbrev dktJ1_indexOfChar_1 : List UInt8 := dkwJ1_indexOfChar_1 ++ []
def dkwJ1_indexOfChar_0 : List UInt8 := [27, 145, 54, 4, 28, 54, 5, 21, 5, 29, 162, 0, 21, 42, 21, 5, 51, 21, 4, 160, 0, 6, 21, 5]
abbrev dktJ1_indexOfChar_0 : List UInt8 := dkwJ1_indexOfChar_0 ++ dktJ1_indexOfChar_1
theorem dksJ1_indexOfChar_0 : cJ1_indexOfChar.data.toList.drop 0 = dktJ1_indexOfChar_0 := by decide +kernel
theorem dksJ1_indexOfChar_1 : cJ1_indexOfChar.data.toList.drop 24 = dktJ1_indexOfChar_1 := dk_seg dksJ1_indexOfChar_0 24 rfl rfl
theorem dJ1_indexOfChar_0 : decode cJ1_indexOfChar 0 = .ok (.iload_n 1, 1) := dk_27 (dk_at dksJ1_indexOfChar_0 0 rfl rfl)
theorem dJ1_indexOfChar_1 : decode cJ1_indexOfChar 1 = .ok (.i2b, 1) := dk_145 (dk_at dksJ1_indexOfChar_0 1 rfl rfl)
theorem dJ1_indexOfChar_2 : decode cJ1_indexOfChar 2 = .ok (.istore 4, 2) := dk_54 4 (dk_at dksJ1_indexOfChar_0 2 rfl rfl)
theorem dJ1_indexOfChar_4 : decode cJ1_indexOfChar 4 = .ok (.iload_n 2, 1) := dk_28 (dk_at dksJ1_indexOfChar_0 4 rfl rfl)
theorem dJ1_indexOfChar_5 : decode cJ1_indexOfChar 5 = .ok (.istore 5, 2) := dk_54 5 (dk_at dksJ1_indexOfChar_0 5 rfl rfl)
theorem dJ1_indexOfChar_7 : decode cJ1_indexOfChar 7 = .ok (.iload 5, 2) := dk_21 5 (dk_at dksJ1_indexOfChar_0 7 rfl rfl)
theorem dJ1_indexOfChar_9 : decode cJ1_indexOfChar 9 = .ok (.iload_n 3, 1) := dk_29 (dk_at dksJ1_indexOfChar_0 9 rfl rfl)
theorem dJ1_indexOfChar_10 : decode cJ1_indexOfChar 10 = .ok (.if_icmp .ge 21, 3) := dk_162 0 21 (dk_at dksJ1_indexOfChar_0 10 rfl rfl)
theorem dJ1_indexOfChar_13 : decode cJ1_indexOfChar 13 = .ok (.aload_n 0, 1) := dk_42 (dk_at dksJ1_indexOfChar_0 13 rfl rfl)
theorem dJ1_indexOfChar_14 : decode cJ1_indexOfChar 14 = .ok (.iload 5, 2) := dk_21 5 (dk_at dksJ1_indexOfChar_0 14 rfl rfl)
theorem dJ1_indexOfChar_16 : decode cJ1_indexOfChar 16 = .ok (.baload, 1) := dk_51 (dk_at dksJ1_indexOfChar_0 16 rfl rfl)
theorem dJ1_indexOfChar_17 : decode cJ1_indexOfChar 17 = .ok (.iload 4, 2) := dk_21 4 (dk_at dksJ1_indexOfChar_0 17 rfl rfl)
theorem dJ1_indexOfChar_19 : decode cJ1_indexOfChar 19 = .ok (.if_icmp .ne 6, 3) := dk_160 0 6 (dk_at dksJ1_indexOfChar_0 19 rfl rfl)
theorem dJ1_indexOfChar_22 : decode cJ1_indexOfChar 22 = .ok (.iload 5, 2) := dk_21 5 (dk_at dksJ1_indexOfChar_0 22 rfl rfl)
theorem dJ1_indexOfChar_24 : decode cJ1_indexOfChar 24 = .ok (.ireturn, 1) := dk_172 (dk_at dksJ1_indexOfChar_1 0 rfl rfl)
theorem dJ1_indexOfChar_25 : decode cJ1_indexOfChar 25 = .ok (.iinc 5 1, 3) := dk_132 5 1 (dk_at dksJ1_indexOfChar_1 1 rfl rfl)
theorem dJ1_indexOfChar_28 : decode cJ1_indexOfChar 28 = .ok (.goto (-21), 3) := dk_167 255 235 (dk_at dksJ1_indexOfChar_1 4 rfl rfl)
theorem dJ1_indexOfChar_31 : decode cJ1_indexOfChar 31 = .ok (.iconst (-1), 1) := dk_2 (dk_at dksJ1_indexOfChar_1 7 rfl rfl)
theorem dJ1_indexOfChar_32 : decode cJ1_indexOfChar 32 = .ok (.ireturn, 1) := dk_172 (dk_at dksJ1_indexOfChar_1 8 rfl rfl)
theorem q101 : (Jvm.Cond.initialized "java/lang/StringLatin1") ∈ lw_all := lw_g (lw_at lw_m1 10 rfl) rfl
theorem q491 : (Jvm.Cond.static ({ cls := "java/lang/StringLatin1", name := "indexOf", desc := "([BIII)I" } : Jvm.MethodName)) ∈ lw_all := lw_g (lw_at lw_m2 160 rfl) rfl
theorem q492 : (Jvm.Cond.code ({ cls := "java/lang/StringLatin1", name := "indexOf", desc := "([BIII)I" } : Jvm.MethodName) prog_45_method_22_code (4 : Nat) (Option.some Jvm.ClassFile.FieldType.int)) ∈ lw_all := lw_g (lw_at lw_m2 161 rfl) rfl
theorem q493 : (Jvm.Cond.methodLink "java/lang/StringLatin1" (88 : Nat) ({ cls := "java/lang/StringLatin1", name := "canEncode", desc := "(I)Z" } : Jvm.MethodName)) ∈ lw_all := lw_g (lw_at lw_m2 162 rfl) rfl
theorem q494 : (Jvm.Cond.static ({ cls := "java/lang/StringLatin1", name := "canEncode", desc := "(I)Z" } : Jvm.MethodName)) ∈ lw_all := lw_g (lw_at lw_m2 163 rfl) rfl
theorem q495 : (Jvm.Cond.code ({ cls := "java/lang/StringLatin1", name := "canEncode", desc := "(I)Z" } : Jvm.MethodName) prog_45_method_4_code (1 : Nat) (Option.some Jvm.ClassFile.FieldType.boolean)) ∈ lw_all := lw_g (lw_at lw_m2 164 rfl) rfl
theorem q496 : (Jvm.Cond.methodLink "java/lang/StringLatin1" (92 : Nat) ({ cls := "java/lang/Math", name := "max", desc := "(II)I" } : Jvm.MethodName)) ∈ lw_all := lw_g (lw_at lw_m2 165 rfl) rfl
theorem q499 : (Jvm.Cond.methodLink "java/lang/StringLatin1" (38 : Nat) ({ cls := "java/lang/Math", name := "min", desc := "(II)I" } : Jvm.MethodName)) ∈ lw_all := lw_g (lw_at lw_m2 168 rfl) rfl
theorem q502 : (Jvm.Cond.methodLink "java/lang/StringLatin1" (95 : Nat) ({ cls := "java/lang/StringLatin1", name := "indexOfChar", desc := "([BIII)I" } : Jvm.MethodName)) ∈ lw_all := lw_g (lw_at lw_m2 171 rfl) rfl
theorem q503 : (Jvm.Cond.static ({ cls := "java/lang/StringLatin1", name := "indexOfChar", desc := "([BIII)I" } : Jvm.MethodName)) ∈ lw_all := lw_g (lw_at lw_m2 172 rfl) rfl
theorem q504 : (Jvm.Cond.code ({ cls := "java/lang/StringLatin1", name := "indexOfChar", desc := "([BIII)I" } : Jvm.MethodName) prog_45_method_23_code (6 : Nat) (Option.some Jvm.ClassFile.FieldType.int)) ∈ lw_all := lw_g (lw_at lw_m2 173 rfl) rfl
theorem cs_J0_335 : hk_CVS "java/lang/String" 335 yJ0_coder cJ0_coder 1 (some .byte) 0 := ⟨lw_V q486 q487 q488 q100 q489, rfl, by decide, by decide, by decide +kernel⟩
theorem cs_J0_492 : hk_CVS "java/lang/String" 492 yJ0_isLatin1 cJ0_isLatin1 1 (some .boolean) 0 := ⟨lw_V q476 q477 q478 q100 q479, rfl, by decide, by decide, by decide +kernel⟩
theorem cs_J0_505 : hk_CVS "java/lang/String" 505 yJ0_length cJ0_length 1 (some .int) 0 := ⟨lw_V q482 q483 q484 q100 q485, rfl, by decide, by decide, by decide +kernel⟩
theorem cs_J0_633 : hk_CVS "java/lang/String" 633 yJ0_indexOf_2 cJ0_indexOf_2 3 (some .int) 2 := ⟨lw_V q472 q473 q474 q100 q475, rfl, by decide, by decide, by decide +kernel⟩
theorem cs_J0_637 : hk_CS "java/lang/String" 637 yJ1_indexOf cJ1_indexOf 4 (some .int) 4 := ⟨lw_S q490 q491 q101 q492, by decide, by decide, by decide +kernel⟩
theorem cs_J1_38 : hk_CS "java/lang/StringLatin1" 38 yJ2_min cJ2_min 2 (some .int) 2 := ⟨lw_S q499 q500 q102 q501, by decide, by decide, by decide +kernel⟩
theorem cs_J1_88 : hk_CS "java/lang/StringLatin1" 88 yJ1_canEncode cJ1_canEncode 1 (some .boolean) 1 := ⟨lw_S q493 q494 q101 q495, by decide, by decide, by decide +kernel⟩
theorem cs_J1_92 : hk_CS "java/lang/StringLatin1" 92 yJ2_max cJ2_max 2 (some .int) 2 := ⟨lw_S q496 q497 q102 q498, by decide, by decide, by decide +kernel⟩
theorem cs_J1_95 : hk_CS "java/lang/StringLatin1" 95 yJ1_indexOfChar cJ1_indexOfChar 6 (some .int) 4 := ⟨lw_S q502 q503 q101 q504, by decide, by decide, by decide +kernel⟩
def jjJ0_isLatin1 (i : Nat) : Option (Int32) :=
  if (1 : Int32) = 0 then
    some (0 : Int32)
  else
  if (0 : Int32) = 0 then
    some (1 : Int32)
  else
  some (0 : Int32)
abbrev N_jjJ0_isLatin1 (l : Launch) : hk_N := (l, cJ0_isLatin1, "java/lang/String", 1, (some .boolean), 0, 0, false)
set_option maxHeartbeats 4000000 in
theorem wk_jjJ0_isLatin1 {l : Launch} {Gd : hk_G} {st : hk_St} {i : Nat} (hi : i < 4) {r : Int32} (h : jjJ0_isLatin1 i = some r) : hk_Met Gd l yJ0_isLatin1 cJ0_isLatin1 1 (some .boolean) 0 0 [.ref (hk_aK Gd i)] st (some (.int r)) st := by
  refine hk_start "java/lang/String" false (by decide +kernel) rfl (by decide) (Nat.le_of_ble_eq_true rfl) ?_
  show hk_V Gd (N_jjJ0_isLatin1 l) (hk_end Gd st (some (.int r)) st) 0 [(0, .ref (hk_aK Gd i))] [] st
  unfold jjJ0_isLatin1 at h
  refine hs_compact q480 dJ0_isLatin1_0 ?_
  refine hv_if_eq (tgt := 17) dJ0_isLatin1_3 (by decide) (fun c1 => ?_) (fun c1 => ?_)
  · replace h := hq_ip c1 h
    refine hv_iconst (v := 0) dJ0_isLatin1_17 (by decide) ?_
    have h := Option.some.inj h
    subst h
    exact hv_zret (ty := .boolean) rfl rfl dJ0_isLatin1_18
  · replace h := hq_in c1 h
    refine hv_aload_n 0 dJ0_isLatin1_6 rfl rfl ?_
    refine hs_coder hi q2254 dJ0_isLatin1_7 ?_
    refine hv_if_ne (tgt := 17) dJ0_isLatin1_10 (by decide) (fun c2 => ?_) (fun c2 => ?_)
    · replace h := hq_in c2 h
      refine hv_iconst (v := 0) dJ0_isLatin1_17 (by decide) ?_
      have h := Option.some.inj h
      subst h
      exact hv_zret (ty := .boolean) rfl rfl dJ0_isLatin1_18
    · replace h := hq_ip c2 h
      refine hv_iconst (v := 1) dJ0_isLatin1_13 (by decide) ?_
      refine hv_goto (tgt := 18) dJ0_isLatin1_14 (by decide) ?_
      have h := Option.some.inj h
      subst h
      exact hv_zret (ty := .boolean) rfl rfl dJ0_isLatin1_18
def jjJ0_coder (i : Nat) : Option (Int32) :=
  if (1 : Int32) = 0 then
    some (1 : Int32)
  else
  some (0 : Int32)
abbrev N_jjJ0_coder (l : Launch) : hk_N := (l, cJ0_coder, "java/lang/String", 1, (some .byte), 0, 0, false)
set_option maxHeartbeats 4000000 in
theorem wk_jjJ0_coder {l : Launch} {Gd : hk_G} {st : hk_St} {i : Nat} (hi : i < 4) {r : Int32} (h : jjJ0_coder i = some r) : hk_Met Gd l yJ0_coder cJ0_coder 1 (some .byte) 0 0 [.ref (hk_aK Gd i)] st (some (.int r)) st := by
  refine hk_start "java/lang/String" false (by decide +kernel) rfl (by decide) (Nat.le_of_ble_eq_true rfl) ?_
  show hk_V Gd (N_jjJ0_coder l) (hk_end Gd st (some (.int r)) st) 0 [(0, .ref (hk_aK Gd i))] [] st
  unfold jjJ0_coder at h
  refine hs_compact q480 dJ0_coder_0 ?_
  refine hv_if_eq (tgt := 13) dJ0_coder_3 (by decide) (fun c1 => ?_) (fun c1 => ?_)
  · replace h := hq_ip c1 h
    refine hv_iconst (v := 1) dJ0_coder_13 (by decide) ?_
    have h := Option.some.inj h
    subst h
    exact hv_zret (ty := .byte) rfl rfl dJ0_coder_14
  · replace h := hq_in c1 h
    refine hv_aload_n 0 dJ0_coder_6 rfl rfl ?_
    refine hs_coder hi q2254 dJ0_coder_7 ?_
    refine hv_goto (tgt := 14) dJ0_coder_10 (by decide) ?_
    have h := Option.some.inj h
    subst h
    exact hv_zret (ty := .byte) rfl rfl dJ0_coder_14
def jjJ0_length (i : Nat) : Option (Int32) :=
  (jjJ0_coder i).bind fun x1 =>
  some ((hs_len i) >>> (x1 &&& 31))
abbrev N_jjJ0_length (l : Launch) : hk_N := (l, cJ0_length, "java/lang/String", 1, (some .int), 1, 20, false)
set_option maxHeartbeats 4000000 in
theorem wk_jjJ0_length {l : Launch} {Gd : hk_G} {st : hk_St} {i : Nat} (hi : i < 4) {r : Int32} (h : jjJ0_length i = some r) : hk_Met Gd l yJ0_length cJ0_length 1 (some .int) 1 20 [.ref (hk_aK Gd i)] st (some (.int r)) st := by
  refine hk_start "java/lang/String" false (by decide +kernel) rfl (by decide) (Nat.le_of_ble_eq_true rfl) ?_
  show hk_V Gd (N_jjJ0_length l) (hk_end Gd st (some (.int r)) st) 0 [(0, .ref (hk_aK Gd i))] [] st
  unfold jjJ0_length at h
  refine hv_aload_n 0 dJ0_length_0 rfl rfl ?_
  refine hs_value hi q2255 dJ0_length_1 ?_
  refine hs_alen hi dJ0_length_4 ?_
  refine hv_aload_n 0 dJ0_length_5 rfl rfl ?_
  obtain ⟨x1, e_x1, h⟩ := hq_ob h
  refine hv_callVS [] [.int (hs_len i)] [.int x1, .int (hs_len i)] (wk_jjJ0_coder hi e_x1) cs_J0_335 hi rfl ⟨Nat.le_of_ble_eq_true rfl, Nat.le_of_ble_eq_true rfl⟩ rfl (Nat.le_of_ble_eq_true rfl) rfl dJ0_length_6 ?_
  refine hv_ishr dJ0_length_9 ?_
  have h := Option.some.inj h
  subst h
  exact hv_iret rfl dJ0_length_10
def jjJ1_canEncode (p1 : Int32) : Int32 :=
  if p1 < 0 then
    (0 : Int32)
  else
  if (255 : Int32) < p1 then
    (0 : Int32)
  else
  (1 : Int32)
theorem bz_jjJ1_canEncode {p1 : Int32} : jjJ1_canEncode p1 &&& 1 = jjJ1_canEncode p1 := by
  unfold jjJ1_canEncode
  try unfold hk_nm
  repeat' split
  all_goals first | rfl
abbrev N_jjJ1_canEncode (l : Launch) : hk_N := (l, cJ1_canEncode, "java/lang/StringLatin1", 1, (some .boolean), 0, 0, false)
set_option maxHeartbeats 4000000 in
theorem wk_jjJ1_canEncode {l : Launch} {Gd : hk_G} {st : hk_St} {p1 : Int32} {r : Int32} (h : jjJ1_canEncode p1 = r) : hk_Met Gd l yJ1_canEncode cJ1_canEncode 1 (some .boolean) 0 0 [.int p1] st (some (.int r)) st := by
  refine hk_start "java/lang/StringLatin1" false (by decide +kernel) rfl (by decide) (Nat.le_of_ble_eq_true rfl) ?_
  show hk_V Gd (N_jjJ1_canEncode l) (hk_end Gd st (some (.int r)) st) 0 [(0, .int p1)] [] st
  unfold jjJ1_canEncode at h
  refine hv_iload_n 0 dJ1_canEncode_0 rfl rfl ?_
  refine hv_if_lt (tgt := 15) dJ1_canEncode_1 (by decide) (fun c1 => ?_) (fun c1 => ?_)
  · replace h := hq_ip c1 h
    refine hv_iconst (v := 0) dJ1_canEncode_15 (by decide) ?_
    subst h
    exact hv_zret (ty := .boolean) rfl rfl dJ1_canEncode_16
  · replace h := hq_in c1 h
    refine hv_iload_n 0 dJ1_canEncode_4 rfl rfl ?_
    refine hv_sipush (v := 255) dJ1_canEncode_5 (by decide) ?_
    refine hv_icmp_gt (tgt := 15) dJ1_canEncode_8 (by decide) (fun c2 => ?_) (fun c2 => ?_)
    · replace h := hq_ip c2 h
      refine hv_iconst (v := 0) dJ1_canEncode_15 (by decide) ?_
      subst h
      exact hv_zret (ty := .boolean) rfl rfl dJ1_canEncode_16
    · replace h := hq_in c2 h
      refine hv_iconst (v := 1) dJ1_canEncode_11 (by decide) ?_
      refine hv_goto (tgt := 16) dJ1_canEncode_12 (by decide) ?_
      subst h
      exact hv_zret (ty := .boolean) rfl rfl dJ1_canEncode_16
def j_max_i (p1 : Int32) (p2 : Int32) : Int32 :=
  if p1 < p2 then
    p2
  else
  p1
abbrev N_j_max_i (l : Launch) : hk_N := (l, cJ2_max, "java/lang/Math", 2, (some .int), 0, 0, false)
set_option maxHeartbeats 4000000 in
theorem wk_j_max_i {l : Launch} {Gd : hk_G} {st : hk_St} {p1 : Int32} {p2 : Int32} {r : Int32} (h : j_max_i p1 p2 = r) : hk_Met Gd l yJ2_max cJ2_max 2 (some .int) 0 0 [.int p1, .int p2] st (some (.int r)) st := by
  refine hk_start "java/lang/Math" false (by decide +kernel) rfl (by decide) (Nat.le_of_ble_eq_true rfl) ?_
  show hk_V Gd (N_j_max_i l) (hk_end Gd st (some (.int r)) st) 0 [(0, .int p1), (1, .int p2)] [] st
  unfold j_max_i at h
  refine hv_iload_n 0 dJ2_max_0 rfl rfl ?_
  refine hv_iload_n 1 dJ2_max_1 rfl rfl ?_
  refine hv_icmp_lt (tgt := 9) dJ2_max_2 (by decide) (fun c1 => ?_) (fun c1 => ?_)
  · replace h := hq_ip c1 h
    refine hv_iload_n 1 dJ2_max_9 rfl rfl ?_
    subst h
    exact hv_iret rfl dJ2_max_10
  · replace h := hq_in c1 h
    refine hv_iload_n 0 dJ2_max_5 rfl rfl ?_
    refine hv_goto (tgt := 10) dJ2_max_6 (by decide) ?_
    subst h
    exact hv_iret rfl dJ2_max_10
def j_min_i (p1 : Int32) (p2 : Int32) : Int32 :=
  if p2 < p1 then
    p2
  else
  p1
abbrev N_j_min_i (l : Launch) : hk_N := (l, cJ2_min, "java/lang/Math", 2, (some .int), 0, 0, false)
set_option maxHeartbeats 4000000 in
theorem wk_j_min_i {l : Launch} {Gd : hk_G} {st : hk_St} {p1 : Int32} {p2 : Int32} {r : Int32} (h : j_min_i p1 p2 = r) : hk_Met Gd l yJ2_min cJ2_min 2 (some .int) 0 0 [.int p1, .int p2] st (some (.int r)) st := by
  refine hk_start "java/lang/Math" false (by decide +kernel) rfl (by decide) (Nat.le_of_ble_eq_true rfl) ?_
  show hk_V Gd (N_j_min_i l) (hk_end Gd st (some (.int r)) st) 0 [(0, .int p1), (1, .int p2)] [] st
  unfold j_min_i at h
  refine hv_iload_n 0 dJ2_min_0 rfl rfl ?_
  refine hv_iload_n 1 dJ2_min_1 rfl rfl ?_
  refine hv_icmp_gt (tgt := 9) dJ2_min_2 (by decide) (fun c1 => ?_) (fun c1 => ?_)
  · replace h := hq_ip c1 h
    refine hv_iload_n 1 dJ2_min_9 rfl rfl ?_
    subst h
    exact hv_iret rfl dJ2_min_10
  · replace h := hq_in c1 h
    refine hv_iload_n 0 dJ2_min_5 rfl rfl ?_
    refine hv_goto (tgt := 10) dJ2_min_6 (by decide) ?_
    subst h
    exact hv_iret rfl dJ2_min_10
def jjJ1_indexOfChar_L7b (i : Nat) (p2 : Int32) (p3 : Int32) (p4 : Int32) (v1 : Int32) (e0 : Unit → Option (Int32)) (rc : Int32 → Option (Int32)) (v2 : Int32) : Option (Int32) :=
  if p4 ≤ v2 then
    e0 ()
  else
  hk_gd (hk_in v2 (hk_sl.getD i 0)) <|
  if (hs_byt i v2.toNatClampNeg) = v1 then
    some v2
  else
  hk_nm (v2 + (1 : Int32)) fun x6 =>
    rc x6
def jjJ1_indexOfChar_L7 (i : Nat) (p2 : Int32) (p3 : Int32) (p4 : Int32) (v1 : Int32) (e0 : Unit → Option (Int32)) : Nat → Int32 → Option (Int32)
  | 0 => fun _ => none
  | n + 1 => jjJ1_indexOfChar_L7b i p2 p3 p4 v1 e0 (jjJ1_indexOfChar_L7 i p2 p3 p4 v1 e0 n)
def jjJ1_indexOfChar (i : Nat) (p2 : Int32) (p3 : Int32) (p4 : Int32) : Option (Int32) :=
  jjJ1_indexOfChar_L7 i p2 p3 p4 p2.toInt8.toInt32 (fun (_ : Unit) =>
    some (-1 : Int32)) hk_F p3 
abbrev N_jjJ1_indexOfChar (l : Launch) : hk_N := (l, cJ1_indexOfChar, "java/lang/StringLatin1", 6, (some .int), 0, 0, false)
set_option maxHeartbeats 4000000 in
theorem wk_jjJ1_indexOfChar_L7b {l : Launch} {Gd : hk_G} {st : hk_St} {i : Nat} (hi : i < 4) {p2 : Int32} {p3 : Int32} {p4 : Int32} {r : Int32} {v1 : Int32} {e0 : Unit → Option (Int32)} {rc : Int32 → Option (Int32)} (hrc : ∀ (v2 : Int32), rc v2 = some r → hk_V Gd (N_jjJ1_indexOfChar l) (hk_end Gd st (some (.int r)) st) 7 [(0, .ref (hk_aV Gd i)), (3, .int p4), (4, .int v1), (5, .int v2)] [] st) (he0 : ∀ (_ : Unit), e0 () = some r → hk_V Gd (N_jjJ1_indexOfChar l) (hk_end Gd st (some (.int r)) st) 31 [] [] st) {v2 : Int32} (h : jjJ1_indexOfChar_L7b i p2 p3 p4 v1 e0 rc v2 = some r) : hk_V Gd (N_jjJ1_indexOfChar l) (hk_end Gd st (some (.int r)) st) 7 [(0, .ref (hk_aV Gd i)), (3, .int p4), (4, .int v1), (5, .int v2)] [] st := by
  unfold jjJ1_indexOfChar_L7b at h
  refine hv_iload 3 dJ1_indexOfChar_7 rfl ?_
  refine hv_iload_n 1 dJ1_indexOfChar_9 rfl rfl ?_
  refine hv_icmp_ge (tgt := 31) dJ1_indexOfChar_10 (by decide) (fun c3 => ?_) (fun c3 => ?_)
  · replace h := hq_ip c3 h
    refine hv_sub [] rfl ?_
    exact he0 () h
  · replace h := hq_in c3 h
    refine hv_aload_n 0 dJ1_indexOfChar_13 rfl rfl ?_
    refine hv_iload 3 dJ1_indexOfChar_14 rfl ?_
    obtain ⟨g4, h⟩ := hq_gd h
    refine hs_bald hi g4 dJ1_indexOfChar_16 ?_
    refine hv_iload 2 dJ1_indexOfChar_17 rfl ?_
    refine hv_icmp_ne (tgt := 25) dJ1_indexOfChar_19 (by decide) (fun c5 => ?_) (fun c5 => ?_)
    · replace h := hq_in c5 h
      obtain ⟨x6, e_x6, h⟩ := hq_nm h
      refine hv_iinc (v := x6) (L' := [(5, .int x6), (0, .ref (hk_aV Gd i)), (3, .int p4), (4, .int v1)]) 3 dJ1_indexOfChar_25 rfl (by rw [e_x6]; rfl) (Nat.le_of_ble_eq_true rfl) rfl ?_
      refine hv_goto (tgt := 7) dJ1_indexOfChar_28 (by decide) ?_
      refine hv_sub [1, 2, 3, 0] rfl ?_
      exact hrc _ h
    · replace h := hq_ip c5 h
      refine hv_iload 3 dJ1_indexOfChar_22 rfl ?_
      have h := Option.some.inj h
      subst h
      exact hv_iret rfl dJ1_indexOfChar_24
theorem wk_jjJ1_indexOfChar_L7 {l : Launch} {Gd : hk_G} {st : hk_St} {i : Nat} (hi : i < 4) {p2 : Int32} {p3 : Int32} {p4 : Int32} {r : Int32} {v1 : Int32} {e0 : Unit → Option (Int32)} (he0 : ∀ (_ : Unit), e0 () = some r → hk_V Gd (N_jjJ1_indexOfChar l) (hk_end Gd st (some (.int r)) st) 31 [] [] st) : ∀ (n : Nat) (v2 : Int32), jjJ1_indexOfChar_L7 i p2 p3 p4 v1 e0 n v2 = some r → hk_V Gd (N_jjJ1_indexOfChar l) (hk_end Gd st (some (.int r)) st) 7 [(0, .ref (hk_aV Gd i)), (3, .int p4), (4, .int v1), (5, .int v2)] [] st := by
  intro n
  induction n with
  | zero => intro v2 h; cases h
  | succ n ih => intro v2 h; exact wk_jjJ1_indexOfChar_L7b hi ih he0 h
set_option maxHeartbeats 4000000 in
theorem wk_jjJ1_indexOfChar {l : Launch} {Gd : hk_G} {st : hk_St} {i : Nat} (hi : i < 4) {p2 : Int32} {p3 : Int32} {p4 : Int32} {r : Int32} (h : jjJ1_indexOfChar i p2 p3 p4 = some r) : hk_Met Gd l yJ1_indexOfChar cJ1_indexOfChar 6 (some .int) 0 0 [.ref (hk_aV Gd i), .int p2, .int p3, .int p4] st (some (.int r)) st := by
  refine hk_start "java/lang/StringLatin1" false (by decide +kernel) rfl (by decide) (Nat.le_of_ble_eq_true rfl) ?_
  show hk_V Gd (N_jjJ1_indexOfChar l) (hk_end Gd st (some (.int r)) st) 0 [(0, .ref (hk_aV Gd i)), (1, .int p2), (2, .int p3), (3, .int p4)] [] st
  unfold jjJ1_indexOfChar at h
  refine hv_iload_n 1 dJ1_indexOfChar_0 rfl rfl ?_
  refine hv_i2b dJ1_indexOfChar_1 ?_
  refine hv_istore (L' := [(4, .int p2.toInt8.toInt32), (0, .ref (hk_aV Gd i)), (1, .int p2), (2, .int p3), (3, .int p4)]) dJ1_indexOfChar_2 (Nat.le_of_ble_eq_true rfl) rfl ?_
  refine hv_iload_n 3 dJ1_indexOfChar_4 rfl rfl ?_
  refine hv_istore (L' := [(5, .int p3), (4, .int p2.toInt8.toInt32), (0, .ref (hk_aV Gd i)), (1, .int p2), (2, .int p3), (3, .int p4)]) dJ1_indexOfChar_5 (Nat.le_of_ble_eq_true rfl) rfl ?_
  refine hv_sub [2, 5, 1, 0] rfl ?_
  refine wk_jjJ1_indexOfChar_L7 hi ?_ hk_F _ h
  · intro _ h
    refine hv_iconst (v := -1) dJ1_indexOfChar_31 (by decide) ?_
    have h := Option.some.inj h
    subst h
    exact hv_iret rfl dJ1_indexOfChar_32
def jjJ1_indexOf (i : Nat) (p2 : Int32) (p3 : Int32) (p4 : Int32) : Option (Int32) :=
  if (jjJ1_canEncode p2) = 0 then
    some (-1 : Int32)
  else
  hk_nm (j_max_i p3 (0 : Int32)) fun x2 =>
    hk_nm (j_min_i p4 (hs_len i)) fun x3 =>
    if x2 < x3 then
      (jjJ1_indexOfChar i p2 x2 x3).bind fun x5 =>
      some x5
    else
    some (-1 : Int32)
abbrev N_jjJ1_indexOf (l : Launch) : hk_N := (l, cJ1_indexOf, "java/lang/StringLatin1", 4, (some .int), 1, 25, false)
set_option maxHeartbeats 4000000 in
theorem wk_jjJ1_indexOf {l : Launch} {Gd : hk_G} {st : hk_St} {i : Nat} (hi : i < 4) {p2 : Int32} {p3 : Int32} {p4 : Int32} {r : Int32} (h : jjJ1_indexOf i p2 p3 p4 = some r) : hk_Met Gd l yJ1_indexOf cJ1_indexOf 4 (some .int) 1 25 [.ref (hk_aV Gd i), .int p2, .int p3, .int p4] st (some (.int r)) st := by
  refine hk_start "java/lang/StringLatin1" false (by decide +kernel) rfl (by decide) (Nat.le_of_ble_eq_true rfl) ?_
  show hk_V Gd (N_jjJ1_indexOf l) (hk_end Gd st (some (.int r)) st) 0 [(0, .ref (hk_aV Gd i)), (1, .int p2), (2, .int p3), (3, .int p4)] [] st
  unfold jjJ1_indexOf at h
  refine hv_iload_n 1 dJ1_indexOf_0 rfl rfl ?_
  refine hv_callS [.int p2] [] [.int (jjJ1_canEncode p2)] (wk_jjJ1_canEncode rfl) cs_J1_88 rfl ⟨Nat.le_of_ble_eq_true rfl, Nat.le_of_ble_eq_true rfl⟩ rfl (Nat.le_of_ble_eq_true rfl) rfl dJ1_indexOf_1 ?_
  refine hv_if_ne (tgt := 9) dJ1_indexOf_4 (by decide) (fun c1 => ?_) (fun c1 => ?_)
  · replace h := hq_in c1 h
    refine hv_iload_n 2 dJ1_indexOf_9 rfl rfl ?_
    refine hv_iconst (v := 0) dJ1_indexOf_10 (by decide) ?_
    refine hv_callS [.int p3, .int (0 : Int32)] [] [.int (j_max_i p3 (0 : Int32))] (wk_j_max_i rfl) cs_J1_92 rfl ⟨Nat.le_of_ble_eq_true rfl, Nat.le_of_ble_eq_true rfl⟩ rfl (Nat.le_of_ble_eq_true rfl) rfl dJ1_indexOf_11 ?_
    obtain ⟨x2, e_x2, h⟩ := hq_nm h
    rw [← e_x2]
    refine hv_istore_n (L' := [(2, .int x2), (0, .ref (hk_aV Gd i)), (1, .int p2), (3, .int p4)]) dJ1_indexOf_14 rfl (Nat.le_of_ble_eq_true rfl) rfl ?_
    refine hv_iload_n 3 dJ1_indexOf_15 rfl rfl ?_
    refine hv_aload_n 1 dJ1_indexOf_16 rfl rfl ?_
    refine hs_alen hi dJ1_indexOf_17 ?_
    refine hv_callS [.int p4, .int (hs_len i)] [] [.int (j_min_i p4 (hs_len i))] (wk_j_min_i rfl) cs_J1_38 rfl ⟨Nat.le_of_ble_eq_true rfl, Nat.le_of_ble_eq_true rfl⟩ rfl (Nat.le_of_ble_eq_true rfl) rfl dJ1_indexOf_18 ?_
    obtain ⟨x3, e_x3, h⟩ := hq_nm h
    rw [← e_x3]
    refine hv_istore_n (L' := [(3, .int x3), (2, .int x2), (0, .ref (hk_aV Gd i)), (1, .int p2)]) dJ1_indexOf_21 rfl (Nat.le_of_ble_eq_true rfl) rfl ?_
    refine hv_iload_n 1 dJ1_indexOf_22 rfl rfl ?_
    refine hv_iload_n 0 dJ1_indexOf_23 rfl rfl ?_
    refine hv_icmp_lt (tgt := 29) dJ1_indexOf_24 (by decide) (fun c4 => ?_) (fun c4 => ?_)
    · replace h := hq_ip c4 h
      refine hv_aload_n 2 dJ1_indexOf_29 rfl rfl ?_
      refine hv_iload_n 3 dJ1_indexOf_30 rfl rfl ?_
      refine hv_iload_n 1 dJ1_indexOf_31 rfl rfl ?_
      refine hv_iload_n 0 dJ1_indexOf_32 rfl rfl ?_
      obtain ⟨x5, e_x5, h⟩ := hq_ob h
      refine hv_callS [.ref (hk_aV Gd i), .int p2, .int x2, .int x3] [] [.int x5] (wk_jjJ1_indexOfChar hi e_x5) cs_J1_95 rfl ⟨Nat.le_of_ble_eq_true rfl, Nat.le_of_ble_eq_true rfl⟩ rfl (Nat.le_of_ble_eq_true rfl) rfl dJ1_indexOf_33 ?_
      have h := Option.some.inj h
      subst h
      exact hv_iret rfl dJ1_indexOf_36
    · replace h := hq_in c4 h
      refine hv_iconst (v := -1) dJ1_indexOf_27 (by decide) ?_
      have h := Option.some.inj h
      subst h
      exact hv_iret rfl dJ1_indexOf_28
  · replace h := hq_ip c1 h
    refine hv_iconst (v := -1) dJ1_indexOf_7 (by decide) ?_
    have h := Option.some.inj h
    subst h
    exact hv_iret rfl dJ1_indexOf_8
def jjJ0_indexOf2 (i : Nat) (p1 : Int32) (p2 : Int32) : Option (Int32) :=
  (jjJ0_isLatin1 i).bind fun x1 =>
  if x1 = 0 then
    (jjJ0_length i).bind fun x3 =>
    none
  else
  (jjJ0_length i).bind fun x4 =>
  (jjJ1_indexOf i p1 p2 x4).bind fun x5 =>
  some x5
abbrev N_jjJ0_indexOf2 (l : Launch) : hk_N := (l, cJ0_indexOf_2, "java/lang/String", 3, (some .int), 20, 600, false)
set_option maxHeartbeats 4000000 in
theorem wk_jjJ0_indexOf2 {l : Launch} {Gd : hk_G} {st : hk_St} {i : Nat} (hi : i < 4) {p1 : Int32} {p2 : Int32} {r : Int32} (h : jjJ0_indexOf2 i p1 p2 = some r) : hk_Met Gd l yJ0_indexOf_2 cJ0_indexOf_2 3 (some .int) 20 600 [.ref (hk_aK Gd i), .int p1, .int p2] st (some (.int r)) st := by
  refine hk_start "java/lang/String" false (by decide +kernel) rfl (by decide) (Nat.le_of_ble_eq_true rfl) ?_
  show hk_V Gd (N_jjJ0_indexOf2 l) (hk_end Gd st (some (.int r)) st) 0 [(0, .ref (hk_aK Gd i)), (1, .int p1), (2, .int p2)] [] st
  unfold jjJ0_indexOf2 at h
  refine hv_aload_n 0 dJ0_indexOf_2_0 rfl rfl ?_
  obtain ⟨x1, e_x1, h⟩ := hq_ob h
  refine hv_callVS [] [] [.int x1] (wk_jjJ0_isLatin1 hi e_x1) cs_J0_492 hi rfl ⟨Nat.le_of_ble_eq_true rfl, Nat.le_of_ble_eq_true rfl⟩ rfl (Nat.le_of_ble_eq_true rfl) rfl dJ0_indexOf_2_1 ?_
  refine hv_if_eq (tgt := 23) dJ0_indexOf_2_4 (by decide) (fun c2 => ?_) (fun c2 => ?_)
  · replace h := hq_ip c2 h
    refine hv_aload_n 0 dJ0_indexOf_2_23 rfl rfl ?_
    refine hs_value hi q2255 dJ0_indexOf_2_24 ?_
    refine hv_iload_n 1 dJ0_indexOf_2_27 rfl rfl ?_
    refine hv_iload_n 2 dJ0_indexOf_2_28 rfl rfl ?_
    refine hv_aload_n 0 dJ0_indexOf_2_29 rfl rfl ?_
    obtain ⟨x3, e_x3, h⟩ := hq_ob h
    refine hv_callVS [] [.int p2, .int p1, .ref (hk_aV Gd i)] [.int x3, .int p2, .int p1, .ref (hk_aV Gd i)] (wk_jjJ0_length hi e_x3) cs_J0_505 hi rfl ⟨Nat.le_of_ble_eq_true rfl, Nat.le_of_ble_eq_true rfl⟩ rfl (Nat.le_of_ble_eq_true rfl) rfl dJ0_indexOf_2_30 ?_
    cases h
  · replace h := hq_in c2 h
    refine hv_aload_n 0 dJ0_indexOf_2_7 rfl rfl ?_
    refine hs_value hi q2255 dJ0_indexOf_2_8 ?_
    refine hv_iload_n 1 dJ0_indexOf_2_11 rfl rfl ?_
    refine hv_iload_n 2 dJ0_indexOf_2_12 rfl rfl ?_
    refine hv_aload_n 0 dJ0_indexOf_2_13 rfl rfl ?_
    obtain ⟨x4, e_x4, h⟩ := hq_ob h
    refine hv_callVS [] [.int p2, .int p1, .ref (hk_aV Gd i)] [.int x4, .int p2, .int p1, .ref (hk_aV Gd i)] (wk_jjJ0_length hi e_x4) cs_J0_505 hi rfl ⟨Nat.le_of_ble_eq_true rfl, Nat.le_of_ble_eq_true rfl⟩ rfl (Nat.le_of_ble_eq_true rfl) rfl dJ0_indexOf_2_14 ?_
    obtain ⟨x5, e_x5, h⟩ := hq_ob h
    refine hv_callS [.ref (hk_aV Gd i), .int p1, .int p2, .int x4] [] [.int x5] (wk_jjJ1_indexOf hi e_x5) cs_J0_637 rfl ⟨Nat.le_of_ble_eq_true rfl, Nat.le_of_ble_eq_true rfl⟩ rfl (Nat.le_of_ble_eq_true rfl) rfl dJ0_indexOf_2_17 ?_
    refine hv_goto (tgt := 36) dJ0_indexOf_2_20 (by decide) ?_
    have h := Option.some.inj h
    subst h
    exact hv_iret rfl dJ0_indexOf_2_36
def jjJ0_indexOf (i : Nat) (p1 : Int32) : Option (Int32) :=
  (jjJ0_indexOf2 i p1 (0 : Int32)).bind fun x1 =>
  some x1
abbrev N_jjJ0_indexOf (l : Launch) : hk_N := (l, cJ0_indexOf, "java/lang/String", 2, (some .int), 21, 622, false)
set_option maxHeartbeats 4000000 in
theorem wk_jjJ0_indexOf {l : Launch} {Gd : hk_G} {st : hk_St} {i : Nat} (hi : i < 4) {p1 : Int32} {r : Int32} (h : jjJ0_indexOf i p1 = some r) : hk_Met Gd l yJ0_indexOf cJ0_indexOf 2 (some .int) 21 622 [.ref (hk_aK Gd i), .int p1] st (some (.int r)) st := by
  refine hk_start "java/lang/String" false (by decide +kernel) rfl (by decide) (Nat.le_of_ble_eq_true rfl) ?_
  show hk_V Gd (N_jjJ0_indexOf l) (hk_end Gd st (some (.int r)) st) 0 [(0, .ref (hk_aK Gd i)), (1, .int p1)] [] st
  unfold jjJ0_indexOf at h
  refine hv_aload_n 0 dJ0_indexOf_0 rfl rfl ?_
  refine hv_iload_n 1 dJ0_indexOf_1 rfl rfl ?_
  refine hv_iconst (v := 0) dJ0_indexOf_2 (by decide) ?_
  obtain ⟨x1, e_x1, h⟩ := hq_ob h
  refine hv_callVS [.int p1, .int (0 : Int32)] [] [.int x1] (wk_jjJ0_indexOf2 hi e_x1) cs_J0_633 hi rfl ⟨Nat.le_of_ble_eq_true rfl, Nat.le_of_ble_eq_true rfl⟩ rfl (Nat.le_of_ble_eq_true rfl) rfl dJ0_indexOf_3 ?_
  have h := Option.some.inj h
  subst h
  exact hv_iret rfl dJ0_indexOf_6
