/-! HeadReckonsModel -/
set_option maxRecDepth 100000
def RX4 : String := "HeadReckonsModel"
def TX4 : u_T := fun k => match k with
  | 0 => ("HeadReckonsModel", "may", "[I", true)
  | 1 => ("HeadReckonsModel", "changeAt", "[I", true)
  | 2 => ("HeadReckonsModel", "changeWas", "[I", true)
  | 3 => ("HeadReckonsModel", "changeIs", "[I", true)
  | 4 => ("HeadReckonsModel", "keptMany", "I", false)
  | 5 => ("HeadReckonsModel", "done", "I", false)
  | 6 => ("HeadReckonsModel", "tape", "[I", true)
  | 7 => ("HeadReckonsModel", "tapeMany", "I", false)
  | 8 => ("HeadReckonsModel", "text", "[I", true)
  | 9 => ("HeadReckonsModel", "textMany", "I", false)
  | 10 => ("HeadReckonsModel", "base", "I", false)
  | 11 => ("HeadReckonsModel", "at", "I", false)
  | 12 => ("HeadReckonsModel", "ends", "I", false)
  | 13 => ("HeadReckonsModel", "fault", "I", false)
  | 14 => ("HeadReckonsModel", "opened", "I", false)
  | 15 => ("HeadReckonsModel", "names", "[I", true)
  | 16 => ("HeadReckonsModel", "heads", "I", false)
  | 17 => ("HeadReckonsModel", "readHead", "[I", true)
  | 18 => ("HeadReckonsModel", "pairs", "[I", true)
  | 19 => ("HeadReckonsModel", "pairOf", "[I", true)
  | 20 => ("HeadReckonsModel", "askedOf", "[I", true)
  | 21 => ("HeadReckonsModel", "actMany", "I", false)
  | 22 => ("HeadReckonsModel", "sortOf", "[I", true)
  | 23 => ("HeadReckonsModel", "makes", "[I", true)
  | 24 => ("HeadReckonsModel", "lengthOf", "[I", true)
  | 25 => ("HeadReckonsModel", "heldBehind", "[I", true)
  | 26 => ("HeadReckonsModel", "slipOf", "[I", true)
  | 27 => ("HeadReckonsModel", "noughts", "[I", true)
  | 28 => ("HeadReckonsModel", "held", "I", false)
  | 29 => ("HeadReckonsModel", "running", "I", false)
  | 30 => ("HeadReckonsModel", "headNow", "I", false)
  | 31 => ("HeadReckonsModel", "tableNow", "I", false)
  | 32 => ("HeadReckonsModel", "rowsMade", "[I", true)
  | 33 => ("HeadReckonsModel", "seenMany", "I", false)
  | 34 => ("HeadReckonsModel", "seenAsk", "[I", true)
  | 35 => ("HeadReckonsModel", "seenTenths", "[I", true)
  | 36 => ("HeadReckonsModel", "seenAnswer", "[I", true)
  | 37 => ("HeadReckonsModel", "told", "I", false)
  | 38 => ("HeadReckonsModel", "toldAsk", "[I", true)
  | 39 => ("HeadReckonsModel", "wasAsked", "[I", true)
  | 40 => ("HeadReckonsModel", "wasPairs", "I", false)
  | 41 => ("HeadReckonsModel", "order", "[I", true)
  | 42 => ("HeadReckonsModel", "bestSum", "I", false)
  | 43 => ("HeadReckonsModel", "bestDigits", "I", false)
  | 44 => ("HeadReckonsModel", "leastFirst", "J", false)
  | 45 => ("HeadReckonsModel", "bodies", "I", false)
  | 46 => ("HeadReckonsModel", "bodyKind", "[I", true)
  | 47 => ("HeadReckonsModel", "trace", "[I", true)
  | 48 => ("HeadReckonsModel", "ran", "I", false)
  | 49 => ("HeadReckonsModel", "ownKind", "I", false)
  | 50 => ("HeadReckonsModel", "ownNumber", "I", false)
  | 51 => ("HeadReckonsModel", "shelf", "[I", true)
  | 52 => ("HeadReckonsModel", "many", "[I", true)
  | 53 => ("HeadReckonsModel", "items", "[J", true)
  | _ => ("HeadReckonsModel", "carried", "[J", true)
def tyX4 : Nat → FieldType := fun k => match k with
  | 0 => .array .int
  | 1 => .array .int
  | 2 => .array .int
  | 3 => .array .int
  | 4 => .int
  | 5 => .int
  | 6 => .array .int
  | 7 => .int
  | 8 => .array .int
  | 9 => .int
  | 10 => .int
  | 11 => .int
  | 12 => .int
  | 13 => .int
  | 14 => .int
  | 15 => .array .int
  | 16 => .int
  | 17 => .array .int
  | 18 => .array .int
  | 19 => .array .int
  | 20 => .array .int
  | 21 => .int
  | 22 => .array .int
  | 23 => .array .int
  | 24 => .array .int
  | 25 => .array .int
  | 26 => .array .int
  | 27 => .array .int
  | 28 => .int
  | 29 => .int
  | 30 => .int
  | 31 => .int
  | 32 => .array .int
  | 33 => .int
  | 34 => .array .int
  | 35 => .array .int
  | 36 => .array .int
  | 37 => .int
  | 38 => .array .int
  | 39 => .array .int
  | 40 => .int
  | 41 => .array .int
  | 42 => .int
  | 43 => .int
  | 44 => .long
  | 45 => .int
  | 46 => .array .int
  | 47 => .array .int
  | 48 => .int
  | 49 => .int
  | 50 => .int
  | 51 => .array .int
  | 52 => .array .int
  | 53 => .array .long
  | _ => .array .long
abbrev wsX40 : List Cond := u_ws RX4 TX4 55
set_option maxRecDepth 100000 in
theorem nmX4 : ∀ a, a < 55 → ∀ b, b < 55 → a ≠ b → (TX4 a).2.1 ≠ (TX4 b).2.1 := by decide +kernel
set_option maxRecDepth 100000 in
theorem tyX4_ok : ∀ k, k < 55 → parseFieldDescriptor (TX4 k).2.2.1 = some (tyX4 k) := by decide +kernel
abbrev cX4_init : ByteArray := prog_34_method_3_code
def yX4_init : MethodName := ⟨RX4, "<init>", "()V"⟩
def dkwX4_init_11 : List UInt8 := [42, 180, 0, 88, 27, 2, 79, 132, 1, 1, 167, 255, 240, 42, 2, 181, 0, 101, 177]
abbrev dktX4_init_11 : List UInt8 := dkwX4_init_11 ++ []
def dkwX4_init_10 : List UInt8 := [17, 1, 104, 188, 11, 181, 0, 94, 42, 16, 60, 188, 11, 181, 0, 98, 3, 60, 27, 16, 6, 162, 0, 16]
abbrev dktX4_init_10 : List UInt8 := dkwX4_init_10 ++ dktX4_init_11
def dkwX4_init_9 : List UInt8 := [16, 24, 188, 10, 181, 0, 85, 42, 16, 6, 188, 10, 181, 0, 88, 42, 16, 6, 188, 10, 181, 0, 91, 42]
abbrev dktX4_init_9 : List UInt8 := dkwX4_init_9 ++ dktX4_init_10
def dkwX4_init_8 : List UInt8 := [16, 60, 188, 10, 181, 0, 76, 42, 8, 188, 10, 181, 0, 79, 42, 16, 50, 188, 10, 181, 0, 82, 42]
abbrev dktX4_init_8 : List UInt8 := dkwX4_init_8 ++ dktX4_init_9
def dkwX4_init_7 : List UInt8 := [16, 40, 188, 10, 181, 0, 67, 42, 16, 40, 188, 10, 181, 0, 70, 42, 16, 8, 188, 10, 181, 0, 73, 42]
abbrev dktX4_init_7 : List UInt8 := dkwX4_init_7 ++ dktX4_init_8
def dkwX4_init_6 : List UInt8 := [17, 0, 200, 188, 10, 181, 0, 58, 42, 7, 188, 10, 181, 0, 61, 42, 16, 40, 188, 10, 181, 0, 64, 42]
abbrev dktX4_init_6 : List UInt8 := dkwX4_init_6 ++ dktX4_init_7
def dkwX4_init_5 : List UInt8 := [181, 0, 49, 42, 17, 0, 200, 188, 10, 181, 0, 52, 42, 17, 0, 200, 188, 10, 181, 0, 55, 42]
abbrev dktX4_init_5 : List UInt8 := dkwX4_init_5 ++ dktX4_init_6
def dkwX4_init_4 : List UInt8 := [17, 0, 200, 188, 10, 181, 0, 43, 42, 17, 0, 200, 188, 10, 181, 0, 46, 42, 17, 0, 200, 188, 10]
abbrev dktX4_init_4 : List UInt8 := dkwX4_init_4 ++ dktX4_init_5
def dkwX4_init_3 : List UInt8 := [188, 10, 181, 0, 34, 42, 17, 1, 104, 188, 10, 181, 0, 37, 42, 17, 1, 104, 188, 10, 181, 0, 40, 42]
abbrev dktX4_init_3 : List UInt8 := dkwX4_init_3 ++ dktX4_init_4
def dkwX4_init_2 : List UInt8 := [188, 10, 181, 0, 25, 42, 16, 8, 188, 10, 181, 0, 28, 42, 8, 188, 10, 181, 0, 31, 42, 16, 6]
abbrev dktX4_init_2 : List UInt8 := dkwX4_init_2 ++ dktX4_init_3
def dkwX4_init_1 : List UInt8 := [188, 10, 181, 0, 16, 42, 16, 40, 188, 10, 181, 0, 19, 42, 16, 120, 188, 10, 181, 0, 22, 42, 16, 120]
abbrev dktX4_init_1 : List UInt8 := dkwX4_init_1 ++ dktX4_init_2
def dkwX4_init_0 : List UInt8 := [42, 183, 0, 1, 42, 16, 30, 188, 10, 181, 0, 9, 42, 16, 40, 188, 10, 181, 0, 13, 42, 16, 40]
abbrev dktX4_init_0 : List UInt8 := dkwX4_init_0 ++ dktX4_init_1
theorem dksX4_init_0 : cX4_init.data.toList.drop 0 = dktX4_init_0 := by decide +kernel
theorem dksX4_init_1 : cX4_init.data.toList.drop 23 = dktX4_init_1 := dk_seg dksX4_init_0 23 rfl rfl
theorem dksX4_init_2 : cX4_init.data.toList.drop 47 = dktX4_init_2 := dk_seg dksX4_init_1 24 rfl rfl
theorem dksX4_init_3 : cX4_init.data.toList.drop 70 = dktX4_init_3 := dk_seg dksX4_init_2 23 rfl rfl
theorem dksX4_init_4 : cX4_init.data.toList.drop 94 = dktX4_init_4 := dk_seg dksX4_init_3 24 rfl rfl
theorem dksX4_init_5 : cX4_init.data.toList.drop 117 = dktX4_init_5 := dk_seg dksX4_init_4 23 rfl rfl
theorem dksX4_init_6 : cX4_init.data.toList.drop 139 = dktX4_init_6 := dk_seg dksX4_init_5 22 rfl rfl
theorem dksX4_init_7 : cX4_init.data.toList.drop 163 = dktX4_init_7 := dk_seg dksX4_init_6 24 rfl rfl
theorem dksX4_init_8 : cX4_init.data.toList.drop 187 = dktX4_init_8 := dk_seg dksX4_init_7 24 rfl rfl
theorem dksX4_init_9 : cX4_init.data.toList.drop 210 = dktX4_init_9 := dk_seg dksX4_init_8 23 rfl rfl
theorem dksX4_init_10 : cX4_init.data.toList.drop 234 = dktX4_init_10 := dk_seg dksX4_init_9 24 rfl rfl
theorem dksX4_init_11 : cX4_init.data.toList.drop 258 = dktX4_init_11 := dk_seg dksX4_init_10 24 rfl rfl
theorem dX4_init_0 : decode cX4_init 0 = .ok (.aload_n 0, 1) := dk_42 (dk_at dksX4_init_0 0 rfl rfl)
theorem dX4_init_1 : decode cX4_init 1 = .ok (.invokespecial 1, 3) := dk_183 0 1 (dk_at dksX4_init_0 1 rfl rfl)
theorem dX4_init_4 : decode cX4_init 4 = .ok (.aload_n 0, 1) := dk_42 (dk_at dksX4_init_0 4 rfl rfl)
theorem dX4_init_5 : decode cX4_init 5 = .ok (.bipush 30, 2) := dk_16 30 (dk_at dksX4_init_0 5 rfl rfl)
theorem dX4_init_7 : decode cX4_init 7 = .ok (.newarray .int, 2) := dk_188_10 (dk_at dksX4_init_0 7 rfl rfl)
theorem dX4_init_9 : decode cX4_init 9 = .ok (.putfield 9, 3) := dk_181 0 9 (dk_at dksX4_init_0 9 rfl rfl)
theorem dX4_init_12 : decode cX4_init 12 = .ok (.aload_n 0, 1) := dk_42 (dk_at dksX4_init_0 12 rfl rfl)
theorem dX4_init_13 : decode cX4_init 13 = .ok (.bipush 40, 2) := dk_16 40 (dk_at dksX4_init_0 13 rfl rfl)
theorem dX4_init_15 : decode cX4_init 15 = .ok (.newarray .int, 2) := dk_188_10 (dk_at dksX4_init_0 15 rfl rfl)
theorem dX4_init_17 : decode cX4_init 17 = .ok (.putfield 13, 3) := dk_181 0 13 (dk_at dksX4_init_0 17 rfl rfl)
theorem dX4_init_20 : decode cX4_init 20 = .ok (.aload_n 0, 1) := dk_42 (dk_at dksX4_init_0 20 rfl rfl)
theorem dX4_init_21 : decode cX4_init 21 = .ok (.bipush 40, 2) := dk_16 40 (dk_at dksX4_init_0 21 rfl rfl)
theorem dX4_init_23 : decode cX4_init 23 = .ok (.newarray .int, 2) := dk_188_10 (dk_at dksX4_init_1 0 rfl rfl)
theorem dX4_init_25 : decode cX4_init 25 = .ok (.putfield 16, 3) := dk_181 0 16 (dk_at dksX4_init_1 2 rfl rfl)
theorem dX4_init_28 : decode cX4_init 28 = .ok (.aload_n 0, 1) := dk_42 (dk_at dksX4_init_1 5 rfl rfl)
theorem dX4_init_29 : decode cX4_init 29 = .ok (.bipush 40, 2) := dk_16 40 (dk_at dksX4_init_1 6 rfl rfl)
theorem dX4_init_31 : decode cX4_init 31 = .ok (.newarray .int, 2) := dk_188_10 (dk_at dksX4_init_1 8 rfl rfl)
theorem dX4_init_33 : decode cX4_init 33 = .ok (.putfield 19, 3) := dk_181 0 19 (dk_at dksX4_init_1 10 rfl rfl)
theorem dX4_init_36 : decode cX4_init 36 = .ok (.aload_n 0, 1) := dk_42 (dk_at dksX4_init_1 13 rfl rfl)
theorem dX4_init_37 : decode cX4_init 37 = .ok (.bipush 120, 2) := dk_16 120 (dk_at dksX4_init_1 14 rfl rfl)
theorem dX4_init_39 : decode cX4_init 39 = .ok (.newarray .int, 2) := dk_188_10 (dk_at dksX4_init_1 16 rfl rfl)
theorem dX4_init_41 : decode cX4_init 41 = .ok (.putfield 22, 3) := dk_181 0 22 (dk_at dksX4_init_1 18 rfl rfl)
theorem dX4_init_44 : decode cX4_init 44 = .ok (.aload_n 0, 1) := dk_42 (dk_at dksX4_init_1 21 rfl rfl)
theorem dX4_init_45 : decode cX4_init 45 = .ok (.bipush 120, 2) := dk_16 120 (dk_at dksX4_init_1 22 rfl rfl)
theorem dX4_init_47 : decode cX4_init 47 = .ok (.newarray .int, 2) := dk_188_10 (dk_at dksX4_init_2 0 rfl rfl)
theorem dX4_init_49 : decode cX4_init 49 = .ok (.putfield 25, 3) := dk_181 0 25 (dk_at dksX4_init_2 2 rfl rfl)
theorem dX4_init_52 : decode cX4_init 52 = .ok (.aload_n 0, 1) := dk_42 (dk_at dksX4_init_2 5 rfl rfl)
theorem dX4_init_53 : decode cX4_init 53 = .ok (.bipush 8, 2) := dk_16 8 (dk_at dksX4_init_2 6 rfl rfl)
theorem dX4_init_55 : decode cX4_init 55 = .ok (.newarray .int, 2) := dk_188_10 (dk_at dksX4_init_2 8 rfl rfl)
theorem dX4_init_57 : decode cX4_init 57 = .ok (.putfield 28, 3) := dk_181 0 28 (dk_at dksX4_init_2 10 rfl rfl)
theorem dX4_init_60 : decode cX4_init 60 = .ok (.aload_n 0, 1) := dk_42 (dk_at dksX4_init_2 13 rfl rfl)
theorem dX4_init_61 : decode cX4_init 61 = .ok (.iconst 5, 1) := dk_8 (dk_at dksX4_init_2 14 rfl rfl)
theorem dX4_init_62 : decode cX4_init 62 = .ok (.newarray .int, 2) := dk_188_10 (dk_at dksX4_init_2 15 rfl rfl)
theorem dX4_init_64 : decode cX4_init 64 = .ok (.putfield 31, 3) := dk_181 0 31 (dk_at dksX4_init_2 17 rfl rfl)
theorem dX4_init_67 : decode cX4_init 67 = .ok (.aload_n 0, 1) := dk_42 (dk_at dksX4_init_2 20 rfl rfl)
theorem dX4_init_68 : decode cX4_init 68 = .ok (.bipush 6, 2) := dk_16 6 (dk_at dksX4_init_2 21 rfl rfl)
theorem dX4_init_70 : decode cX4_init 70 = .ok (.newarray .int, 2) := dk_188_10 (dk_at dksX4_init_3 0 rfl rfl)
theorem dX4_init_72 : decode cX4_init 72 = .ok (.putfield 34, 3) := dk_181 0 34 (dk_at dksX4_init_3 2 rfl rfl)
theorem dX4_init_75 : decode cX4_init 75 = .ok (.aload_n 0, 1) := dk_42 (dk_at dksX4_init_3 5 rfl rfl)
theorem dX4_init_76 : decode cX4_init 76 = .ok (.sipush 360, 3) := dk_17 1 104 (dk_at dksX4_init_3 6 rfl rfl)
theorem dX4_init_79 : decode cX4_init 79 = .ok (.newarray .int, 2) := dk_188_10 (dk_at dksX4_init_3 9 rfl rfl)
theorem dX4_init_81 : decode cX4_init 81 = .ok (.putfield 37, 3) := dk_181 0 37 (dk_at dksX4_init_3 11 rfl rfl)
theorem dX4_init_84 : decode cX4_init 84 = .ok (.aload_n 0, 1) := dk_42 (dk_at dksX4_init_3 14 rfl rfl)
theorem dX4_init_85 : decode cX4_init 85 = .ok (.sipush 360, 3) := dk_17 1 104 (dk_at dksX4_init_3 15 rfl rfl)
theorem dX4_init_88 : decode cX4_init 88 = .ok (.newarray .int, 2) := dk_188_10 (dk_at dksX4_init_3 18 rfl rfl)
theorem dX4_init_90 : decode cX4_init 90 = .ok (.putfield 40, 3) := dk_181 0 40 (dk_at dksX4_init_3 20 rfl rfl)
theorem dX4_init_93 : decode cX4_init 93 = .ok (.aload_n 0, 1) := dk_42 (dk_at dksX4_init_3 23 rfl rfl)
theorem dX4_init_94 : decode cX4_init 94 = .ok (.sipush 200, 3) := dk_17 0 200 (dk_at dksX4_init_4 0 rfl rfl)
theorem dX4_init_97 : decode cX4_init 97 = .ok (.newarray .int, 2) := dk_188_10 (dk_at dksX4_init_4 3 rfl rfl)
theorem dX4_init_99 : decode cX4_init 99 = .ok (.putfield 43, 3) := dk_181 0 43 (dk_at dksX4_init_4 5 rfl rfl)
theorem dX4_init_102 : decode cX4_init 102 = .ok (.aload_n 0, 1) := dk_42 (dk_at dksX4_init_4 8 rfl rfl)
theorem dX4_init_103 : decode cX4_init 103 = .ok (.sipush 200, 3) := dk_17 0 200 (dk_at dksX4_init_4 9 rfl rfl)
theorem dX4_init_106 : decode cX4_init 106 = .ok (.newarray .int, 2) := dk_188_10 (dk_at dksX4_init_4 12 rfl rfl)
theorem dX4_init_108 : decode cX4_init 108 = .ok (.putfield 46, 3) := dk_181 0 46 (dk_at dksX4_init_4 14 rfl rfl)
theorem dX4_init_111 : decode cX4_init 111 = .ok (.aload_n 0, 1) := dk_42 (dk_at dksX4_init_4 17 rfl rfl)
theorem dX4_init_112 : decode cX4_init 112 = .ok (.sipush 200, 3) := dk_17 0 200 (dk_at dksX4_init_4 18 rfl rfl)
theorem dX4_init_115 : decode cX4_init 115 = .ok (.newarray .int, 2) := dk_188_10 (dk_at dksX4_init_4 21 rfl rfl)
theorem dX4_init_117 : decode cX4_init 117 = .ok (.putfield 49, 3) := dk_181 0 49 (dk_at dksX4_init_5 0 rfl rfl)
theorem dX4_init_120 : decode cX4_init 120 = .ok (.aload_n 0, 1) := dk_42 (dk_at dksX4_init_5 3 rfl rfl)
theorem dX4_init_121 : decode cX4_init 121 = .ok (.sipush 200, 3) := dk_17 0 200 (dk_at dksX4_init_5 4 rfl rfl)
theorem dX4_init_124 : decode cX4_init 124 = .ok (.newarray .int, 2) := dk_188_10 (dk_at dksX4_init_5 7 rfl rfl)
theorem dX4_init_126 : decode cX4_init 126 = .ok (.putfield 52, 3) := dk_181 0 52 (dk_at dksX4_init_5 9 rfl rfl)
theorem dX4_init_129 : decode cX4_init 129 = .ok (.aload_n 0, 1) := dk_42 (dk_at dksX4_init_5 12 rfl rfl)
theorem dX4_init_130 : decode cX4_init 130 = .ok (.sipush 200, 3) := dk_17 0 200 (dk_at dksX4_init_5 13 rfl rfl)
theorem dX4_init_133 : decode cX4_init 133 = .ok (.newarray .int, 2) := dk_188_10 (dk_at dksX4_init_5 16 rfl rfl)
theorem dX4_init_135 : decode cX4_init 135 = .ok (.putfield 55, 3) := dk_181 0 55 (dk_at dksX4_init_5 18 rfl rfl)
theorem dX4_init_138 : decode cX4_init 138 = .ok (.aload_n 0, 1) := dk_42 (dk_at dksX4_init_5 21 rfl rfl)
theorem dX4_init_139 : decode cX4_init 139 = .ok (.sipush 200, 3) := dk_17 0 200 (dk_at dksX4_init_6 0 rfl rfl)
theorem dX4_init_142 : decode cX4_init 142 = .ok (.newarray .int, 2) := dk_188_10 (dk_at dksX4_init_6 3 rfl rfl)
theorem dX4_init_144 : decode cX4_init 144 = .ok (.putfield 58, 3) := dk_181 0 58 (dk_at dksX4_init_6 5 rfl rfl)
theorem dX4_init_147 : decode cX4_init 147 = .ok (.aload_n 0, 1) := dk_42 (dk_at dksX4_init_6 8 rfl rfl)
theorem dX4_init_148 : decode cX4_init 148 = .ok (.iconst 4, 1) := dk_7 (dk_at dksX4_init_6 9 rfl rfl)
theorem dX4_init_149 : decode cX4_init 149 = .ok (.newarray .int, 2) := dk_188_10 (dk_at dksX4_init_6 10 rfl rfl)
theorem dX4_init_151 : decode cX4_init 151 = .ok (.putfield 61, 3) := dk_181 0 61 (dk_at dksX4_init_6 12 rfl rfl)
theorem dX4_init_154 : decode cX4_init 154 = .ok (.aload_n 0, 1) := dk_42 (dk_at dksX4_init_6 15 rfl rfl)
theorem dX4_init_155 : decode cX4_init 155 = .ok (.bipush 40, 2) := dk_16 40 (dk_at dksX4_init_6 16 rfl rfl)
theorem dX4_init_157 : decode cX4_init 157 = .ok (.newarray .int, 2) := dk_188_10 (dk_at dksX4_init_6 18 rfl rfl)
theorem dX4_init_159 : decode cX4_init 159 = .ok (.putfield 64, 3) := dk_181 0 64 (dk_at dksX4_init_6 20 rfl rfl)
theorem dX4_init_162 : decode cX4_init 162 = .ok (.aload_n 0, 1) := dk_42 (dk_at dksX4_init_6 23 rfl rfl)
theorem dX4_init_163 : decode cX4_init 163 = .ok (.bipush 40, 2) := dk_16 40 (dk_at dksX4_init_7 0 rfl rfl)
theorem dX4_init_165 : decode cX4_init 165 = .ok (.newarray .int, 2) := dk_188_10 (dk_at dksX4_init_7 2 rfl rfl)
theorem dX4_init_167 : decode cX4_init 167 = .ok (.putfield 67, 3) := dk_181 0 67 (dk_at dksX4_init_7 4 rfl rfl)
theorem dX4_init_170 : decode cX4_init 170 = .ok (.aload_n 0, 1) := dk_42 (dk_at dksX4_init_7 7 rfl rfl)
theorem dX4_init_171 : decode cX4_init 171 = .ok (.bipush 40, 2) := dk_16 40 (dk_at dksX4_init_7 8 rfl rfl)
theorem dX4_init_173 : decode cX4_init 173 = .ok (.newarray .int, 2) := dk_188_10 (dk_at dksX4_init_7 10 rfl rfl)
theorem dX4_init_175 : decode cX4_init 175 = .ok (.putfield 70, 3) := dk_181 0 70 (dk_at dksX4_init_7 12 rfl rfl)
theorem dX4_init_178 : decode cX4_init 178 = .ok (.aload_n 0, 1) := dk_42 (dk_at dksX4_init_7 15 rfl rfl)
theorem dX4_init_179 : decode cX4_init 179 = .ok (.bipush 8, 2) := dk_16 8 (dk_at dksX4_init_7 16 rfl rfl)
theorem dX4_init_181 : decode cX4_init 181 = .ok (.newarray .int, 2) := dk_188_10 (dk_at dksX4_init_7 18 rfl rfl)
theorem dX4_init_183 : decode cX4_init 183 = .ok (.putfield 73, 3) := dk_181 0 73 (dk_at dksX4_init_7 20 rfl rfl)
theorem dX4_init_186 : decode cX4_init 186 = .ok (.aload_n 0, 1) := dk_42 (dk_at dksX4_init_7 23 rfl rfl)
theorem dX4_init_187 : decode cX4_init 187 = .ok (.bipush 60, 2) := dk_16 60 (dk_at dksX4_init_8 0 rfl rfl)
theorem dX4_init_189 : decode cX4_init 189 = .ok (.newarray .int, 2) := dk_188_10 (dk_at dksX4_init_8 2 rfl rfl)
theorem dX4_init_191 : decode cX4_init 191 = .ok (.putfield 76, 3) := dk_181 0 76 (dk_at dksX4_init_8 4 rfl rfl)
theorem dX4_init_194 : decode cX4_init 194 = .ok (.aload_n 0, 1) := dk_42 (dk_at dksX4_init_8 7 rfl rfl)
theorem dX4_init_195 : decode cX4_init 195 = .ok (.iconst 5, 1) := dk_8 (dk_at dksX4_init_8 8 rfl rfl)
theorem dX4_init_196 : decode cX4_init 196 = .ok (.newarray .int, 2) := dk_188_10 (dk_at dksX4_init_8 9 rfl rfl)
theorem dX4_init_198 : decode cX4_init 198 = .ok (.putfield 79, 3) := dk_181 0 79 (dk_at dksX4_init_8 11 rfl rfl)
theorem dX4_init_201 : decode cX4_init 201 = .ok (.aload_n 0, 1) := dk_42 (dk_at dksX4_init_8 14 rfl rfl)
theorem dX4_init_202 : decode cX4_init 202 = .ok (.bipush 50, 2) := dk_16 50 (dk_at dksX4_init_8 15 rfl rfl)
theorem dX4_init_204 : decode cX4_init 204 = .ok (.newarray .int, 2) := dk_188_10 (dk_at dksX4_init_8 17 rfl rfl)
theorem dX4_init_206 : decode cX4_init 206 = .ok (.putfield 82, 3) := dk_181 0 82 (dk_at dksX4_init_8 19 rfl rfl)
theorem dX4_init_209 : decode cX4_init 209 = .ok (.aload_n 0, 1) := dk_42 (dk_at dksX4_init_8 22 rfl rfl)
theorem dX4_init_210 : decode cX4_init 210 = .ok (.bipush 24, 2) := dk_16 24 (dk_at dksX4_init_9 0 rfl rfl)
theorem dX4_init_212 : decode cX4_init 212 = .ok (.newarray .int, 2) := dk_188_10 (dk_at dksX4_init_9 2 rfl rfl)
theorem dX4_init_214 : decode cX4_init 214 = .ok (.putfield 85, 3) := dk_181 0 85 (dk_at dksX4_init_9 4 rfl rfl)
theorem dX4_init_217 : decode cX4_init 217 = .ok (.aload_n 0, 1) := dk_42 (dk_at dksX4_init_9 7 rfl rfl)
theorem dX4_init_218 : decode cX4_init 218 = .ok (.bipush 6, 2) := dk_16 6 (dk_at dksX4_init_9 8 rfl rfl)
theorem dX4_init_220 : decode cX4_init 220 = .ok (.newarray .int, 2) := dk_188_10 (dk_at dksX4_init_9 10 rfl rfl)
theorem dX4_init_222 : decode cX4_init 222 = .ok (.putfield 88, 3) := dk_181 0 88 (dk_at dksX4_init_9 12 rfl rfl)
theorem dX4_init_225 : decode cX4_init 225 = .ok (.aload_n 0, 1) := dk_42 (dk_at dksX4_init_9 15 rfl rfl)
theorem dX4_init_226 : decode cX4_init 226 = .ok (.bipush 6, 2) := dk_16 6 (dk_at dksX4_init_9 16 rfl rfl)
theorem dX4_init_228 : decode cX4_init 228 = .ok (.newarray .int, 2) := dk_188_10 (dk_at dksX4_init_9 18 rfl rfl)
theorem dX4_init_230 : decode cX4_init 230 = .ok (.putfield 91, 3) := dk_181 0 91 (dk_at dksX4_init_9 20 rfl rfl)
theorem dX4_init_233 : decode cX4_init 233 = .ok (.aload_n 0, 1) := dk_42 (dk_at dksX4_init_9 23 rfl rfl)
theorem dX4_init_234 : decode cX4_init 234 = .ok (.sipush 360, 3) := dk_17 1 104 (dk_at dksX4_init_10 0 rfl rfl)
theorem dX4_init_237 : decode cX4_init 237 = .ok (.newarray .long, 2) := dk_188_11 (dk_at dksX4_init_10 3 rfl rfl)
theorem dX4_init_239 : decode cX4_init 239 = .ok (.putfield 94, 3) := dk_181 0 94 (dk_at dksX4_init_10 5 rfl rfl)
theorem dX4_init_242 : decode cX4_init 242 = .ok (.aload_n 0, 1) := dk_42 (dk_at dksX4_init_10 8 rfl rfl)
theorem dX4_init_243 : decode cX4_init 243 = .ok (.bipush 60, 2) := dk_16 60 (dk_at dksX4_init_10 9 rfl rfl)
theorem dX4_init_245 : decode cX4_init 245 = .ok (.newarray .long, 2) := dk_188_11 (dk_at dksX4_init_10 11 rfl rfl)
theorem dX4_init_247 : decode cX4_init 247 = .ok (.putfield 98, 3) := dk_181 0 98 (dk_at dksX4_init_10 13 rfl rfl)
theorem dX4_init_250 : decode cX4_init 250 = .ok (.iconst 0, 1) := dk_3 (dk_at dksX4_init_10 16 rfl rfl)
theorem dX4_init_251 : decode cX4_init 251 = .ok (.istore_n 1, 1) := dk_60 (dk_at dksX4_init_10 17 rfl rfl)
theorem dX4_init_252 : decode cX4_init 252 = .ok (.iload_n 1, 1) := dk_27 (dk_at dksX4_init_10 18 rfl rfl)
theorem dX4_init_253 : decode cX4_init 253 = .ok (.bipush 6, 2) := dk_16 6 (dk_at dksX4_init_10 19 rfl rfl)
theorem dX4_init_255 : decode cX4_init 255 = .ok (.if_icmp .ge 16, 3) := dk_162 0 16 (dk_at dksX4_init_10 21 rfl rfl)
theorem dX4_init_258 : decode cX4_init 258 = .ok (.aload_n 0, 1) := dk_42 (dk_at dksX4_init_11 0 rfl rfl)
theorem dX4_init_259 : decode cX4_init 259 = .ok (.getfield 88, 3) := dk_180 0 88 (dk_at dksX4_init_11 1 rfl rfl)
theorem dX4_init_262 : decode cX4_init 262 = .ok (.iload_n 1, 1) := dk_27 (dk_at dksX4_init_11 4 rfl rfl)
theorem dX4_init_263 : decode cX4_init 263 = .ok (.iconst (-1), 1) := dk_2 (dk_at dksX4_init_11 5 rfl rfl)
theorem dX4_init_264 : decode cX4_init 264 = .ok (.iastore, 1) := dk_79 (dk_at dksX4_init_11 6 rfl rfl)
theorem dX4_init_265 : decode cX4_init 265 = .ok (.iinc 1 1, 3) := dk_132 1 1 (dk_at dksX4_init_11 7 rfl rfl)
theorem dX4_init_268 : decode cX4_init 268 = .ok (.goto (-16), 3) := dk_167 255 240 (dk_at dksX4_init_11 10 rfl rfl)
theorem dX4_init_271 : decode cX4_init 271 = .ok (.aload_n 0, 1) := dk_42 (dk_at dksX4_init_11 13 rfl rfl)
theorem dX4_init_272 : decode cX4_init 272 = .ok (.iconst (-1), 1) := dk_2 (dk_at dksX4_init_11 14 rfl rfl)
theorem dX4_init_273 : decode cX4_init 273 = .ok (.putfield 101, 3) := dk_181 0 101 (dk_at dksX4_init_11 15 rfl rfl)
theorem dX4_init_276 : decode cX4_init 276 = .ok (.return_, 1) := dk_177 (dk_at dksX4_init_11 18 rfl rfl)
abbrev cX4_undo : ByteArray := prog_34_method_5_code
def yX4_undo : MethodName := ⟨RX4, "undo", "()I"⟩
def dkwX4_undo_1 : List UInt8 := [42, 180, 0, 13, 42, 180, 0, 105, 46, 42, 180, 0, 16, 42, 180, 0, 105, 46, 79, 42, 180, 0, 105, 172]
abbrev dktX4_undo_1 : List UInt8 := dkwX4_undo_1 ++ []
def dkwX4_undo_0 : List UInt8 := [42, 180, 0, 105, 154, 0, 6, 16, 251, 172, 42, 89, 180, 0, 105, 4, 100, 181, 0, 105, 42, 180, 0, 9]
abbrev dktX4_undo_0 : List UInt8 := dkwX4_undo_0 ++ dktX4_undo_1
theorem dksX4_undo_0 : cX4_undo.data.toList.drop 0 = dktX4_undo_0 := by decide +kernel
theorem dksX4_undo_1 : cX4_undo.data.toList.drop 24 = dktX4_undo_1 := dk_seg dksX4_undo_0 24 rfl rfl
theorem dX4_undo_0 : decode cX4_undo 0 = .ok (.aload_n 0, 1) := dk_42 (dk_at dksX4_undo_0 0 rfl rfl)
theorem dX4_undo_1 : decode cX4_undo 1 = .ok (.getfield 105, 3) := dk_180 0 105 (dk_at dksX4_undo_0 1 rfl rfl)
theorem dX4_undo_4 : decode cX4_undo 4 = .ok (.ifCond .ne 6, 3) := dk_154 0 6 (dk_at dksX4_undo_0 4 rfl rfl)
theorem dX4_undo_7 : decode cX4_undo 7 = .ok (.bipush (-5), 2) := dk_16 251 (dk_at dksX4_undo_0 7 rfl rfl)
theorem dX4_undo_9 : decode cX4_undo 9 = .ok (.ireturn, 1) := dk_172 (dk_at dksX4_undo_0 9 rfl rfl)
theorem dX4_undo_10 : decode cX4_undo 10 = .ok (.aload_n 0, 1) := dk_42 (dk_at dksX4_undo_0 10 rfl rfl)
theorem dX4_undo_11 : decode cX4_undo 11 = .ok (.dup, 1) := dk_89 (dk_at dksX4_undo_0 11 rfl rfl)
theorem dX4_undo_12 : decode cX4_undo 12 = .ok (.getfield 105, 3) := dk_180 0 105 (dk_at dksX4_undo_0 12 rfl rfl)
theorem dX4_undo_15 : decode cX4_undo 15 = .ok (.iconst 1, 1) := dk_4 (dk_at dksX4_undo_0 15 rfl rfl)
theorem dX4_undo_16 : decode cX4_undo 16 = .ok (.isub, 1) := dk_100 (dk_at dksX4_undo_0 16 rfl rfl)
theorem dX4_undo_17 : decode cX4_undo 17 = .ok (.putfield 105, 3) := dk_181 0 105 (dk_at dksX4_undo_0 17 rfl rfl)
theorem dX4_undo_20 : decode cX4_undo 20 = .ok (.aload_n 0, 1) := dk_42 (dk_at dksX4_undo_0 20 rfl rfl)
theorem dX4_undo_21 : decode cX4_undo 21 = .ok (.getfield 9, 3) := dk_180 0 9 (dk_at dksX4_undo_0 21 rfl rfl)
theorem dX4_undo_24 : decode cX4_undo 24 = .ok (.aload_n 0, 1) := dk_42 (dk_at dksX4_undo_1 0 rfl rfl)
theorem dX4_undo_25 : decode cX4_undo 25 = .ok (.getfield 13, 3) := dk_180 0 13 (dk_at dksX4_undo_1 1 rfl rfl)
theorem dX4_undo_28 : decode cX4_undo 28 = .ok (.aload_n 0, 1) := dk_42 (dk_at dksX4_undo_1 4 rfl rfl)
theorem dX4_undo_29 : decode cX4_undo 29 = .ok (.getfield 105, 3) := dk_180 0 105 (dk_at dksX4_undo_1 5 rfl rfl)
theorem dX4_undo_32 : decode cX4_undo 32 = .ok (.iaload, 1) := dk_46 (dk_at dksX4_undo_1 8 rfl rfl)
theorem dX4_undo_33 : decode cX4_undo 33 = .ok (.aload_n 0, 1) := dk_42 (dk_at dksX4_undo_1 9 rfl rfl)
theorem dX4_undo_34 : decode cX4_undo 34 = .ok (.getfield 16, 3) := dk_180 0 16 (dk_at dksX4_undo_1 10 rfl rfl)
theorem dX4_undo_37 : decode cX4_undo 37 = .ok (.aload_n 0, 1) := dk_42 (dk_at dksX4_undo_1 13 rfl rfl)
theorem dX4_undo_38 : decode cX4_undo 38 = .ok (.getfield 105, 3) := dk_180 0 105 (dk_at dksX4_undo_1 14 rfl rfl)
theorem dX4_undo_41 : decode cX4_undo 41 = .ok (.iaload, 1) := dk_46 (dk_at dksX4_undo_1 17 rfl rfl)
theorem dX4_undo_42 : decode cX4_undo 42 = .ok (.iastore, 1) := dk_79 (dk_at dksX4_undo_1 18 rfl rfl)
theorem dX4_undo_43 : decode cX4_undo 43 = .ok (.aload_n 0, 1) := dk_42 (dk_at dksX4_undo_1 19 rfl rfl)
theorem dX4_undo_44 : decode cX4_undo 44 = .ok (.getfield 105, 3) := dk_180 0 105 (dk_at dksX4_undo_1 20 rfl rfl)
theorem dX4_undo_47 : decode cX4_undo 47 = .ok (.ireturn, 1) := dk_172 (dk_at dksX4_undo_1 23 rfl rfl)
abbrev cX4_redo : ByteArray := prog_34_method_6_code
def yX4_redo : MethodName := ⟨RX4, "redo", "()I"⟩
def dkwX4_redo_2 : List UInt8 := [42, 180, 0, 108, 42, 180, 0, 105, 100, 172]
abbrev dktX4_redo_2 : List UInt8 := dkwX4_redo_2 ++ []
def dkwX4_redo_1 : List UInt8 := [180, 0, 105, 46, 42, 180, 0, 19, 42, 180, 0, 105, 46, 79, 42, 89, 180, 0, 105, 4, 96, 181, 0, 105]
abbrev dktX4_redo_1 : List UInt8 := dkwX4_redo_1 ++ dktX4_redo_2
def dkwX4_redo_0 : List UInt8 := [42, 180, 0, 105, 42, 180, 0, 108, 160, 0, 6, 16, 251, 172, 42, 180, 0, 9, 42, 180, 0, 13, 42]
abbrev dktX4_redo_0 : List UInt8 := dkwX4_redo_0 ++ dktX4_redo_1
theorem dksX4_redo_0 : cX4_redo.data.toList.drop 0 = dktX4_redo_0 := by decide +kernel
theorem dksX4_redo_1 : cX4_redo.data.toList.drop 23 = dktX4_redo_1 := dk_seg dksX4_redo_0 23 rfl rfl
theorem dksX4_redo_2 : cX4_redo.data.toList.drop 47 = dktX4_redo_2 := dk_seg dksX4_redo_1 24 rfl rfl
theorem dX4_redo_0 : decode cX4_redo 0 = .ok (.aload_n 0, 1) := dk_42 (dk_at dksX4_redo_0 0 rfl rfl)
theorem dX4_redo_1 : decode cX4_redo 1 = .ok (.getfield 105, 3) := dk_180 0 105 (dk_at dksX4_redo_0 1 rfl rfl)
theorem dX4_redo_4 : decode cX4_redo 4 = .ok (.aload_n 0, 1) := dk_42 (dk_at dksX4_redo_0 4 rfl rfl)
theorem dX4_redo_5 : decode cX4_redo 5 = .ok (.getfield 108, 3) := dk_180 0 108 (dk_at dksX4_redo_0 5 rfl rfl)
theorem dX4_redo_8 : decode cX4_redo 8 = .ok (.if_icmp .ne 6, 3) := dk_160 0 6 (dk_at dksX4_redo_0 8 rfl rfl)
theorem dX4_redo_11 : decode cX4_redo 11 = .ok (.bipush (-5), 2) := dk_16 251 (dk_at dksX4_redo_0 11 rfl rfl)
theorem dX4_redo_13 : decode cX4_redo 13 = .ok (.ireturn, 1) := dk_172 (dk_at dksX4_redo_0 13 rfl rfl)
theorem dX4_redo_14 : decode cX4_redo 14 = .ok (.aload_n 0, 1) := dk_42 (dk_at dksX4_redo_0 14 rfl rfl)
theorem dX4_redo_15 : decode cX4_redo 15 = .ok (.getfield 9, 3) := dk_180 0 9 (dk_at dksX4_redo_0 15 rfl rfl)
theorem dX4_redo_18 : decode cX4_redo 18 = .ok (.aload_n 0, 1) := dk_42 (dk_at dksX4_redo_0 18 rfl rfl)
theorem dX4_redo_19 : decode cX4_redo 19 = .ok (.getfield 13, 3) := dk_180 0 13 (dk_at dksX4_redo_0 19 rfl rfl)
theorem dX4_redo_22 : decode cX4_redo 22 = .ok (.aload_n 0, 1) := dk_42 (dk_at dksX4_redo_0 22 rfl rfl)
theorem dX4_redo_23 : decode cX4_redo 23 = .ok (.getfield 105, 3) := dk_180 0 105 (dk_at dksX4_redo_1 0 rfl rfl)
theorem dX4_redo_26 : decode cX4_redo 26 = .ok (.iaload, 1) := dk_46 (dk_at dksX4_redo_1 3 rfl rfl)
theorem dX4_redo_27 : decode cX4_redo 27 = .ok (.aload_n 0, 1) := dk_42 (dk_at dksX4_redo_1 4 rfl rfl)
theorem dX4_redo_28 : decode cX4_redo 28 = .ok (.getfield 19, 3) := dk_180 0 19 (dk_at dksX4_redo_1 5 rfl rfl)
theorem dX4_redo_31 : decode cX4_redo 31 = .ok (.aload_n 0, 1) := dk_42 (dk_at dksX4_redo_1 8 rfl rfl)
theorem dX4_redo_32 : decode cX4_redo 32 = .ok (.getfield 105, 3) := dk_180 0 105 (dk_at dksX4_redo_1 9 rfl rfl)
theorem dX4_redo_35 : decode cX4_redo 35 = .ok (.iaload, 1) := dk_46 (dk_at dksX4_redo_1 12 rfl rfl)
theorem dX4_redo_36 : decode cX4_redo 36 = .ok (.iastore, 1) := dk_79 (dk_at dksX4_redo_1 13 rfl rfl)
theorem dX4_redo_37 : decode cX4_redo 37 = .ok (.aload_n 0, 1) := dk_42 (dk_at dksX4_redo_1 14 rfl rfl)
theorem dX4_redo_38 : decode cX4_redo 38 = .ok (.dup, 1) := dk_89 (dk_at dksX4_redo_1 15 rfl rfl)
theorem dX4_redo_39 : decode cX4_redo 39 = .ok (.getfield 105, 3) := dk_180 0 105 (dk_at dksX4_redo_1 16 rfl rfl)
theorem dX4_redo_42 : decode cX4_redo 42 = .ok (.iconst 1, 1) := dk_4 (dk_at dksX4_redo_1 19 rfl rfl)
theorem dX4_redo_43 : decode cX4_redo 43 = .ok (.iadd, 1) := dk_96 (dk_at dksX4_redo_1 20 rfl rfl)
theorem dX4_redo_44 : decode cX4_redo 44 = .ok (.putfield 105, 3) := dk_181 0 105 (dk_at dksX4_redo_1 21 rfl rfl)
theorem dX4_redo_47 : decode cX4_redo 47 = .ok (.aload_n 0, 1) := dk_42 (dk_at dksX4_redo_2 0 rfl rfl)
theorem dX4_redo_48 : decode cX4_redo 48 = .ok (.getfield 108, 3) := dk_180 0 108 (dk_at dksX4_redo_2 1 rfl rfl)
theorem dX4_redo_51 : decode cX4_redo 51 = .ok (.aload_n 0, 1) := dk_42 (dk_at dksX4_redo_2 4 rfl rfl)
theorem dX4_redo_52 : decode cX4_redo 52 = .ok (.getfield 105, 3) := dk_180 0 105 (dk_at dksX4_redo_2 5 rfl rfl)
theorem dX4_redo_55 : decode cX4_redo 55 = .ok (.isub, 1) := dk_100 (dk_at dksX4_redo_2 8 rfl rfl)
theorem dX4_redo_56 : decode cX4_redo 56 = .ok (.ireturn, 1) := dk_172 (dk_at dksX4_redo_2 9 rfl rfl)
abbrev cX4_feed : ByteArray := prog_34_method_7_code
def yX4_feed : MethodName := ⟨RX4, "feed", "(II)I"⟩
def dkwX4_feed_3 : List UInt8 := [42, 180, 0, 117, 172]
abbrev dktX4_feed_3 : List UInt8 := dkwX4_feed_3 ++ []
def dkwX4_feed_2 : List UInt8 := [29, 104, 122, 17, 0, 255, 126, 79, 42, 89, 180, 0, 117, 4, 96, 181, 0, 117, 132, 3, 1, 167, 255, 219]
abbrev dktX4_feed_2 : List UInt8 := dkwX4_feed_2 ++ dktX4_feed_3
def dkwX4_feed_1 : List UInt8 := [164, 0, 6, 16, 253, 172, 3, 62, 29, 27, 162, 0, 38, 42, 180, 0, 22, 42, 180, 0, 117, 28, 16, 8]
abbrev dktX4_feed_1 : List UInt8 := dkwX4_feed_1 ++ dktX4_feed_2
def dkwX4_feed_0 : List UInt8 := [27, 133, 10, 20, 0, 111, 184, 0, 113, 154, 0, 5, 2, 172, 42, 180, 0, 117, 27, 96, 16, 120]
abbrev dktX4_feed_0 : List UInt8 := dkwX4_feed_0 ++ dktX4_feed_1
theorem dksX4_feed_0 : cX4_feed.data.toList.drop 0 = dktX4_feed_0 := by decide +kernel
theorem dksX4_feed_1 : cX4_feed.data.toList.drop 22 = dktX4_feed_1 := dk_seg dksX4_feed_0 22 rfl rfl
theorem dksX4_feed_2 : cX4_feed.data.toList.drop 46 = dktX4_feed_2 := dk_seg dksX4_feed_1 24 rfl rfl
theorem dksX4_feed_3 : cX4_feed.data.toList.drop 70 = dktX4_feed_3 := dk_seg dksX4_feed_2 24 rfl rfl
theorem dX4_feed_0 : decode cX4_feed 0 = .ok (.iload_n 1, 1) := dk_27 (dk_at dksX4_feed_0 0 rfl rfl)
theorem dX4_feed_1 : decode cX4_feed 1 = .ok (.i2l, 1) := dk_133 (dk_at dksX4_feed_0 1 rfl rfl)
theorem dX4_feed_2 : decode cX4_feed 2 = .ok (.lconst 1, 1) := dk_10 (dk_at dksX4_feed_0 2 rfl rfl)
theorem dX4_feed_3 : decode cX4_feed 3 = .ok (.ldc2_w 111, 3) := dk_20 0 111 (dk_at dksX4_feed_0 3 rfl rfl)
theorem dX4_feed_6 : decode cX4_feed 6 = .ok (.invokestatic 113, 3) := dk_184 0 113 (dk_at dksX4_feed_0 6 rfl rfl)
theorem dX4_feed_9 : decode cX4_feed 9 = .ok (.ifCond .ne 5, 3) := dk_154 0 5 (dk_at dksX4_feed_0 9 rfl rfl)
theorem dX4_feed_12 : decode cX4_feed 12 = .ok (.iconst (-1), 1) := dk_2 (dk_at dksX4_feed_0 12 rfl rfl)
theorem dX4_feed_13 : decode cX4_feed 13 = .ok (.ireturn, 1) := dk_172 (dk_at dksX4_feed_0 13 rfl rfl)
theorem dX4_feed_14 : decode cX4_feed 14 = .ok (.aload_n 0, 1) := dk_42 (dk_at dksX4_feed_0 14 rfl rfl)
theorem dX4_feed_15 : decode cX4_feed 15 = .ok (.getfield 117, 3) := dk_180 0 117 (dk_at dksX4_feed_0 15 rfl rfl)
theorem dX4_feed_18 : decode cX4_feed 18 = .ok (.iload_n 1, 1) := dk_27 (dk_at dksX4_feed_0 18 rfl rfl)
theorem dX4_feed_19 : decode cX4_feed 19 = .ok (.iadd, 1) := dk_96 (dk_at dksX4_feed_0 19 rfl rfl)
theorem dX4_feed_20 : decode cX4_feed 20 = .ok (.bipush 120, 2) := dk_16 120 (dk_at dksX4_feed_0 20 rfl rfl)
theorem dX4_feed_22 : decode cX4_feed 22 = .ok (.if_icmp .le 6, 3) := dk_164 0 6 (dk_at dksX4_feed_1 0 rfl rfl)
theorem dX4_feed_25 : decode cX4_feed 25 = .ok (.bipush (-3), 2) := dk_16 253 (dk_at dksX4_feed_1 3 rfl rfl)
theorem dX4_feed_27 : decode cX4_feed 27 = .ok (.ireturn, 1) := dk_172 (dk_at dksX4_feed_1 5 rfl rfl)
theorem dX4_feed_28 : decode cX4_feed 28 = .ok (.iconst 0, 1) := dk_3 (dk_at dksX4_feed_1 6 rfl rfl)
theorem dX4_feed_29 : decode cX4_feed 29 = .ok (.istore_n 3, 1) := dk_62 (dk_at dksX4_feed_1 7 rfl rfl)
theorem dX4_feed_30 : decode cX4_feed 30 = .ok (.iload_n 3, 1) := dk_29 (dk_at dksX4_feed_1 8 rfl rfl)
theorem dX4_feed_31 : decode cX4_feed 31 = .ok (.iload_n 1, 1) := dk_27 (dk_at dksX4_feed_1 9 rfl rfl)
theorem dX4_feed_32 : decode cX4_feed 32 = .ok (.if_icmp .ge 38, 3) := dk_162 0 38 (dk_at dksX4_feed_1 10 rfl rfl)
theorem dX4_feed_35 : decode cX4_feed 35 = .ok (.aload_n 0, 1) := dk_42 (dk_at dksX4_feed_1 13 rfl rfl)
theorem dX4_feed_36 : decode cX4_feed 36 = .ok (.getfield 22, 3) := dk_180 0 22 (dk_at dksX4_feed_1 14 rfl rfl)
theorem dX4_feed_39 : decode cX4_feed 39 = .ok (.aload_n 0, 1) := dk_42 (dk_at dksX4_feed_1 17 rfl rfl)
theorem dX4_feed_40 : decode cX4_feed 40 = .ok (.getfield 117, 3) := dk_180 0 117 (dk_at dksX4_feed_1 18 rfl rfl)
theorem dX4_feed_43 : decode cX4_feed 43 = .ok (.iload_n 2, 1) := dk_28 (dk_at dksX4_feed_1 21 rfl rfl)
theorem dX4_feed_44 : decode cX4_feed 44 = .ok (.bipush 8, 2) := dk_16 8 (dk_at dksX4_feed_1 22 rfl rfl)
theorem dX4_feed_46 : decode cX4_feed 46 = .ok (.iload_n 3, 1) := dk_29 (dk_at dksX4_feed_2 0 rfl rfl)
theorem dX4_feed_47 : decode cX4_feed 47 = .ok (.imul, 1) := dk_104 (dk_at dksX4_feed_2 1 rfl rfl)
theorem dX4_feed_48 : decode cX4_feed 48 = .ok (.ishr, 1) := dk_122 (dk_at dksX4_feed_2 2 rfl rfl)
theorem dX4_feed_49 : decode cX4_feed 49 = .ok (.sipush 255, 3) := dk_17 0 255 (dk_at dksX4_feed_2 3 rfl rfl)
theorem dX4_feed_52 : decode cX4_feed 52 = .ok (.iand, 1) := dk_126 (dk_at dksX4_feed_2 6 rfl rfl)
theorem dX4_feed_53 : decode cX4_feed 53 = .ok (.iastore, 1) := dk_79 (dk_at dksX4_feed_2 7 rfl rfl)
theorem dX4_feed_54 : decode cX4_feed 54 = .ok (.aload_n 0, 1) := dk_42 (dk_at dksX4_feed_2 8 rfl rfl)
theorem dX4_feed_55 : decode cX4_feed 55 = .ok (.dup, 1) := dk_89 (dk_at dksX4_feed_2 9 rfl rfl)
theorem dX4_feed_56 : decode cX4_feed 56 = .ok (.getfield 117, 3) := dk_180 0 117 (dk_at dksX4_feed_2 10 rfl rfl)
theorem dX4_feed_59 : decode cX4_feed 59 = .ok (.iconst 1, 1) := dk_4 (dk_at dksX4_feed_2 13 rfl rfl)
theorem dX4_feed_60 : decode cX4_feed 60 = .ok (.iadd, 1) := dk_96 (dk_at dksX4_feed_2 14 rfl rfl)
theorem dX4_feed_61 : decode cX4_feed 61 = .ok (.putfield 117, 3) := dk_181 0 117 (dk_at dksX4_feed_2 15 rfl rfl)
theorem dX4_feed_64 : decode cX4_feed 64 = .ok (.iinc 3 1, 3) := dk_132 3 1 (dk_at dksX4_feed_2 18 rfl rfl)
theorem dX4_feed_67 : decode cX4_feed 67 = .ok (.goto (-37), 3) := dk_167 255 219 (dk_at dksX4_feed_2 21 rfl rfl)
theorem dX4_feed_70 : decode cX4_feed 70 = .ok (.aload_n 0, 1) := dk_42 (dk_at dksX4_feed_3 0 rfl rfl)
theorem dX4_feed_71 : decode cX4_feed 71 = .ok (.getfield 117, 3) := dk_180 0 117 (dk_at dksX4_feed_3 1 rfl rfl)
theorem dX4_feed_74 : decode cX4_feed 74 = .ok (.ireturn, 1) := dk_172 (dk_at dksX4_feed_3 4 rfl rfl)
abbrev cX4_within : ByteArray := prog_34_method_1_code
def yX4_within : MethodName := ⟨RX4, "within", "(JJJ)Z"⟩
def dkwX4_within_0 : List UInt8 := [30, 32, 148, 155, 0, 14, 30, 22, 4, 148, 157, 0, 7, 4, 167, 0, 4, 3, 172]
abbrev dktX4_within_0 : List UInt8 := dkwX4_within_0 ++ []
theorem dksX4_within_0 : cX4_within.data.toList.drop 0 = dktX4_within_0 := by decide +kernel
theorem dX4_within_0 : decode cX4_within 0 = .ok (.lload_n 0, 1) := dk_30 (dk_at dksX4_within_0 0 rfl rfl)
theorem dX4_within_1 : decode cX4_within 1 = .ok (.lload_n 2, 1) := dk_32 (dk_at dksX4_within_0 1 rfl rfl)
theorem dX4_within_2 : decode cX4_within 2 = .ok (.lcmp, 1) := dk_148 (dk_at dksX4_within_0 2 rfl rfl)
theorem dX4_within_3 : decode cX4_within 3 = .ok (.ifCond .lt 14, 3) := dk_155 0 14 (dk_at dksX4_within_0 3 rfl rfl)
theorem dX4_within_6 : decode cX4_within 6 = .ok (.lload_n 0, 1) := dk_30 (dk_at dksX4_within_0 6 rfl rfl)
theorem dX4_within_7 : decode cX4_within 7 = .ok (.lload 4, 2) := dk_22 4 (dk_at dksX4_within_0 7 rfl rfl)
theorem dX4_within_9 : decode cX4_within 9 = .ok (.lcmp, 1) := dk_148 (dk_at dksX4_within_0 9 rfl rfl)
theorem dX4_within_10 : decode cX4_within 10 = .ok (.ifCond .gt 7, 3) := dk_157 0 7 (dk_at dksX4_within_0 10 rfl rfl)
theorem dX4_within_13 : decode cX4_within 13 = .ok (.iconst 1, 1) := dk_4 (dk_at dksX4_within_0 13 rfl rfl)
theorem dX4_within_14 : decode cX4_within 14 = .ok (.goto 4, 3) := dk_167 0 4 (dk_at dksX4_within_0 14 rfl rfl)
theorem dX4_within_17 : decode cX4_within 17 = .ok (.iconst 0, 1) := dk_3 (dk_at dksX4_within_0 17 rfl rfl)
theorem dX4_within_18 : decode cX4_within 18 = .ok (.ireturn, 1) := dk_172 (dk_at dksX4_within_0 18 rfl rfl)
abbrev cX4_choice : ByteArray := prog_34_method_19_code
def yX4_choice : MethodName := ⟨RX4, "choice", "()I"⟩
def dkwX4_choice_2 : List UInt8 := [180, 0, 22, 29, 46, 79, 132, 3, 1, 167, 255, 236, 42, 28, 181, 0, 101, 4, 172]
abbrev dktX4_choice_2 : List UInt8 := dkwX4_choice_2 ++ []
def dkwX4_choice_1 : List UInt8 := [155, 0, 11, 16, 156, 42, 180, 0, 129, 100, 172, 3, 62, 29, 28, 162, 0, 21, 42, 180, 0, 25, 29, 42]
abbrev dktX4_choice_1 : List UInt8 := dkwX4_choice_1 ++ dktX4_choice_2
def dkwX4_choice_0 : List UInt8 := [42, 2, 42, 180, 0, 117, 182, 0, 168, 60, 42, 180, 0, 117, 61, 42, 3, 181, 0, 117, 42, 180, 0, 129]
abbrev dktX4_choice_0 : List UInt8 := dkwX4_choice_0 ++ dktX4_choice_1
theorem dksX4_choice_0 : cX4_choice.data.toList.drop 0 = dktX4_choice_0 := by decide +kernel
theorem dksX4_choice_1 : cX4_choice.data.toList.drop 24 = dktX4_choice_1 := dk_seg dksX4_choice_0 24 rfl rfl
theorem dksX4_choice_2 : cX4_choice.data.toList.drop 48 = dktX4_choice_2 := dk_seg dksX4_choice_1 24 rfl rfl
theorem dX4_choice_0 : decode cX4_choice 0 = .ok (.aload_n 0, 1) := dk_42 (dk_at dksX4_choice_0 0 rfl rfl)
theorem dX4_choice_1 : decode cX4_choice 1 = .ok (.iconst (-1), 1) := dk_2 (dk_at dksX4_choice_0 1 rfl rfl)
theorem dX4_choice_2 : decode cX4_choice 2 = .ok (.aload_n 0, 1) := dk_42 (dk_at dksX4_choice_0 2 rfl rfl)
theorem dX4_choice_3 : decode cX4_choice 3 = .ok (.getfield 117, 3) := dk_180 0 117 (dk_at dksX4_choice_0 3 rfl rfl)
theorem dX4_choice_6 : decode cX4_choice 6 = .ok (.invokevirtual 168, 3) := dk_182 0 168 (dk_at dksX4_choice_0 6 rfl rfl)
theorem dX4_choice_9 : decode cX4_choice 9 = .ok (.istore_n 1, 1) := dk_60 (dk_at dksX4_choice_0 9 rfl rfl)
theorem dX4_choice_10 : decode cX4_choice 10 = .ok (.aload_n 0, 1) := dk_42 (dk_at dksX4_choice_0 10 rfl rfl)
theorem dX4_choice_11 : decode cX4_choice 11 = .ok (.getfield 117, 3) := dk_180 0 117 (dk_at dksX4_choice_0 11 rfl rfl)
theorem dX4_choice_14 : decode cX4_choice 14 = .ok (.istore_n 2, 1) := dk_61 (dk_at dksX4_choice_0 14 rfl rfl)
theorem dX4_choice_15 : decode cX4_choice 15 = .ok (.aload_n 0, 1) := dk_42 (dk_at dksX4_choice_0 15 rfl rfl)
theorem dX4_choice_16 : decode cX4_choice 16 = .ok (.iconst 0, 1) := dk_3 (dk_at dksX4_choice_0 16 rfl rfl)
theorem dX4_choice_17 : decode cX4_choice 17 = .ok (.putfield 117, 3) := dk_181 0 117 (dk_at dksX4_choice_0 17 rfl rfl)
theorem dX4_choice_20 : decode cX4_choice 20 = .ok (.aload_n 0, 1) := dk_42 (dk_at dksX4_choice_0 20 rfl rfl)
theorem dX4_choice_21 : decode cX4_choice 21 = .ok (.getfield 129, 3) := dk_180 0 129 (dk_at dksX4_choice_0 21 rfl rfl)
theorem dX4_choice_24 : decode cX4_choice 24 = .ok (.ifCond .lt 11, 3) := dk_155 0 11 (dk_at dksX4_choice_1 0 rfl rfl)
theorem dX4_choice_27 : decode cX4_choice 27 = .ok (.bipush (-100), 2) := dk_16 156 (dk_at dksX4_choice_1 3 rfl rfl)
theorem dX4_choice_29 : decode cX4_choice 29 = .ok (.aload_n 0, 1) := dk_42 (dk_at dksX4_choice_1 5 rfl rfl)
theorem dX4_choice_30 : decode cX4_choice 30 = .ok (.getfield 129, 3) := dk_180 0 129 (dk_at dksX4_choice_1 6 rfl rfl)
theorem dX4_choice_33 : decode cX4_choice 33 = .ok (.isub, 1) := dk_100 (dk_at dksX4_choice_1 9 rfl rfl)
theorem dX4_choice_34 : decode cX4_choice 34 = .ok (.ireturn, 1) := dk_172 (dk_at dksX4_choice_1 10 rfl rfl)
theorem dX4_choice_35 : decode cX4_choice 35 = .ok (.iconst 0, 1) := dk_3 (dk_at dksX4_choice_1 11 rfl rfl)
theorem dX4_choice_36 : decode cX4_choice 36 = .ok (.istore_n 3, 1) := dk_62 (dk_at dksX4_choice_1 12 rfl rfl)
theorem dX4_choice_37 : decode cX4_choice 37 = .ok (.iload_n 3, 1) := dk_29 (dk_at dksX4_choice_1 13 rfl rfl)
theorem dX4_choice_38 : decode cX4_choice 38 = .ok (.iload_n 2, 1) := dk_28 (dk_at dksX4_choice_1 14 rfl rfl)
theorem dX4_choice_39 : decode cX4_choice 39 = .ok (.if_icmp .ge 21, 3) := dk_162 0 21 (dk_at dksX4_choice_1 15 rfl rfl)
theorem dX4_choice_42 : decode cX4_choice 42 = .ok (.aload_n 0, 1) := dk_42 (dk_at dksX4_choice_1 18 rfl rfl)
theorem dX4_choice_43 : decode cX4_choice 43 = .ok (.getfield 25, 3) := dk_180 0 25 (dk_at dksX4_choice_1 19 rfl rfl)
theorem dX4_choice_46 : decode cX4_choice 46 = .ok (.iload_n 3, 1) := dk_29 (dk_at dksX4_choice_1 22 rfl rfl)
theorem dX4_choice_47 : decode cX4_choice 47 = .ok (.aload_n 0, 1) := dk_42 (dk_at dksX4_choice_1 23 rfl rfl)
theorem dX4_choice_48 : decode cX4_choice 48 = .ok (.getfield 22, 3) := dk_180 0 22 (dk_at dksX4_choice_2 0 rfl rfl)
theorem dX4_choice_51 : decode cX4_choice 51 = .ok (.iload_n 3, 1) := dk_29 (dk_at dksX4_choice_2 3 rfl rfl)
theorem dX4_choice_52 : decode cX4_choice 52 = .ok (.iaload, 1) := dk_46 (dk_at dksX4_choice_2 4 rfl rfl)
theorem dX4_choice_53 : decode cX4_choice 53 = .ok (.iastore, 1) := dk_79 (dk_at dksX4_choice_2 5 rfl rfl)
theorem dX4_choice_54 : decode cX4_choice 54 = .ok (.iinc 3 1, 3) := dk_132 3 1 (dk_at dksX4_choice_2 6 rfl rfl)
theorem dX4_choice_57 : decode cX4_choice 57 = .ok (.goto (-20), 3) := dk_167 255 236 (dk_at dksX4_choice_2 9 rfl rfl)
theorem dX4_choice_60 : decode cX4_choice 60 = .ok (.aload_n 0, 1) := dk_42 (dk_at dksX4_choice_2 12 rfl rfl)
theorem dX4_choice_61 : decode cX4_choice 61 = .ok (.iload_n 2, 1) := dk_28 (dk_at dksX4_choice_2 13 rfl rfl)
theorem dX4_choice_62 : decode cX4_choice 62 = .ok (.putfield 101, 3) := dk_181 0 101 (dk_at dksX4_choice_2 14 rfl rfl)
theorem dX4_choice_65 : decode cX4_choice 65 = .ok (.iconst 1, 1) := dk_4 (dk_at dksX4_choice_2 17 rfl rfl)
theorem dX4_choice_66 : decode cX4_choice 66 = .ok (.ireturn, 1) := dk_172 (dk_at dksX4_choice_2 18 rfl rfl)
abbrev cX4_workOut : ByteArray := prog_34_method_18_code
def yX4_workOut : MethodName := ⟨RX4, "workOut", "(II)I"⟩
def dkwX4_workOut_5 : List UInt8 := [180, 0, 120, 42, 180, 0, 123, 162, 0, 8, 42, 182, 0, 158, 172, 21, 4, 172]
abbrev dktX4_workOut_5 : List UInt8 := dkwX4_workOut_5 ++ []
def dkwX4_workOut_4 : List UInt8 := [21, 6, 54, 4, 42, 16, 59, 182, 0, 139, 54, 5, 167, 255, 185, 42, 180, 0, 129, 156, 0, 19, 42]
abbrev dktX4_workOut_4 : List UInt8 := dkwX4_workOut_4 ++ dktX4_workOut_5
def dkwX4_workOut_3 : List UInt8 := [182, 0, 161, 54, 6, 42, 180, 0, 129, 156, 0, 18, 21, 7, 153, 0, 13, 29, 154, 0, 9, 4, 62]
abbrev dktX4_workOut_3 : List UInt8 := dkwX4_workOut_3 ++ dktX4_workOut_4
def dkwX4_workOut_2 : List UInt8 := [54, 7, 42, 16, 63, 182, 0, 139, 153, 0, 21, 21, 6, 153, 0, 7, 4, 167, 0, 4, 3, 54, 7, 42]
abbrev dktX4_workOut_2 : List UInt8 := dkwX4_workOut_2 ++ dktX4_workOut_3
def dkwX4_workOut_1 : List UInt8 := [181, 0, 155, 3, 62, 3, 54, 4, 4, 54, 5, 21, 5, 153, 0, 72, 42, 182, 0, 161, 54, 6, 4]
abbrev dktX4_workOut_1 : List UInt8 := dkwX4_workOut_1 ++ dktX4_workOut_2
def dkwX4_workOut_0 : List UInt8 := [42, 27, 181, 0, 126, 42, 3, 181, 0, 120, 42, 28, 181, 0, 123, 42, 2, 181, 0, 129, 42, 3]
abbrev dktX4_workOut_0 : List UInt8 := dkwX4_workOut_0 ++ dktX4_workOut_1
theorem dksX4_workOut_0 : cX4_workOut.data.toList.drop 0 = dktX4_workOut_0 := by decide +kernel
theorem dksX4_workOut_1 : cX4_workOut.data.toList.drop 22 = dktX4_workOut_1 := dk_seg dksX4_workOut_0 22 rfl rfl
theorem dksX4_workOut_2 : cX4_workOut.data.toList.drop 45 = dktX4_workOut_2 := dk_seg dksX4_workOut_1 23 rfl rfl
theorem dksX4_workOut_3 : cX4_workOut.data.toList.drop 69 = dktX4_workOut_3 := dk_seg dksX4_workOut_2 24 rfl rfl
theorem dksX4_workOut_4 : cX4_workOut.data.toList.drop 92 = dktX4_workOut_4 := dk_seg dksX4_workOut_3 23 rfl rfl
theorem dksX4_workOut_5 : cX4_workOut.data.toList.drop 115 = dktX4_workOut_5 := dk_seg dksX4_workOut_4 23 rfl rfl
theorem dX4_workOut_0 : decode cX4_workOut 0 = .ok (.aload_n 0, 1) := dk_42 (dk_at dksX4_workOut_0 0 rfl rfl)
theorem dX4_workOut_1 : decode cX4_workOut 1 = .ok (.iload_n 1, 1) := dk_27 (dk_at dksX4_workOut_0 1 rfl rfl)
theorem dX4_workOut_2 : decode cX4_workOut 2 = .ok (.putfield 126, 3) := dk_181 0 126 (dk_at dksX4_workOut_0 2 rfl rfl)
theorem dX4_workOut_5 : decode cX4_workOut 5 = .ok (.aload_n 0, 1) := dk_42 (dk_at dksX4_workOut_0 5 rfl rfl)
theorem dX4_workOut_6 : decode cX4_workOut 6 = .ok (.iconst 0, 1) := dk_3 (dk_at dksX4_workOut_0 6 rfl rfl)
theorem dX4_workOut_7 : decode cX4_workOut 7 = .ok (.putfield 120, 3) := dk_181 0 120 (dk_at dksX4_workOut_0 7 rfl rfl)
theorem dX4_workOut_10 : decode cX4_workOut 10 = .ok (.aload_n 0, 1) := dk_42 (dk_at dksX4_workOut_0 10 rfl rfl)
theorem dX4_workOut_11 : decode cX4_workOut 11 = .ok (.iload_n 2, 1) := dk_28 (dk_at dksX4_workOut_0 11 rfl rfl)
theorem dX4_workOut_12 : decode cX4_workOut 12 = .ok (.putfield 123, 3) := dk_181 0 123 (dk_at dksX4_workOut_0 12 rfl rfl)
theorem dX4_workOut_15 : decode cX4_workOut 15 = .ok (.aload_n 0, 1) := dk_42 (dk_at dksX4_workOut_0 15 rfl rfl)
theorem dX4_workOut_16 : decode cX4_workOut 16 = .ok (.iconst (-1), 1) := dk_2 (dk_at dksX4_workOut_0 16 rfl rfl)
theorem dX4_workOut_17 : decode cX4_workOut 17 = .ok (.putfield 129, 3) := dk_181 0 129 (dk_at dksX4_workOut_0 17 rfl rfl)
theorem dX4_workOut_20 : decode cX4_workOut 20 = .ok (.aload_n 0, 1) := dk_42 (dk_at dksX4_workOut_0 20 rfl rfl)
theorem dX4_workOut_21 : decode cX4_workOut 21 = .ok (.iconst 0, 1) := dk_3 (dk_at dksX4_workOut_0 21 rfl rfl)
theorem dX4_workOut_22 : decode cX4_workOut 22 = .ok (.putfield 155, 3) := dk_181 0 155 (dk_at dksX4_workOut_1 0 rfl rfl)
theorem dX4_workOut_25 : decode cX4_workOut 25 = .ok (.iconst 0, 1) := dk_3 (dk_at dksX4_workOut_1 3 rfl rfl)
theorem dX4_workOut_26 : decode cX4_workOut 26 = .ok (.istore_n 3, 1) := dk_62 (dk_at dksX4_workOut_1 4 rfl rfl)
theorem dX4_workOut_27 : decode cX4_workOut 27 = .ok (.iconst 0, 1) := dk_3 (dk_at dksX4_workOut_1 5 rfl rfl)
theorem dX4_workOut_28 : decode cX4_workOut 28 = .ok (.istore 4, 2) := dk_54 4 (dk_at dksX4_workOut_1 6 rfl rfl)
theorem dX4_workOut_30 : decode cX4_workOut 30 = .ok (.iconst 1, 1) := dk_4 (dk_at dksX4_workOut_1 8 rfl rfl)
theorem dX4_workOut_31 : decode cX4_workOut 31 = .ok (.istore 5, 2) := dk_54 5 (dk_at dksX4_workOut_1 9 rfl rfl)
theorem dX4_workOut_33 : decode cX4_workOut 33 = .ok (.iload 5, 2) := dk_21 5 (dk_at dksX4_workOut_1 11 rfl rfl)
theorem dX4_workOut_35 : decode cX4_workOut 35 = .ok (.ifCond .eq 72, 3) := dk_153 0 72 (dk_at dksX4_workOut_1 13 rfl rfl)
theorem dX4_workOut_38 : decode cX4_workOut 38 = .ok (.aload_n 0, 1) := dk_42 (dk_at dksX4_workOut_1 16 rfl rfl)
theorem dX4_workOut_39 : decode cX4_workOut 39 = .ok (.invokevirtual 161, 3) := dk_182 0 161 (dk_at dksX4_workOut_1 17 rfl rfl)
theorem dX4_workOut_42 : decode cX4_workOut 42 = .ok (.istore 6, 2) := dk_54 6 (dk_at dksX4_workOut_1 20 rfl rfl)
theorem dX4_workOut_44 : decode cX4_workOut 44 = .ok (.iconst 1, 1) := dk_4 (dk_at dksX4_workOut_1 22 rfl rfl)
theorem dX4_workOut_45 : decode cX4_workOut 45 = .ok (.istore 7, 2) := dk_54 7 (dk_at dksX4_workOut_2 0 rfl rfl)
theorem dX4_workOut_47 : decode cX4_workOut 47 = .ok (.aload_n 0, 1) := dk_42 (dk_at dksX4_workOut_2 2 rfl rfl)
theorem dX4_workOut_48 : decode cX4_workOut 48 = .ok (.bipush 63, 2) := dk_16 63 (dk_at dksX4_workOut_2 3 rfl rfl)
theorem dX4_workOut_50 : decode cX4_workOut 50 = .ok (.invokevirtual 139, 3) := dk_182 0 139 (dk_at dksX4_workOut_2 5 rfl rfl)
theorem dX4_workOut_53 : decode cX4_workOut 53 = .ok (.ifCond .eq 21, 3) := dk_153 0 21 (dk_at dksX4_workOut_2 8 rfl rfl)
theorem dX4_workOut_56 : decode cX4_workOut 56 = .ok (.iload 6, 2) := dk_21 6 (dk_at dksX4_workOut_2 11 rfl rfl)
theorem dX4_workOut_58 : decode cX4_workOut 58 = .ok (.ifCond .eq 7, 3) := dk_153 0 7 (dk_at dksX4_workOut_2 13 rfl rfl)
theorem dX4_workOut_61 : decode cX4_workOut 61 = .ok (.iconst 1, 1) := dk_4 (dk_at dksX4_workOut_2 16 rfl rfl)
theorem dX4_workOut_62 : decode cX4_workOut 62 = .ok (.goto 4, 3) := dk_167 0 4 (dk_at dksX4_workOut_2 17 rfl rfl)
theorem dX4_workOut_65 : decode cX4_workOut 65 = .ok (.iconst 0, 1) := dk_3 (dk_at dksX4_workOut_2 20 rfl rfl)
theorem dX4_workOut_66 : decode cX4_workOut 66 = .ok (.istore 7, 2) := dk_54 7 (dk_at dksX4_workOut_2 21 rfl rfl)
theorem dX4_workOut_68 : decode cX4_workOut 68 = .ok (.aload_n 0, 1) := dk_42 (dk_at dksX4_workOut_2 23 rfl rfl)
theorem dX4_workOut_69 : decode cX4_workOut 69 = .ok (.invokevirtual 161, 3) := dk_182 0 161 (dk_at dksX4_workOut_3 0 rfl rfl)
theorem dX4_workOut_72 : decode cX4_workOut 72 = .ok (.istore 6, 2) := dk_54 6 (dk_at dksX4_workOut_3 3 rfl rfl)
theorem dX4_workOut_74 : decode cX4_workOut 74 = .ok (.aload_n 0, 1) := dk_42 (dk_at dksX4_workOut_3 5 rfl rfl)
theorem dX4_workOut_75 : decode cX4_workOut 75 = .ok (.getfield 129, 3) := dk_180 0 129 (dk_at dksX4_workOut_3 6 rfl rfl)
theorem dX4_workOut_78 : decode cX4_workOut 78 = .ok (.ifCond .ge 18, 3) := dk_156 0 18 (dk_at dksX4_workOut_3 9 rfl rfl)
theorem dX4_workOut_81 : decode cX4_workOut 81 = .ok (.iload 7, 2) := dk_21 7 (dk_at dksX4_workOut_3 12 rfl rfl)
theorem dX4_workOut_83 : decode cX4_workOut 83 = .ok (.ifCond .eq 13, 3) := dk_153 0 13 (dk_at dksX4_workOut_3 14 rfl rfl)
theorem dX4_workOut_86 : decode cX4_workOut 86 = .ok (.iload_n 3, 1) := dk_29 (dk_at dksX4_workOut_3 17 rfl rfl)
theorem dX4_workOut_87 : decode cX4_workOut 87 = .ok (.ifCond .ne 9, 3) := dk_154 0 9 (dk_at dksX4_workOut_3 18 rfl rfl)
theorem dX4_workOut_90 : decode cX4_workOut 90 = .ok (.iconst 1, 1) := dk_4 (dk_at dksX4_workOut_3 21 rfl rfl)
theorem dX4_workOut_91 : decode cX4_workOut 91 = .ok (.istore_n 3, 1) := dk_62 (dk_at dksX4_workOut_3 22 rfl rfl)
theorem dX4_workOut_92 : decode cX4_workOut 92 = .ok (.iload 6, 2) := dk_21 6 (dk_at dksX4_workOut_4 0 rfl rfl)
theorem dX4_workOut_94 : decode cX4_workOut 94 = .ok (.istore 4, 2) := dk_54 4 (dk_at dksX4_workOut_4 2 rfl rfl)
theorem dX4_workOut_96 : decode cX4_workOut 96 = .ok (.aload_n 0, 1) := dk_42 (dk_at dksX4_workOut_4 4 rfl rfl)
theorem dX4_workOut_97 : decode cX4_workOut 97 = .ok (.bipush 59, 2) := dk_16 59 (dk_at dksX4_workOut_4 5 rfl rfl)
theorem dX4_workOut_99 : decode cX4_workOut 99 = .ok (.invokevirtual 139, 3) := dk_182 0 139 (dk_at dksX4_workOut_4 7 rfl rfl)
theorem dX4_workOut_102 : decode cX4_workOut 102 = .ok (.istore 5, 2) := dk_54 5 (dk_at dksX4_workOut_4 10 rfl rfl)
theorem dX4_workOut_104 : decode cX4_workOut 104 = .ok (.goto (-71), 3) := dk_167 255 185 (dk_at dksX4_workOut_4 12 rfl rfl)
theorem dX4_workOut_107 : decode cX4_workOut 107 = .ok (.aload_n 0, 1) := dk_42 (dk_at dksX4_workOut_4 15 rfl rfl)
theorem dX4_workOut_108 : decode cX4_workOut 108 = .ok (.getfield 129, 3) := dk_180 0 129 (dk_at dksX4_workOut_4 16 rfl rfl)
theorem dX4_workOut_111 : decode cX4_workOut 111 = .ok (.ifCond .ge 19, 3) := dk_156 0 19 (dk_at dksX4_workOut_4 19 rfl rfl)
theorem dX4_workOut_114 : decode cX4_workOut 114 = .ok (.aload_n 0, 1) := dk_42 (dk_at dksX4_workOut_4 22 rfl rfl)
theorem dX4_workOut_115 : decode cX4_workOut 115 = .ok (.getfield 120, 3) := dk_180 0 120 (dk_at dksX4_workOut_5 0 rfl rfl)
theorem dX4_workOut_118 : decode cX4_workOut 118 = .ok (.aload_n 0, 1) := dk_42 (dk_at dksX4_workOut_5 3 rfl rfl)
theorem dX4_workOut_119 : decode cX4_workOut 119 = .ok (.getfield 123, 3) := dk_180 0 123 (dk_at dksX4_workOut_5 4 rfl rfl)
theorem dX4_workOut_122 : decode cX4_workOut 122 = .ok (.if_icmp .ge 8, 3) := dk_162 0 8 (dk_at dksX4_workOut_5 7 rfl rfl)
theorem dX4_workOut_125 : decode cX4_workOut 125 = .ok (.aload_n 0, 1) := dk_42 (dk_at dksX4_workOut_5 10 rfl rfl)
theorem dX4_workOut_126 : decode cX4_workOut 126 = .ok (.invokevirtual 158, 3) := dk_182 0 158 (dk_at dksX4_workOut_5 11 rfl rfl)
theorem dX4_workOut_129 : decode cX4_workOut 129 = .ok (.ireturn, 1) := dk_172 (dk_at dksX4_workOut_5 14 rfl rfl)
theorem dX4_workOut_130 : decode cX4_workOut 130 = .ok (.iload 4, 2) := dk_21 4 (dk_at dksX4_workOut_5 15 rfl rfl)
theorem dX4_workOut_132 : decode cX4_workOut 132 = .ok (.ireturn, 1) := dk_172 (dk_at dksX4_workOut_5 17 rfl rfl)
abbrev cX4_either : ByteArray := prog_34_method_11_code
def yX4_either : MethodName := ⟨RX4, "either", "()I"⟩
def dkwX4_either_1 : List UInt8 := [153, 0, 7, 4, 167, 0, 4, 3, 60, 167, 255, 228, 27, 172]
abbrev dktX4_either_1 : List UInt8 := dkwX4_either_1 ++ []
def dkwX4_either_0 : List UInt8 := [42, 182, 0, 136, 60, 42, 16, 124, 182, 0, 139, 153, 0, 25, 42, 182, 0, 136, 61, 27, 154, 0, 7, 28]
abbrev dktX4_either_0 : List UInt8 := dkwX4_either_0 ++ dktX4_either_1
theorem dksX4_either_0 : cX4_either.data.toList.drop 0 = dktX4_either_0 := by decide +kernel
theorem dksX4_either_1 : cX4_either.data.toList.drop 24 = dktX4_either_1 := dk_seg dksX4_either_0 24 rfl rfl
theorem dX4_either_0 : decode cX4_either 0 = .ok (.aload_n 0, 1) := dk_42 (dk_at dksX4_either_0 0 rfl rfl)
theorem dX4_either_1 : decode cX4_either 1 = .ok (.invokevirtual 136, 3) := dk_182 0 136 (dk_at dksX4_either_0 1 rfl rfl)
theorem dX4_either_4 : decode cX4_either 4 = .ok (.istore_n 1, 1) := dk_60 (dk_at dksX4_either_0 4 rfl rfl)
theorem dX4_either_5 : decode cX4_either 5 = .ok (.aload_n 0, 1) := dk_42 (dk_at dksX4_either_0 5 rfl rfl)
theorem dX4_either_6 : decode cX4_either 6 = .ok (.bipush 124, 2) := dk_16 124 (dk_at dksX4_either_0 6 rfl rfl)
theorem dX4_either_8 : decode cX4_either 8 = .ok (.invokevirtual 139, 3) := dk_182 0 139 (dk_at dksX4_either_0 8 rfl rfl)
theorem dX4_either_11 : decode cX4_either 11 = .ok (.ifCond .eq 25, 3) := dk_153 0 25 (dk_at dksX4_either_0 11 rfl rfl)
theorem dX4_either_14 : decode cX4_either 14 = .ok (.aload_n 0, 1) := dk_42 (dk_at dksX4_either_0 14 rfl rfl)
theorem dX4_either_15 : decode cX4_either 15 = .ok (.invokevirtual 136, 3) := dk_182 0 136 (dk_at dksX4_either_0 15 rfl rfl)
theorem dX4_either_18 : decode cX4_either 18 = .ok (.istore_n 2, 1) := dk_61 (dk_at dksX4_either_0 18 rfl rfl)
theorem dX4_either_19 : decode cX4_either 19 = .ok (.iload_n 1, 1) := dk_27 (dk_at dksX4_either_0 19 rfl rfl)
theorem dX4_either_20 : decode cX4_either 20 = .ok (.ifCond .ne 7, 3) := dk_154 0 7 (dk_at dksX4_either_0 20 rfl rfl)
theorem dX4_either_23 : decode cX4_either 23 = .ok (.iload_n 2, 1) := dk_28 (dk_at dksX4_either_0 23 rfl rfl)
theorem dX4_either_24 : decode cX4_either 24 = .ok (.ifCond .eq 7, 3) := dk_153 0 7 (dk_at dksX4_either_1 0 rfl rfl)
theorem dX4_either_27 : decode cX4_either 27 = .ok (.iconst 1, 1) := dk_4 (dk_at dksX4_either_1 3 rfl rfl)
theorem dX4_either_28 : decode cX4_either 28 = .ok (.goto 4, 3) := dk_167 0 4 (dk_at dksX4_either_1 4 rfl rfl)
theorem dX4_either_31 : decode cX4_either 31 = .ok (.iconst 0, 1) := dk_3 (dk_at dksX4_either_1 7 rfl rfl)
theorem dX4_either_32 : decode cX4_either 32 = .ok (.istore_n 1, 1) := dk_60 (dk_at dksX4_either_1 8 rfl rfl)
theorem dX4_either_33 : decode cX4_either 33 = .ok (.goto (-28), 3) := dk_167 255 228 (dk_at dksX4_either_1 9 rfl rfl)
theorem dX4_either_36 : decode cX4_either 36 = .ok (.iload_n 1, 1) := dk_27 (dk_at dksX4_either_1 12 rfl rfl)
theorem dX4_either_37 : decode cX4_either 37 = .ok (.ireturn, 1) := dk_172 (dk_at dksX4_either_1 13 rfl rfl)
abbrev cX4_both : ByteArray := prog_34_method_12_code
def yX4_both : MethodName := ⟨RX4, "both", "()I"⟩
def dkwX4_both_1 : List UInt8 := [153, 0, 7, 4, 167, 0, 4, 3, 60, 167, 255, 228, 27, 172]
abbrev dktX4_both_1 : List UInt8 := dkwX4_both_1 ++ []
def dkwX4_both_0 : List UInt8 := [42, 182, 0, 143, 60, 42, 16, 38, 182, 0, 139, 153, 0, 25, 42, 182, 0, 143, 61, 27, 153, 0, 11, 28]
abbrev dktX4_both_0 : List UInt8 := dkwX4_both_0 ++ dktX4_both_1
theorem dksX4_both_0 : cX4_both.data.toList.drop 0 = dktX4_both_0 := by decide +kernel
theorem dksX4_both_1 : cX4_both.data.toList.drop 24 = dktX4_both_1 := dk_seg dksX4_both_0 24 rfl rfl
theorem dX4_both_0 : decode cX4_both 0 = .ok (.aload_n 0, 1) := dk_42 (dk_at dksX4_both_0 0 rfl rfl)
theorem dX4_both_1 : decode cX4_both 1 = .ok (.invokevirtual 143, 3) := dk_182 0 143 (dk_at dksX4_both_0 1 rfl rfl)
theorem dX4_both_4 : decode cX4_both 4 = .ok (.istore_n 1, 1) := dk_60 (dk_at dksX4_both_0 4 rfl rfl)
theorem dX4_both_5 : decode cX4_both 5 = .ok (.aload_n 0, 1) := dk_42 (dk_at dksX4_both_0 5 rfl rfl)
theorem dX4_both_6 : decode cX4_both 6 = .ok (.bipush 38, 2) := dk_16 38 (dk_at dksX4_both_0 6 rfl rfl)
theorem dX4_both_8 : decode cX4_both 8 = .ok (.invokevirtual 139, 3) := dk_182 0 139 (dk_at dksX4_both_0 8 rfl rfl)
theorem dX4_both_11 : decode cX4_both 11 = .ok (.ifCond .eq 25, 3) := dk_153 0 25 (dk_at dksX4_both_0 11 rfl rfl)
theorem dX4_both_14 : decode cX4_both 14 = .ok (.aload_n 0, 1) := dk_42 (dk_at dksX4_both_0 14 rfl rfl)
theorem dX4_both_15 : decode cX4_both 15 = .ok (.invokevirtual 143, 3) := dk_182 0 143 (dk_at dksX4_both_0 15 rfl rfl)
theorem dX4_both_18 : decode cX4_both 18 = .ok (.istore_n 2, 1) := dk_61 (dk_at dksX4_both_0 18 rfl rfl)
theorem dX4_both_19 : decode cX4_both 19 = .ok (.iload_n 1, 1) := dk_27 (dk_at dksX4_both_0 19 rfl rfl)
theorem dX4_both_20 : decode cX4_both 20 = .ok (.ifCond .eq 11, 3) := dk_153 0 11 (dk_at dksX4_both_0 20 rfl rfl)
theorem dX4_both_23 : decode cX4_both 23 = .ok (.iload_n 2, 1) := dk_28 (dk_at dksX4_both_0 23 rfl rfl)
theorem dX4_both_24 : decode cX4_both 24 = .ok (.ifCond .eq 7, 3) := dk_153 0 7 (dk_at dksX4_both_1 0 rfl rfl)
theorem dX4_both_27 : decode cX4_both 27 = .ok (.iconst 1, 1) := dk_4 (dk_at dksX4_both_1 3 rfl rfl)
theorem dX4_both_28 : decode cX4_both 28 = .ok (.goto 4, 3) := dk_167 0 4 (dk_at dksX4_both_1 4 rfl rfl)
theorem dX4_both_31 : decode cX4_both 31 = .ok (.iconst 0, 1) := dk_3 (dk_at dksX4_both_1 7 rfl rfl)
theorem dX4_both_32 : decode cX4_both 32 = .ok (.istore_n 1, 1) := dk_60 (dk_at dksX4_both_1 8 rfl rfl)
theorem dX4_both_33 : decode cX4_both 33 = .ok (.goto (-28), 3) := dk_167 255 228 (dk_at dksX4_both_1 9 rfl rfl)
theorem dX4_both_36 : decode cX4_both 36 = .ok (.iload_n 1, 1) := dk_27 (dk_at dksX4_both_1 12 rfl rfl)
theorem dX4_both_37 : decode cX4_both 37 = .ok (.ireturn, 1) := dk_172 (dk_at dksX4_both_1 13 rfl rfl)
abbrev cX4_compared : ByteArray := prog_34_method_13_code
def yX4_compared : MethodName := ⟨RX4, "compared", "()I"⟩
def dkwX4_compared_3 : List UInt8 := [27, 29, 160, 0, 15, 167, 0, 8, 27, 29, 164, 0, 7, 4, 167, 0, 4, 3, 172]
abbrev dktX4_compared_3 : List UInt8 := dkwX4_compared_3 ++ []
def dkwX4_compared_2 : List UInt8 := [182, 0, 146, 62, 28, 16, 60, 160, 0, 11, 27, 29, 162, 0, 29, 167, 0, 22, 28, 16, 61, 160, 0, 11]
abbrev dktX4_compared_2 : List UInt8 := dkwX4_compared_2 ++ dktX4_compared_3
def dkwX4_compared_1 : List UInt8 := [16, 61, 159, 0, 11, 28, 16, 62, 159, 0, 5, 27, 172, 42, 89, 180, 0, 120, 4, 96, 181, 0, 120, 42]
abbrev dktX4_compared_1 : List UInt8 := dkwX4_compared_1 ++ dktX4_compared_2
def dkwX4_compared_0 : List UInt8 := [42, 182, 0, 146, 60, 42, 182, 0, 132, 61, 42, 180, 0, 129, 156, 0, 21, 28, 16, 60, 159, 0, 17, 28]
abbrev dktX4_compared_0 : List UInt8 := dkwX4_compared_0 ++ dktX4_compared_1
theorem dksX4_compared_0 : cX4_compared.data.toList.drop 0 = dktX4_compared_0 := by decide +kernel
theorem dksX4_compared_1 : cX4_compared.data.toList.drop 24 = dktX4_compared_1 := dk_seg dksX4_compared_0 24 rfl rfl
theorem dksX4_compared_2 : cX4_compared.data.toList.drop 48 = dktX4_compared_2 := dk_seg dksX4_compared_1 24 rfl rfl
theorem dksX4_compared_3 : cX4_compared.data.toList.drop 72 = dktX4_compared_3 := dk_seg dksX4_compared_2 24 rfl rfl
theorem dX4_compared_0 : decode cX4_compared 0 = .ok (.aload_n 0, 1) := dk_42 (dk_at dksX4_compared_0 0 rfl rfl)
theorem dX4_compared_1 : decode cX4_compared 1 = .ok (.invokevirtual 146, 3) := dk_182 0 146 (dk_at dksX4_compared_0 1 rfl rfl)
theorem dX4_compared_4 : decode cX4_compared 4 = .ok (.istore_n 1, 1) := dk_60 (dk_at dksX4_compared_0 4 rfl rfl)
theorem dX4_compared_5 : decode cX4_compared 5 = .ok (.aload_n 0, 1) := dk_42 (dk_at dksX4_compared_0 5 rfl rfl)
theorem dX4_compared_6 : decode cX4_compared 6 = .ok (.invokevirtual 132, 3) := dk_182 0 132 (dk_at dksX4_compared_0 6 rfl rfl)
theorem dX4_compared_9 : decode cX4_compared 9 = .ok (.istore_n 2, 1) := dk_61 (dk_at dksX4_compared_0 9 rfl rfl)
theorem dX4_compared_10 : decode cX4_compared 10 = .ok (.aload_n 0, 1) := dk_42 (dk_at dksX4_compared_0 10 rfl rfl)
theorem dX4_compared_11 : decode cX4_compared 11 = .ok (.getfield 129, 3) := dk_180 0 129 (dk_at dksX4_compared_0 11 rfl rfl)
theorem dX4_compared_14 : decode cX4_compared 14 = .ok (.ifCond .ge 21, 3) := dk_156 0 21 (dk_at dksX4_compared_0 14 rfl rfl)
theorem dX4_compared_17 : decode cX4_compared 17 = .ok (.iload_n 2, 1) := dk_28 (dk_at dksX4_compared_0 17 rfl rfl)
theorem dX4_compared_18 : decode cX4_compared 18 = .ok (.bipush 60, 2) := dk_16 60 (dk_at dksX4_compared_0 18 rfl rfl)
theorem dX4_compared_20 : decode cX4_compared 20 = .ok (.if_icmp .eq 17, 3) := dk_159 0 17 (dk_at dksX4_compared_0 20 rfl rfl)
theorem dX4_compared_23 : decode cX4_compared 23 = .ok (.iload_n 2, 1) := dk_28 (dk_at dksX4_compared_0 23 rfl rfl)
theorem dX4_compared_24 : decode cX4_compared 24 = .ok (.bipush 61, 2) := dk_16 61 (dk_at dksX4_compared_1 0 rfl rfl)
theorem dX4_compared_26 : decode cX4_compared 26 = .ok (.if_icmp .eq 11, 3) := dk_159 0 11 (dk_at dksX4_compared_1 2 rfl rfl)
theorem dX4_compared_29 : decode cX4_compared 29 = .ok (.iload_n 2, 1) := dk_28 (dk_at dksX4_compared_1 5 rfl rfl)
theorem dX4_compared_30 : decode cX4_compared 30 = .ok (.bipush 62, 2) := dk_16 62 (dk_at dksX4_compared_1 6 rfl rfl)
theorem dX4_compared_32 : decode cX4_compared 32 = .ok (.if_icmp .eq 5, 3) := dk_159 0 5 (dk_at dksX4_compared_1 8 rfl rfl)
theorem dX4_compared_35 : decode cX4_compared 35 = .ok (.iload_n 1, 1) := dk_27 (dk_at dksX4_compared_1 11 rfl rfl)
theorem dX4_compared_36 : decode cX4_compared 36 = .ok (.ireturn, 1) := dk_172 (dk_at dksX4_compared_1 12 rfl rfl)
theorem dX4_compared_37 : decode cX4_compared 37 = .ok (.aload_n 0, 1) := dk_42 (dk_at dksX4_compared_1 13 rfl rfl)
theorem dX4_compared_38 : decode cX4_compared 38 = .ok (.dup, 1) := dk_89 (dk_at dksX4_compared_1 14 rfl rfl)
theorem dX4_compared_39 : decode cX4_compared 39 = .ok (.getfield 120, 3) := dk_180 0 120 (dk_at dksX4_compared_1 15 rfl rfl)
theorem dX4_compared_42 : decode cX4_compared 42 = .ok (.iconst 1, 1) := dk_4 (dk_at dksX4_compared_1 18 rfl rfl)
theorem dX4_compared_43 : decode cX4_compared 43 = .ok (.iadd, 1) := dk_96 (dk_at dksX4_compared_1 19 rfl rfl)
theorem dX4_compared_44 : decode cX4_compared 44 = .ok (.putfield 120, 3) := dk_181 0 120 (dk_at dksX4_compared_1 20 rfl rfl)
theorem dX4_compared_47 : decode cX4_compared 47 = .ok (.aload_n 0, 1) := dk_42 (dk_at dksX4_compared_1 23 rfl rfl)
theorem dX4_compared_48 : decode cX4_compared 48 = .ok (.invokevirtual 146, 3) := dk_182 0 146 (dk_at dksX4_compared_2 0 rfl rfl)
theorem dX4_compared_51 : decode cX4_compared 51 = .ok (.istore_n 3, 1) := dk_62 (dk_at dksX4_compared_2 3 rfl rfl)
theorem dX4_compared_52 : decode cX4_compared 52 = .ok (.iload_n 2, 1) := dk_28 (dk_at dksX4_compared_2 4 rfl rfl)
theorem dX4_compared_53 : decode cX4_compared 53 = .ok (.bipush 60, 2) := dk_16 60 (dk_at dksX4_compared_2 5 rfl rfl)
theorem dX4_compared_55 : decode cX4_compared 55 = .ok (.if_icmp .ne 11, 3) := dk_160 0 11 (dk_at dksX4_compared_2 7 rfl rfl)
theorem dX4_compared_58 : decode cX4_compared 58 = .ok (.iload_n 1, 1) := dk_27 (dk_at dksX4_compared_2 10 rfl rfl)
theorem dX4_compared_59 : decode cX4_compared 59 = .ok (.iload_n 3, 1) := dk_29 (dk_at dksX4_compared_2 11 rfl rfl)
theorem dX4_compared_60 : decode cX4_compared 60 = .ok (.if_icmp .ge 29, 3) := dk_162 0 29 (dk_at dksX4_compared_2 12 rfl rfl)
theorem dX4_compared_63 : decode cX4_compared 63 = .ok (.goto 22, 3) := dk_167 0 22 (dk_at dksX4_compared_2 15 rfl rfl)
theorem dX4_compared_66 : decode cX4_compared 66 = .ok (.iload_n 2, 1) := dk_28 (dk_at dksX4_compared_2 18 rfl rfl)
theorem dX4_compared_67 : decode cX4_compared 67 = .ok (.bipush 61, 2) := dk_16 61 (dk_at dksX4_compared_2 19 rfl rfl)
theorem dX4_compared_69 : decode cX4_compared 69 = .ok (.if_icmp .ne 11, 3) := dk_160 0 11 (dk_at dksX4_compared_2 21 rfl rfl)
theorem dX4_compared_72 : decode cX4_compared 72 = .ok (.iload_n 1, 1) := dk_27 (dk_at dksX4_compared_3 0 rfl rfl)
theorem dX4_compared_73 : decode cX4_compared 73 = .ok (.iload_n 3, 1) := dk_29 (dk_at dksX4_compared_3 1 rfl rfl)
theorem dX4_compared_74 : decode cX4_compared 74 = .ok (.if_icmp .ne 15, 3) := dk_160 0 15 (dk_at dksX4_compared_3 2 rfl rfl)
theorem dX4_compared_77 : decode cX4_compared 77 = .ok (.goto 8, 3) := dk_167 0 8 (dk_at dksX4_compared_3 5 rfl rfl)
theorem dX4_compared_80 : decode cX4_compared 80 = .ok (.iload_n 1, 1) := dk_27 (dk_at dksX4_compared_3 8 rfl rfl)
theorem dX4_compared_81 : decode cX4_compared 81 = .ok (.iload_n 3, 1) := dk_29 (dk_at dksX4_compared_3 9 rfl rfl)
theorem dX4_compared_82 : decode cX4_compared 82 = .ok (.if_icmp .le 7, 3) := dk_164 0 7 (dk_at dksX4_compared_3 10 rfl rfl)
theorem dX4_compared_85 : decode cX4_compared 85 = .ok (.iconst 1, 1) := dk_4 (dk_at dksX4_compared_3 13 rfl rfl)
theorem dX4_compared_86 : decode cX4_compared 86 = .ok (.goto 4, 3) := dk_167 0 4 (dk_at dksX4_compared_3 14 rfl rfl)
theorem dX4_compared_89 : decode cX4_compared 89 = .ok (.iconst 0, 1) := dk_3 (dk_at dksX4_compared_3 17 rfl rfl)
theorem dX4_compared_90 : decode cX4_compared 90 = .ok (.ireturn, 1) := dk_172 (dk_at dksX4_compared_3 18 rfl rfl)
abbrev cX4_sums : ByteArray := prog_34_method_14_code
def yX4_sums : MethodName := ⟨RX4, "sums", "()I"⟩
def dkwX4_sums_3 : List UInt8 := [27, 29, 100, 60, 167, 255, 187, 27, 172]
abbrev dktX4_sums_3 : List UInt8 := dkwX4_sums_3 ++ []
def dkwX4_sums_2 : List UInt8 := [89, 180, 0, 120, 4, 96, 181, 0, 120, 42, 182, 0, 149, 62, 28, 153, 0, 9, 27, 29, 96, 167, 0, 6]
abbrev dktX4_sums_2 : List UInt8 := dkwX4_sums_2 ++ dktX4_sums_3
def dkwX4_sums_1 : List UInt8 := [182, 0, 132, 16, 45, 160, 0, 50, 42, 182, 0, 132, 16, 43, 160, 0, 7, 4, 167, 0, 4, 3, 61, 42]
abbrev dktX4_sums_1 : List UInt8 := dkwX4_sums_1 ++ dktX4_sums_2
def dkwX4_sums_0 : List UInt8 := [42, 182, 0, 149, 60, 42, 180, 0, 129, 156, 0, 68, 42, 182, 0, 132, 16, 43, 159, 0, 12, 42]
abbrev dktX4_sums_0 : List UInt8 := dkwX4_sums_0 ++ dktX4_sums_1
theorem dksX4_sums_0 : cX4_sums.data.toList.drop 0 = dktX4_sums_0 := by decide +kernel
theorem dksX4_sums_1 : cX4_sums.data.toList.drop 22 = dktX4_sums_1 := dk_seg dksX4_sums_0 22 rfl rfl
theorem dksX4_sums_2 : cX4_sums.data.toList.drop 46 = dktX4_sums_2 := dk_seg dksX4_sums_1 24 rfl rfl
theorem dksX4_sums_3 : cX4_sums.data.toList.drop 70 = dktX4_sums_3 := dk_seg dksX4_sums_2 24 rfl rfl
theorem dX4_sums_0 : decode cX4_sums 0 = .ok (.aload_n 0, 1) := dk_42 (dk_at dksX4_sums_0 0 rfl rfl)
theorem dX4_sums_1 : decode cX4_sums 1 = .ok (.invokevirtual 149, 3) := dk_182 0 149 (dk_at dksX4_sums_0 1 rfl rfl)
theorem dX4_sums_4 : decode cX4_sums 4 = .ok (.istore_n 1, 1) := dk_60 (dk_at dksX4_sums_0 4 rfl rfl)
theorem dX4_sums_5 : decode cX4_sums 5 = .ok (.aload_n 0, 1) := dk_42 (dk_at dksX4_sums_0 5 rfl rfl)
theorem dX4_sums_6 : decode cX4_sums 6 = .ok (.getfield 129, 3) := dk_180 0 129 (dk_at dksX4_sums_0 6 rfl rfl)
theorem dX4_sums_9 : decode cX4_sums 9 = .ok (.ifCond .ge 68, 3) := dk_156 0 68 (dk_at dksX4_sums_0 9 rfl rfl)
theorem dX4_sums_12 : decode cX4_sums 12 = .ok (.aload_n 0, 1) := dk_42 (dk_at dksX4_sums_0 12 rfl rfl)
theorem dX4_sums_13 : decode cX4_sums 13 = .ok (.invokevirtual 132, 3) := dk_182 0 132 (dk_at dksX4_sums_0 13 rfl rfl)
theorem dX4_sums_16 : decode cX4_sums 16 = .ok (.bipush 43, 2) := dk_16 43 (dk_at dksX4_sums_0 16 rfl rfl)
theorem dX4_sums_18 : decode cX4_sums 18 = .ok (.if_icmp .eq 12, 3) := dk_159 0 12 (dk_at dksX4_sums_0 18 rfl rfl)
theorem dX4_sums_21 : decode cX4_sums 21 = .ok (.aload_n 0, 1) := dk_42 (dk_at dksX4_sums_0 21 rfl rfl)
theorem dX4_sums_22 : decode cX4_sums 22 = .ok (.invokevirtual 132, 3) := dk_182 0 132 (dk_at dksX4_sums_1 0 rfl rfl)
theorem dX4_sums_25 : decode cX4_sums 25 = .ok (.bipush 45, 2) := dk_16 45 (dk_at dksX4_sums_1 3 rfl rfl)
theorem dX4_sums_27 : decode cX4_sums 27 = .ok (.if_icmp .ne 50, 3) := dk_160 0 50 (dk_at dksX4_sums_1 5 rfl rfl)
theorem dX4_sums_30 : decode cX4_sums 30 = .ok (.aload_n 0, 1) := dk_42 (dk_at dksX4_sums_1 8 rfl rfl)
theorem dX4_sums_31 : decode cX4_sums 31 = .ok (.invokevirtual 132, 3) := dk_182 0 132 (dk_at dksX4_sums_1 9 rfl rfl)
theorem dX4_sums_34 : decode cX4_sums 34 = .ok (.bipush 43, 2) := dk_16 43 (dk_at dksX4_sums_1 12 rfl rfl)
theorem dX4_sums_36 : decode cX4_sums 36 = .ok (.if_icmp .ne 7, 3) := dk_160 0 7 (dk_at dksX4_sums_1 14 rfl rfl)
theorem dX4_sums_39 : decode cX4_sums 39 = .ok (.iconst 1, 1) := dk_4 (dk_at dksX4_sums_1 17 rfl rfl)
theorem dX4_sums_40 : decode cX4_sums 40 = .ok (.goto 4, 3) := dk_167 0 4 (dk_at dksX4_sums_1 18 rfl rfl)
theorem dX4_sums_43 : decode cX4_sums 43 = .ok (.iconst 0, 1) := dk_3 (dk_at dksX4_sums_1 21 rfl rfl)
theorem dX4_sums_44 : decode cX4_sums 44 = .ok (.istore_n 2, 1) := dk_61 (dk_at dksX4_sums_1 22 rfl rfl)
theorem dX4_sums_45 : decode cX4_sums 45 = .ok (.aload_n 0, 1) := dk_42 (dk_at dksX4_sums_1 23 rfl rfl)
theorem dX4_sums_46 : decode cX4_sums 46 = .ok (.dup, 1) := dk_89 (dk_at dksX4_sums_2 0 rfl rfl)
theorem dX4_sums_47 : decode cX4_sums 47 = .ok (.getfield 120, 3) := dk_180 0 120 (dk_at dksX4_sums_2 1 rfl rfl)
theorem dX4_sums_50 : decode cX4_sums 50 = .ok (.iconst 1, 1) := dk_4 (dk_at dksX4_sums_2 4 rfl rfl)
theorem dX4_sums_51 : decode cX4_sums 51 = .ok (.iadd, 1) := dk_96 (dk_at dksX4_sums_2 5 rfl rfl)
theorem dX4_sums_52 : decode cX4_sums 52 = .ok (.putfield 120, 3) := dk_181 0 120 (dk_at dksX4_sums_2 6 rfl rfl)
theorem dX4_sums_55 : decode cX4_sums 55 = .ok (.aload_n 0, 1) := dk_42 (dk_at dksX4_sums_2 9 rfl rfl)
theorem dX4_sums_56 : decode cX4_sums 56 = .ok (.invokevirtual 149, 3) := dk_182 0 149 (dk_at dksX4_sums_2 10 rfl rfl)
theorem dX4_sums_59 : decode cX4_sums 59 = .ok (.istore_n 3, 1) := dk_62 (dk_at dksX4_sums_2 13 rfl rfl)
theorem dX4_sums_60 : decode cX4_sums 60 = .ok (.iload_n 2, 1) := dk_28 (dk_at dksX4_sums_2 14 rfl rfl)
theorem dX4_sums_61 : decode cX4_sums 61 = .ok (.ifCond .eq 9, 3) := dk_153 0 9 (dk_at dksX4_sums_2 15 rfl rfl)
theorem dX4_sums_64 : decode cX4_sums 64 = .ok (.iload_n 1, 1) := dk_27 (dk_at dksX4_sums_2 18 rfl rfl)
theorem dX4_sums_65 : decode cX4_sums 65 = .ok (.iload_n 3, 1) := dk_29 (dk_at dksX4_sums_2 19 rfl rfl)
theorem dX4_sums_66 : decode cX4_sums 66 = .ok (.iadd, 1) := dk_96 (dk_at dksX4_sums_2 20 rfl rfl)
theorem dX4_sums_67 : decode cX4_sums 67 = .ok (.goto 6, 3) := dk_167 0 6 (dk_at dksX4_sums_2 21 rfl rfl)
theorem dX4_sums_70 : decode cX4_sums 70 = .ok (.iload_n 1, 1) := dk_27 (dk_at dksX4_sums_3 0 rfl rfl)
theorem dX4_sums_71 : decode cX4_sums 71 = .ok (.iload_n 3, 1) := dk_29 (dk_at dksX4_sums_3 1 rfl rfl)
theorem dX4_sums_72 : decode cX4_sums 72 = .ok (.isub, 1) := dk_100 (dk_at dksX4_sums_3 2 rfl rfl)
theorem dX4_sums_73 : decode cX4_sums 73 = .ok (.istore_n 1, 1) := dk_60 (dk_at dksX4_sums_3 3 rfl rfl)
theorem dX4_sums_74 : decode cX4_sums 74 = .ok (.goto (-69), 3) := dk_167 255 187 (dk_at dksX4_sums_3 4 rfl rfl)
theorem dX4_sums_77 : decode cX4_sums 77 = .ok (.iload_n 1, 1) := dk_27 (dk_at dksX4_sums_3 7 rfl rfl)
theorem dX4_sums_78 : decode cX4_sums 78 = .ok (.ireturn, 1) := dk_172 (dk_at dksX4_sums_3 8 rfl rfl)
abbrev cX4_product : ByteArray := prog_34_method_15_code
def yX4_product : MethodName := ⟨RX4, "product", "()I"⟩
def dkwX4_product_4 : List UInt8 := [27, 172]
abbrev dktX4_product_4 : List UInt8 := dkwX4_product_4 ++ []
def dkwX4_product_3 : List UInt8 := [28, 16, 47, 160, 0, 9, 27, 29, 108, 167, 0, 6, 27, 29, 112, 60, 42, 182, 0, 132, 61, 167, 255, 175]
abbrev dktX4_product_3 : List UInt8 := dkwX4_product_3 ++ dktX4_product_4
def dkwX4_product_2 : List UInt8 := [182, 0, 152, 62, 28, 16, 42, 160, 0, 9, 27, 29, 104, 167, 0, 26, 29, 154, 0, 7, 3, 167, 0, 18]
abbrev dktX4_product_2 : List UInt8 := dkwX4_product_2 ++ dktX4_product_3
def dkwX4_product_1 : List UInt8 := [16, 47, 159, 0, 9, 28, 16, 37, 160, 0, 62, 42, 89, 180, 0, 120, 4, 96, 181, 0, 120, 42]
abbrev dktX4_product_1 : List UInt8 := dkwX4_product_1 ++ dktX4_product_2
def dkwX4_product_0 : List UInt8 := [42, 182, 0, 152, 60, 42, 182, 0, 132, 61, 42, 180, 0, 129, 156, 0, 80, 28, 16, 42, 159, 0, 15, 28]
abbrev dktX4_product_0 : List UInt8 := dkwX4_product_0 ++ dktX4_product_1
theorem dksX4_product_0 : cX4_product.data.toList.drop 0 = dktX4_product_0 := by decide +kernel
theorem dksX4_product_1 : cX4_product.data.toList.drop 24 = dktX4_product_1 := dk_seg dksX4_product_0 24 rfl rfl
theorem dksX4_product_2 : cX4_product.data.toList.drop 46 = dktX4_product_2 := dk_seg dksX4_product_1 22 rfl rfl
theorem dksX4_product_3 : cX4_product.data.toList.drop 70 = dktX4_product_3 := dk_seg dksX4_product_2 24 rfl rfl
theorem dksX4_product_4 : cX4_product.data.toList.drop 94 = dktX4_product_4 := dk_seg dksX4_product_3 24 rfl rfl
theorem dX4_product_0 : decode cX4_product 0 = .ok (.aload_n 0, 1) := dk_42 (dk_at dksX4_product_0 0 rfl rfl)
theorem dX4_product_1 : decode cX4_product 1 = .ok (.invokevirtual 152, 3) := dk_182 0 152 (dk_at dksX4_product_0 1 rfl rfl)
theorem dX4_product_4 : decode cX4_product 4 = .ok (.istore_n 1, 1) := dk_60 (dk_at dksX4_product_0 4 rfl rfl)
theorem dX4_product_5 : decode cX4_product 5 = .ok (.aload_n 0, 1) := dk_42 (dk_at dksX4_product_0 5 rfl rfl)
theorem dX4_product_6 : decode cX4_product 6 = .ok (.invokevirtual 132, 3) := dk_182 0 132 (dk_at dksX4_product_0 6 rfl rfl)
theorem dX4_product_9 : decode cX4_product 9 = .ok (.istore_n 2, 1) := dk_61 (dk_at dksX4_product_0 9 rfl rfl)
theorem dX4_product_10 : decode cX4_product 10 = .ok (.aload_n 0, 1) := dk_42 (dk_at dksX4_product_0 10 rfl rfl)
theorem dX4_product_11 : decode cX4_product 11 = .ok (.getfield 129, 3) := dk_180 0 129 (dk_at dksX4_product_0 11 rfl rfl)
theorem dX4_product_14 : decode cX4_product 14 = .ok (.ifCond .ge 80, 3) := dk_156 0 80 (dk_at dksX4_product_0 14 rfl rfl)
theorem dX4_product_17 : decode cX4_product 17 = .ok (.iload_n 2, 1) := dk_28 (dk_at dksX4_product_0 17 rfl rfl)
theorem dX4_product_18 : decode cX4_product 18 = .ok (.bipush 42, 2) := dk_16 42 (dk_at dksX4_product_0 18 rfl rfl)
theorem dX4_product_20 : decode cX4_product 20 = .ok (.if_icmp .eq 15, 3) := dk_159 0 15 (dk_at dksX4_product_0 20 rfl rfl)
theorem dX4_product_23 : decode cX4_product 23 = .ok (.iload_n 2, 1) := dk_28 (dk_at dksX4_product_0 23 rfl rfl)
theorem dX4_product_24 : decode cX4_product 24 = .ok (.bipush 47, 2) := dk_16 47 (dk_at dksX4_product_1 0 rfl rfl)
theorem dX4_product_26 : decode cX4_product 26 = .ok (.if_icmp .eq 9, 3) := dk_159 0 9 (dk_at dksX4_product_1 2 rfl rfl)
theorem dX4_product_29 : decode cX4_product 29 = .ok (.iload_n 2, 1) := dk_28 (dk_at dksX4_product_1 5 rfl rfl)
theorem dX4_product_30 : decode cX4_product 30 = .ok (.bipush 37, 2) := dk_16 37 (dk_at dksX4_product_1 6 rfl rfl)
theorem dX4_product_32 : decode cX4_product 32 = .ok (.if_icmp .ne 62, 3) := dk_160 0 62 (dk_at dksX4_product_1 8 rfl rfl)
theorem dX4_product_35 : decode cX4_product 35 = .ok (.aload_n 0, 1) := dk_42 (dk_at dksX4_product_1 11 rfl rfl)
theorem dX4_product_36 : decode cX4_product 36 = .ok (.dup, 1) := dk_89 (dk_at dksX4_product_1 12 rfl rfl)
theorem dX4_product_37 : decode cX4_product 37 = .ok (.getfield 120, 3) := dk_180 0 120 (dk_at dksX4_product_1 13 rfl rfl)
theorem dX4_product_40 : decode cX4_product 40 = .ok (.iconst 1, 1) := dk_4 (dk_at dksX4_product_1 16 rfl rfl)
theorem dX4_product_41 : decode cX4_product 41 = .ok (.iadd, 1) := dk_96 (dk_at dksX4_product_1 17 rfl rfl)
theorem dX4_product_42 : decode cX4_product 42 = .ok (.putfield 120, 3) := dk_181 0 120 (dk_at dksX4_product_1 18 rfl rfl)
theorem dX4_product_45 : decode cX4_product 45 = .ok (.aload_n 0, 1) := dk_42 (dk_at dksX4_product_1 21 rfl rfl)
theorem dX4_product_46 : decode cX4_product 46 = .ok (.invokevirtual 152, 3) := dk_182 0 152 (dk_at dksX4_product_2 0 rfl rfl)
theorem dX4_product_49 : decode cX4_product 49 = .ok (.istore_n 3, 1) := dk_62 (dk_at dksX4_product_2 3 rfl rfl)
theorem dX4_product_50 : decode cX4_product 50 = .ok (.iload_n 2, 1) := dk_28 (dk_at dksX4_product_2 4 rfl rfl)
theorem dX4_product_51 : decode cX4_product 51 = .ok (.bipush 42, 2) := dk_16 42 (dk_at dksX4_product_2 5 rfl rfl)
theorem dX4_product_53 : decode cX4_product 53 = .ok (.if_icmp .ne 9, 3) := dk_160 0 9 (dk_at dksX4_product_2 7 rfl rfl)
theorem dX4_product_56 : decode cX4_product 56 = .ok (.iload_n 1, 1) := dk_27 (dk_at dksX4_product_2 10 rfl rfl)
theorem dX4_product_57 : decode cX4_product 57 = .ok (.iload_n 3, 1) := dk_29 (dk_at dksX4_product_2 11 rfl rfl)
theorem dX4_product_58 : decode cX4_product 58 = .ok (.imul, 1) := dk_104 (dk_at dksX4_product_2 12 rfl rfl)
theorem dX4_product_59 : decode cX4_product 59 = .ok (.goto 26, 3) := dk_167 0 26 (dk_at dksX4_product_2 13 rfl rfl)
theorem dX4_product_62 : decode cX4_product 62 = .ok (.iload_n 3, 1) := dk_29 (dk_at dksX4_product_2 16 rfl rfl)
theorem dX4_product_63 : decode cX4_product 63 = .ok (.ifCond .ne 7, 3) := dk_154 0 7 (dk_at dksX4_product_2 17 rfl rfl)
theorem dX4_product_66 : decode cX4_product 66 = .ok (.iconst 0, 1) := dk_3 (dk_at dksX4_product_2 20 rfl rfl)
theorem dX4_product_67 : decode cX4_product 67 = .ok (.goto 18, 3) := dk_167 0 18 (dk_at dksX4_product_2 21 rfl rfl)
theorem dX4_product_70 : decode cX4_product 70 = .ok (.iload_n 2, 1) := dk_28 (dk_at dksX4_product_3 0 rfl rfl)
theorem dX4_product_71 : decode cX4_product 71 = .ok (.bipush 47, 2) := dk_16 47 (dk_at dksX4_product_3 1 rfl rfl)
theorem dX4_product_73 : decode cX4_product 73 = .ok (.if_icmp .ne 9, 3) := dk_160 0 9 (dk_at dksX4_product_3 3 rfl rfl)
theorem dX4_product_76 : decode cX4_product 76 = .ok (.iload_n 1, 1) := dk_27 (dk_at dksX4_product_3 6 rfl rfl)
theorem dX4_product_77 : decode cX4_product 77 = .ok (.iload_n 3, 1) := dk_29 (dk_at dksX4_product_3 7 rfl rfl)
theorem dX4_product_78 : decode cX4_product 78 = .ok (.idiv, 1) := dk_108 (dk_at dksX4_product_3 8 rfl rfl)
theorem dX4_product_79 : decode cX4_product 79 = .ok (.goto 6, 3) := dk_167 0 6 (dk_at dksX4_product_3 9 rfl rfl)
theorem dX4_product_82 : decode cX4_product 82 = .ok (.iload_n 1, 1) := dk_27 (dk_at dksX4_product_3 12 rfl rfl)
theorem dX4_product_83 : decode cX4_product 83 = .ok (.iload_n 3, 1) := dk_29 (dk_at dksX4_product_3 13 rfl rfl)
theorem dX4_product_84 : decode cX4_product 84 = .ok (.irem, 1) := dk_112 (dk_at dksX4_product_3 14 rfl rfl)
theorem dX4_product_85 : decode cX4_product 85 = .ok (.istore_n 1, 1) := dk_60 (dk_at dksX4_product_3 15 rfl rfl)
theorem dX4_product_86 : decode cX4_product 86 = .ok (.aload_n 0, 1) := dk_42 (dk_at dksX4_product_3 16 rfl rfl)
theorem dX4_product_87 : decode cX4_product 87 = .ok (.invokevirtual 132, 3) := dk_182 0 132 (dk_at dksX4_product_3 17 rfl rfl)
theorem dX4_product_90 : decode cX4_product 90 = .ok (.istore_n 2, 1) := dk_61 (dk_at dksX4_product_3 20 rfl rfl)
theorem dX4_product_91 : decode cX4_product 91 = .ok (.goto (-81), 3) := dk_167 255 175 (dk_at dksX4_product_3 21 rfl rfl)
theorem dX4_product_94 : decode cX4_product 94 = .ok (.iload_n 1, 1) := dk_27 (dk_at dksX4_product_4 0 rfl rfl)
theorem dX4_product_95 : decode cX4_product 95 = .ok (.ireturn, 1) := dk_172 (dk_at dksX4_product_4 1 rfl rfl)
abbrev cX4_one : ByteArray := prog_34_method_17_code
def yX4_one : MethodName := ⟨RX4, "one", "()I"⟩
def dkwX4_one_10 : List UInt8 := [182, 0, 158, 167, 0, 4, 29, 172]
abbrev dktX4_one_10 : List UInt8 := dkwX4_one_10 ++ []
def dkwX4_one_9 : List UInt8 := [62, 132, 4, 1, 42, 89, 180, 0, 120, 4, 96, 181, 0, 120, 167, 255, 206, 21, 4, 154, 0, 10, 42]
abbrev dktX4_one_9 : List UInt8 := dkwX4_one_9 ++ dktX4_one_10
def dkwX4_one_8 : List UInt8 := [161, 0, 41, 42, 182, 0, 132, 16, 57, 163, 0, 32, 16, 10, 29, 104, 42, 182, 0, 132, 96, 16, 48, 100]
abbrev dktX4_one_8 : List UInt8 := dkwX4_one_8 ++ dktX4_one_9
def dkwX4_one_7 : List UInt8 := [42, 180, 0, 28, 28, 46, 172, 3, 62, 3, 54, 4, 21, 4, 7, 162, 0, 50, 42, 182, 0, 132, 16, 48]
abbrev dktX4_one_7 : List UInt8 := dkwX4_one_7 ++ dktX4_one_8
def dkwX4_one_6 : List UInt8 := [167, 0, 4, 3, 172, 27, 184, 0, 164, 61, 28, 155, 0, 20, 42, 89, 180, 0, 120, 4, 96, 181, 0, 120]
abbrev dktX4_one_6 : List UInt8 := dkwX4_one_6 ++ dktX4_one_7
def dkwX4_one_5 : List UInt8 := [160, 0, 7, 28, 167, 0, 23, 27, 16, 45, 160, 0, 8, 28, 116, 167, 0, 12, 28, 154, 0, 7, 4]
abbrev dktX4_one_5 : List UInt8 := dkwX4_one_5 ++ dktX4_one_6
def dkwX4_one_4 : List UInt8 := [182, 0, 139, 154, 0, 8, 42, 182, 0, 158, 172, 42, 89, 180, 0, 155, 4, 100, 181, 0, 155, 27, 16, 40]
abbrev dktX4_one_4 : List UInt8 := dkwX4_one_4 ++ dktX4_one_5
def dkwX4_one_3 : List UInt8 := [160, 0, 10, 42, 182, 0, 161, 167, 0, 7, 42, 182, 0, 152, 61, 27, 16, 40, 160, 0, 17, 42, 16, 41]
abbrev dktX4_one_3 : List UInt8 := dkwX4_one_3 ++ dktX4_one_4
def dkwX4_one_2 : List UInt8 := [89, 180, 0, 155, 4, 96, 181, 0, 155, 42, 89, 180, 0, 120, 4, 96, 181, 0, 120, 27, 16, 40]
abbrev dktX4_one_2 : List UInt8 := dkwX4_one_2 ++ dktX4_one_3
def dkwX4_one_1 : List UInt8 := [159, 0, 9, 27, 16, 40, 160, 0, 116, 42, 180, 0, 155, 16, 6, 160, 0, 8, 42, 182, 0, 158, 172, 42]
abbrev dktX4_one_1 : List UInt8 := dkwX4_one_1 ++ dktX4_one_2
def dkwX4_one_0 : List UInt8 := [42, 180, 0, 129, 155, 0, 5, 3, 172, 42, 182, 0, 132, 60, 27, 16, 33, 159, 0, 15, 27, 16, 45]
abbrev dktX4_one_0 : List UInt8 := dkwX4_one_0 ++ dktX4_one_1
theorem dksX4_one_0 : cX4_one.data.toList.drop 0 = dktX4_one_0 := by decide +kernel
theorem dksX4_one_1 : cX4_one.data.toList.drop 23 = dktX4_one_1 := dk_seg dksX4_one_0 23 rfl rfl
theorem dksX4_one_2 : cX4_one.data.toList.drop 47 = dktX4_one_2 := dk_seg dksX4_one_1 24 rfl rfl
theorem dksX4_one_3 : cX4_one.data.toList.drop 69 = dktX4_one_3 := dk_seg dksX4_one_2 22 rfl rfl
theorem dksX4_one_4 : cX4_one.data.toList.drop 93 = dktX4_one_4 := dk_seg dksX4_one_3 24 rfl rfl
theorem dksX4_one_5 : cX4_one.data.toList.drop 117 = dktX4_one_5 := dk_seg dksX4_one_4 24 rfl rfl
theorem dksX4_one_6 : cX4_one.data.toList.drop 140 = dktX4_one_6 := dk_seg dksX4_one_5 23 rfl rfl
theorem dksX4_one_7 : cX4_one.data.toList.drop 164 = dktX4_one_7 := dk_seg dksX4_one_6 24 rfl rfl
theorem dksX4_one_8 : cX4_one.data.toList.drop 188 = dktX4_one_8 := dk_seg dksX4_one_7 24 rfl rfl
theorem dksX4_one_9 : cX4_one.data.toList.drop 212 = dktX4_one_9 := dk_seg dksX4_one_8 24 rfl rfl
theorem dksX4_one_10 : cX4_one.data.toList.drop 235 = dktX4_one_10 := dk_seg dksX4_one_9 23 rfl rfl
theorem dX4_one_0 : decode cX4_one 0 = .ok (.aload_n 0, 1) := dk_42 (dk_at dksX4_one_0 0 rfl rfl)
theorem dX4_one_1 : decode cX4_one 1 = .ok (.getfield 129, 3) := dk_180 0 129 (dk_at dksX4_one_0 1 rfl rfl)
theorem dX4_one_4 : decode cX4_one 4 = .ok (.ifCond .lt 5, 3) := dk_155 0 5 (dk_at dksX4_one_0 4 rfl rfl)
theorem dX4_one_7 : decode cX4_one 7 = .ok (.iconst 0, 1) := dk_3 (dk_at dksX4_one_0 7 rfl rfl)
theorem dX4_one_8 : decode cX4_one 8 = .ok (.ireturn, 1) := dk_172 (dk_at dksX4_one_0 8 rfl rfl)
theorem dX4_one_9 : decode cX4_one 9 = .ok (.aload_n 0, 1) := dk_42 (dk_at dksX4_one_0 9 rfl rfl)
theorem dX4_one_10 : decode cX4_one 10 = .ok (.invokevirtual 132, 3) := dk_182 0 132 (dk_at dksX4_one_0 10 rfl rfl)
theorem dX4_one_13 : decode cX4_one 13 = .ok (.istore_n 1, 1) := dk_60 (dk_at dksX4_one_0 13 rfl rfl)
theorem dX4_one_14 : decode cX4_one 14 = .ok (.iload_n 1, 1) := dk_27 (dk_at dksX4_one_0 14 rfl rfl)
theorem dX4_one_15 : decode cX4_one 15 = .ok (.bipush 33, 2) := dk_16 33 (dk_at dksX4_one_0 15 rfl rfl)
theorem dX4_one_17 : decode cX4_one 17 = .ok (.if_icmp .eq 15, 3) := dk_159 0 15 (dk_at dksX4_one_0 17 rfl rfl)
theorem dX4_one_20 : decode cX4_one 20 = .ok (.iload_n 1, 1) := dk_27 (dk_at dksX4_one_0 20 rfl rfl)
theorem dX4_one_21 : decode cX4_one 21 = .ok (.bipush 45, 2) := dk_16 45 (dk_at dksX4_one_0 21 rfl rfl)
theorem dX4_one_23 : decode cX4_one 23 = .ok (.if_icmp .eq 9, 3) := dk_159 0 9 (dk_at dksX4_one_1 0 rfl rfl)
theorem dX4_one_26 : decode cX4_one 26 = .ok (.iload_n 1, 1) := dk_27 (dk_at dksX4_one_1 3 rfl rfl)
theorem dX4_one_27 : decode cX4_one 27 = .ok (.bipush 40, 2) := dk_16 40 (dk_at dksX4_one_1 4 rfl rfl)
theorem dX4_one_29 : decode cX4_one 29 = .ok (.if_icmp .ne 116, 3) := dk_160 0 116 (dk_at dksX4_one_1 6 rfl rfl)
theorem dX4_one_32 : decode cX4_one 32 = .ok (.aload_n 0, 1) := dk_42 (dk_at dksX4_one_1 9 rfl rfl)
theorem dX4_one_33 : decode cX4_one 33 = .ok (.getfield 155, 3) := dk_180 0 155 (dk_at dksX4_one_1 10 rfl rfl)
theorem dX4_one_36 : decode cX4_one 36 = .ok (.bipush 6, 2) := dk_16 6 (dk_at dksX4_one_1 13 rfl rfl)
theorem dX4_one_38 : decode cX4_one 38 = .ok (.if_icmp .ne 8, 3) := dk_160 0 8 (dk_at dksX4_one_1 15 rfl rfl)
theorem dX4_one_41 : decode cX4_one 41 = .ok (.aload_n 0, 1) := dk_42 (dk_at dksX4_one_1 18 rfl rfl)
theorem dX4_one_42 : decode cX4_one 42 = .ok (.invokevirtual 158, 3) := dk_182 0 158 (dk_at dksX4_one_1 19 rfl rfl)
theorem dX4_one_45 : decode cX4_one 45 = .ok (.ireturn, 1) := dk_172 (dk_at dksX4_one_1 22 rfl rfl)
theorem dX4_one_46 : decode cX4_one 46 = .ok (.aload_n 0, 1) := dk_42 (dk_at dksX4_one_1 23 rfl rfl)
theorem dX4_one_47 : decode cX4_one 47 = .ok (.dup, 1) := dk_89 (dk_at dksX4_one_2 0 rfl rfl)
theorem dX4_one_48 : decode cX4_one 48 = .ok (.getfield 155, 3) := dk_180 0 155 (dk_at dksX4_one_2 1 rfl rfl)
theorem dX4_one_51 : decode cX4_one 51 = .ok (.iconst 1, 1) := dk_4 (dk_at dksX4_one_2 4 rfl rfl)
theorem dX4_one_52 : decode cX4_one 52 = .ok (.iadd, 1) := dk_96 (dk_at dksX4_one_2 5 rfl rfl)
theorem dX4_one_53 : decode cX4_one 53 = .ok (.putfield 155, 3) := dk_181 0 155 (dk_at dksX4_one_2 6 rfl rfl)
theorem dX4_one_56 : decode cX4_one 56 = .ok (.aload_n 0, 1) := dk_42 (dk_at dksX4_one_2 9 rfl rfl)
theorem dX4_one_57 : decode cX4_one 57 = .ok (.dup, 1) := dk_89 (dk_at dksX4_one_2 10 rfl rfl)
theorem dX4_one_58 : decode cX4_one 58 = .ok (.getfield 120, 3) := dk_180 0 120 (dk_at dksX4_one_2 11 rfl rfl)
theorem dX4_one_61 : decode cX4_one 61 = .ok (.iconst 1, 1) := dk_4 (dk_at dksX4_one_2 14 rfl rfl)
theorem dX4_one_62 : decode cX4_one 62 = .ok (.iadd, 1) := dk_96 (dk_at dksX4_one_2 15 rfl rfl)
theorem dX4_one_63 : decode cX4_one 63 = .ok (.putfield 120, 3) := dk_181 0 120 (dk_at dksX4_one_2 16 rfl rfl)
theorem dX4_one_66 : decode cX4_one 66 = .ok (.iload_n 1, 1) := dk_27 (dk_at dksX4_one_2 19 rfl rfl)
theorem dX4_one_67 : decode cX4_one 67 = .ok (.bipush 40, 2) := dk_16 40 (dk_at dksX4_one_2 20 rfl rfl)
theorem dX4_one_69 : decode cX4_one 69 = .ok (.if_icmp .ne 10, 3) := dk_160 0 10 (dk_at dksX4_one_3 0 rfl rfl)
theorem dX4_one_72 : decode cX4_one 72 = .ok (.aload_n 0, 1) := dk_42 (dk_at dksX4_one_3 3 rfl rfl)
theorem dX4_one_73 : decode cX4_one 73 = .ok (.invokevirtual 161, 3) := dk_182 0 161 (dk_at dksX4_one_3 4 rfl rfl)
theorem dX4_one_76 : decode cX4_one 76 = .ok (.goto 7, 3) := dk_167 0 7 (dk_at dksX4_one_3 7 rfl rfl)
theorem dX4_one_79 : decode cX4_one 79 = .ok (.aload_n 0, 1) := dk_42 (dk_at dksX4_one_3 10 rfl rfl)
theorem dX4_one_80 : decode cX4_one 80 = .ok (.invokevirtual 152, 3) := dk_182 0 152 (dk_at dksX4_one_3 11 rfl rfl)
theorem dX4_one_83 : decode cX4_one 83 = .ok (.istore_n 2, 1) := dk_61 (dk_at dksX4_one_3 14 rfl rfl)
theorem dX4_one_84 : decode cX4_one 84 = .ok (.iload_n 1, 1) := dk_27 (dk_at dksX4_one_3 15 rfl rfl)
theorem dX4_one_85 : decode cX4_one 85 = .ok (.bipush 40, 2) := dk_16 40 (dk_at dksX4_one_3 16 rfl rfl)
theorem dX4_one_87 : decode cX4_one 87 = .ok (.if_icmp .ne 17, 3) := dk_160 0 17 (dk_at dksX4_one_3 18 rfl rfl)
theorem dX4_one_90 : decode cX4_one 90 = .ok (.aload_n 0, 1) := dk_42 (dk_at dksX4_one_3 21 rfl rfl)
theorem dX4_one_91 : decode cX4_one 91 = .ok (.bipush 41, 2) := dk_16 41 (dk_at dksX4_one_3 22 rfl rfl)
theorem dX4_one_93 : decode cX4_one 93 = .ok (.invokevirtual 139, 3) := dk_182 0 139 (dk_at dksX4_one_4 0 rfl rfl)
theorem dX4_one_96 : decode cX4_one 96 = .ok (.ifCond .ne 8, 3) := dk_154 0 8 (dk_at dksX4_one_4 3 rfl rfl)
theorem dX4_one_99 : decode cX4_one 99 = .ok (.aload_n 0, 1) := dk_42 (dk_at dksX4_one_4 6 rfl rfl)
theorem dX4_one_100 : decode cX4_one 100 = .ok (.invokevirtual 158, 3) := dk_182 0 158 (dk_at dksX4_one_4 7 rfl rfl)
theorem dX4_one_103 : decode cX4_one 103 = .ok (.ireturn, 1) := dk_172 (dk_at dksX4_one_4 10 rfl rfl)
theorem dX4_one_104 : decode cX4_one 104 = .ok (.aload_n 0, 1) := dk_42 (dk_at dksX4_one_4 11 rfl rfl)
theorem dX4_one_105 : decode cX4_one 105 = .ok (.dup, 1) := dk_89 (dk_at dksX4_one_4 12 rfl rfl)
theorem dX4_one_106 : decode cX4_one 106 = .ok (.getfield 155, 3) := dk_180 0 155 (dk_at dksX4_one_4 13 rfl rfl)
theorem dX4_one_109 : decode cX4_one 109 = .ok (.iconst 1, 1) := dk_4 (dk_at dksX4_one_4 16 rfl rfl)
theorem dX4_one_110 : decode cX4_one 110 = .ok (.isub, 1) := dk_100 (dk_at dksX4_one_4 17 rfl rfl)
theorem dX4_one_111 : decode cX4_one 111 = .ok (.putfield 155, 3) := dk_181 0 155 (dk_at dksX4_one_4 18 rfl rfl)
theorem dX4_one_114 : decode cX4_one 114 = .ok (.iload_n 1, 1) := dk_27 (dk_at dksX4_one_4 21 rfl rfl)
theorem dX4_one_115 : decode cX4_one 115 = .ok (.bipush 40, 2) := dk_16 40 (dk_at dksX4_one_4 22 rfl rfl)
theorem dX4_one_117 : decode cX4_one 117 = .ok (.if_icmp .ne 7, 3) := dk_160 0 7 (dk_at dksX4_one_5 0 rfl rfl)
theorem dX4_one_120 : decode cX4_one 120 = .ok (.iload_n 2, 1) := dk_28 (dk_at dksX4_one_5 3 rfl rfl)
theorem dX4_one_121 : decode cX4_one 121 = .ok (.goto 23, 3) := dk_167 0 23 (dk_at dksX4_one_5 4 rfl rfl)
theorem dX4_one_124 : decode cX4_one 124 = .ok (.iload_n 1, 1) := dk_27 (dk_at dksX4_one_5 7 rfl rfl)
theorem dX4_one_125 : decode cX4_one 125 = .ok (.bipush 45, 2) := dk_16 45 (dk_at dksX4_one_5 8 rfl rfl)
theorem dX4_one_127 : decode cX4_one 127 = .ok (.if_icmp .ne 8, 3) := dk_160 0 8 (dk_at dksX4_one_5 10 rfl rfl)
theorem dX4_one_130 : decode cX4_one 130 = .ok (.iload_n 2, 1) := dk_28 (dk_at dksX4_one_5 13 rfl rfl)
theorem dX4_one_131 : decode cX4_one 131 = .ok (.ineg, 1) := dk_116 (dk_at dksX4_one_5 14 rfl rfl)
theorem dX4_one_132 : decode cX4_one 132 = .ok (.goto 12, 3) := dk_167 0 12 (dk_at dksX4_one_5 15 rfl rfl)
theorem dX4_one_135 : decode cX4_one 135 = .ok (.iload_n 2, 1) := dk_28 (dk_at dksX4_one_5 18 rfl rfl)
theorem dX4_one_136 : decode cX4_one 136 = .ok (.ifCond .ne 7, 3) := dk_154 0 7 (dk_at dksX4_one_5 19 rfl rfl)
theorem dX4_one_139 : decode cX4_one 139 = .ok (.iconst 1, 1) := dk_4 (dk_at dksX4_one_5 22 rfl rfl)
theorem dX4_one_140 : decode cX4_one 140 = .ok (.goto 4, 3) := dk_167 0 4 (dk_at dksX4_one_6 0 rfl rfl)
theorem dX4_one_143 : decode cX4_one 143 = .ok (.iconst 0, 1) := dk_3 (dk_at dksX4_one_6 3 rfl rfl)
theorem dX4_one_144 : decode cX4_one 144 = .ok (.ireturn, 1) := dk_172 (dk_at dksX4_one_6 4 rfl rfl)
theorem dX4_one_145 : decode cX4_one 145 = .ok (.iload_n 1, 1) := dk_27 (dk_at dksX4_one_6 5 rfl rfl)
theorem dX4_one_146 : decode cX4_one 146 = .ok (.invokestatic 164, 3) := dk_184 0 164 (dk_at dksX4_one_6 6 rfl rfl)
theorem dX4_one_149 : decode cX4_one 149 = .ok (.istore_n 2, 1) := dk_61 (dk_at dksX4_one_6 9 rfl rfl)
theorem dX4_one_150 : decode cX4_one 150 = .ok (.iload_n 2, 1) := dk_28 (dk_at dksX4_one_6 10 rfl rfl)
theorem dX4_one_151 : decode cX4_one 151 = .ok (.ifCond .lt 20, 3) := dk_155 0 20 (dk_at dksX4_one_6 11 rfl rfl)
theorem dX4_one_154 : decode cX4_one 154 = .ok (.aload_n 0, 1) := dk_42 (dk_at dksX4_one_6 14 rfl rfl)
theorem dX4_one_155 : decode cX4_one 155 = .ok (.dup, 1) := dk_89 (dk_at dksX4_one_6 15 rfl rfl)
theorem dX4_one_156 : decode cX4_one 156 = .ok (.getfield 120, 3) := dk_180 0 120 (dk_at dksX4_one_6 16 rfl rfl)
theorem dX4_one_159 : decode cX4_one 159 = .ok (.iconst 1, 1) := dk_4 (dk_at dksX4_one_6 19 rfl rfl)
theorem dX4_one_160 : decode cX4_one 160 = .ok (.iadd, 1) := dk_96 (dk_at dksX4_one_6 20 rfl rfl)
theorem dX4_one_161 : decode cX4_one 161 = .ok (.putfield 120, 3) := dk_181 0 120 (dk_at dksX4_one_6 21 rfl rfl)
theorem dX4_one_164 : decode cX4_one 164 = .ok (.aload_n 0, 1) := dk_42 (dk_at dksX4_one_7 0 rfl rfl)
theorem dX4_one_165 : decode cX4_one 165 = .ok (.getfield 28, 3) := dk_180 0 28 (dk_at dksX4_one_7 1 rfl rfl)
theorem dX4_one_168 : decode cX4_one 168 = .ok (.iload_n 2, 1) := dk_28 (dk_at dksX4_one_7 4 rfl rfl)
theorem dX4_one_169 : decode cX4_one 169 = .ok (.iaload, 1) := dk_46 (dk_at dksX4_one_7 5 rfl rfl)
theorem dX4_one_170 : decode cX4_one 170 = .ok (.ireturn, 1) := dk_172 (dk_at dksX4_one_7 6 rfl rfl)
theorem dX4_one_171 : decode cX4_one 171 = .ok (.iconst 0, 1) := dk_3 (dk_at dksX4_one_7 7 rfl rfl)
theorem dX4_one_172 : decode cX4_one 172 = .ok (.istore_n 3, 1) := dk_62 (dk_at dksX4_one_7 8 rfl rfl)
theorem dX4_one_173 : decode cX4_one 173 = .ok (.iconst 0, 1) := dk_3 (dk_at dksX4_one_7 9 rfl rfl)
theorem dX4_one_174 : decode cX4_one 174 = .ok (.istore 4, 2) := dk_54 4 (dk_at dksX4_one_7 10 rfl rfl)
theorem dX4_one_176 : decode cX4_one 176 = .ok (.iload 4, 2) := dk_21 4 (dk_at dksX4_one_7 12 rfl rfl)
theorem dX4_one_178 : decode cX4_one 178 = .ok (.iconst 4, 1) := dk_7 (dk_at dksX4_one_7 14 rfl rfl)
theorem dX4_one_179 : decode cX4_one 179 = .ok (.if_icmp .ge 50, 3) := dk_162 0 50 (dk_at dksX4_one_7 15 rfl rfl)
theorem dX4_one_182 : decode cX4_one 182 = .ok (.aload_n 0, 1) := dk_42 (dk_at dksX4_one_7 18 rfl rfl)
theorem dX4_one_183 : decode cX4_one 183 = .ok (.invokevirtual 132, 3) := dk_182 0 132 (dk_at dksX4_one_7 19 rfl rfl)
theorem dX4_one_186 : decode cX4_one 186 = .ok (.bipush 48, 2) := dk_16 48 (dk_at dksX4_one_7 22 rfl rfl)
theorem dX4_one_188 : decode cX4_one 188 = .ok (.if_icmp .lt 41, 3) := dk_161 0 41 (dk_at dksX4_one_8 0 rfl rfl)
theorem dX4_one_191 : decode cX4_one 191 = .ok (.aload_n 0, 1) := dk_42 (dk_at dksX4_one_8 3 rfl rfl)
theorem dX4_one_192 : decode cX4_one 192 = .ok (.invokevirtual 132, 3) := dk_182 0 132 (dk_at dksX4_one_8 4 rfl rfl)
theorem dX4_one_195 : decode cX4_one 195 = .ok (.bipush 57, 2) := dk_16 57 (dk_at dksX4_one_8 7 rfl rfl)
theorem dX4_one_197 : decode cX4_one 197 = .ok (.if_icmp .gt 32, 3) := dk_163 0 32 (dk_at dksX4_one_8 9 rfl rfl)
theorem dX4_one_200 : decode cX4_one 200 = .ok (.bipush 10, 2) := dk_16 10 (dk_at dksX4_one_8 12 rfl rfl)
theorem dX4_one_202 : decode cX4_one 202 = .ok (.iload_n 3, 1) := dk_29 (dk_at dksX4_one_8 14 rfl rfl)
theorem dX4_one_203 : decode cX4_one 203 = .ok (.imul, 1) := dk_104 (dk_at dksX4_one_8 15 rfl rfl)
theorem dX4_one_204 : decode cX4_one 204 = .ok (.aload_n 0, 1) := dk_42 (dk_at dksX4_one_8 16 rfl rfl)
theorem dX4_one_205 : decode cX4_one 205 = .ok (.invokevirtual 132, 3) := dk_182 0 132 (dk_at dksX4_one_8 17 rfl rfl)
theorem dX4_one_208 : decode cX4_one 208 = .ok (.iadd, 1) := dk_96 (dk_at dksX4_one_8 20 rfl rfl)
theorem dX4_one_209 : decode cX4_one 209 = .ok (.bipush 48, 2) := dk_16 48 (dk_at dksX4_one_8 21 rfl rfl)
theorem dX4_one_211 : decode cX4_one 211 = .ok (.isub, 1) := dk_100 (dk_at dksX4_one_8 23 rfl rfl)
theorem dX4_one_212 : decode cX4_one 212 = .ok (.istore_n 3, 1) := dk_62 (dk_at dksX4_one_9 0 rfl rfl)
theorem dX4_one_213 : decode cX4_one 213 = .ok (.iinc 4 1, 3) := dk_132 4 1 (dk_at dksX4_one_9 1 rfl rfl)
theorem dX4_one_216 : decode cX4_one 216 = .ok (.aload_n 0, 1) := dk_42 (dk_at dksX4_one_9 4 rfl rfl)
theorem dX4_one_217 : decode cX4_one 217 = .ok (.dup, 1) := dk_89 (dk_at dksX4_one_9 5 rfl rfl)
theorem dX4_one_218 : decode cX4_one 218 = .ok (.getfield 120, 3) := dk_180 0 120 (dk_at dksX4_one_9 6 rfl rfl)
theorem dX4_one_221 : decode cX4_one 221 = .ok (.iconst 1, 1) := dk_4 (dk_at dksX4_one_9 9 rfl rfl)
theorem dX4_one_222 : decode cX4_one 222 = .ok (.iadd, 1) := dk_96 (dk_at dksX4_one_9 10 rfl rfl)
theorem dX4_one_223 : decode cX4_one 223 = .ok (.putfield 120, 3) := dk_181 0 120 (dk_at dksX4_one_9 11 rfl rfl)
theorem dX4_one_226 : decode cX4_one 226 = .ok (.goto (-50), 3) := dk_167 255 206 (dk_at dksX4_one_9 14 rfl rfl)
theorem dX4_one_229 : decode cX4_one 229 = .ok (.iload 4, 2) := dk_21 4 (dk_at dksX4_one_9 17 rfl rfl)
theorem dX4_one_231 : decode cX4_one 231 = .ok (.ifCond .ne 10, 3) := dk_154 0 10 (dk_at dksX4_one_9 19 rfl rfl)
theorem dX4_one_234 : decode cX4_one 234 = .ok (.aload_n 0, 1) := dk_42 (dk_at dksX4_one_9 22 rfl rfl)
theorem dX4_one_235 : decode cX4_one 235 = .ok (.invokevirtual 158, 3) := dk_182 0 158 (dk_at dksX4_one_10 0 rfl rfl)
theorem dX4_one_238 : decode cX4_one 238 = .ok (.goto 4, 3) := dk_167 0 4 (dk_at dksX4_one_10 3 rfl rfl)
theorem dX4_one_241 : decode cX4_one 241 = .ok (.iload_n 3, 1) := dk_29 (dk_at dksX4_one_10 6 rfl rfl)
theorem dX4_one_242 : decode cX4_one 242 = .ok (.ireturn, 1) := dk_172 (dk_at dksX4_one_10 7 rfl rfl)
abbrev cX4_byteAt : ByteArray := prog_34_method_8_code
def yX4_byteAt : MethodName := ⟨RX4, "byteAt", "()I"⟩
def dkwX4_byteAt_2 : List UInt8 := [3, 172]
abbrev dktX4_byteAt_2 : List UInt8 := dkwX4_byteAt_2 ++ []
def dkwX4_byteAt_1 : List UInt8 := [180, 0, 120, 46, 167, 0, 21, 42, 180, 0, 25, 42, 180, 0, 126, 42, 180, 0, 120, 96, 46, 167, 0, 4]
abbrev dktX4_byteAt_1 : List UInt8 := dkwX4_byteAt_1 ++ dktX4_byteAt_2
def dkwX4_byteAt_0 : List UInt8 := [42, 180, 0, 120, 42, 180, 0, 123, 162, 0, 39, 42, 180, 0, 126, 156, 0, 15, 42, 180, 0, 22, 42]
abbrev dktX4_byteAt_0 : List UInt8 := dkwX4_byteAt_0 ++ dktX4_byteAt_1
theorem dksX4_byteAt_0 : cX4_byteAt.data.toList.drop 0 = dktX4_byteAt_0 := by decide +kernel
theorem dksX4_byteAt_1 : cX4_byteAt.data.toList.drop 23 = dktX4_byteAt_1 := dk_seg dksX4_byteAt_0 23 rfl rfl
theorem dksX4_byteAt_2 : cX4_byteAt.data.toList.drop 47 = dktX4_byteAt_2 := dk_seg dksX4_byteAt_1 24 rfl rfl
theorem dX4_byteAt_0 : decode cX4_byteAt 0 = .ok (.aload_n 0, 1) := dk_42 (dk_at dksX4_byteAt_0 0 rfl rfl)
theorem dX4_byteAt_1 : decode cX4_byteAt 1 = .ok (.getfield 120, 3) := dk_180 0 120 (dk_at dksX4_byteAt_0 1 rfl rfl)
theorem dX4_byteAt_4 : decode cX4_byteAt 4 = .ok (.aload_n 0, 1) := dk_42 (dk_at dksX4_byteAt_0 4 rfl rfl)
theorem dX4_byteAt_5 : decode cX4_byteAt 5 = .ok (.getfield 123, 3) := dk_180 0 123 (dk_at dksX4_byteAt_0 5 rfl rfl)
theorem dX4_byteAt_8 : decode cX4_byteAt 8 = .ok (.if_icmp .ge 39, 3) := dk_162 0 39 (dk_at dksX4_byteAt_0 8 rfl rfl)
theorem dX4_byteAt_11 : decode cX4_byteAt 11 = .ok (.aload_n 0, 1) := dk_42 (dk_at dksX4_byteAt_0 11 rfl rfl)
theorem dX4_byteAt_12 : decode cX4_byteAt 12 = .ok (.getfield 126, 3) := dk_180 0 126 (dk_at dksX4_byteAt_0 12 rfl rfl)
theorem dX4_byteAt_15 : decode cX4_byteAt 15 = .ok (.ifCond .ge 15, 3) := dk_156 0 15 (dk_at dksX4_byteAt_0 15 rfl rfl)
theorem dX4_byteAt_18 : decode cX4_byteAt 18 = .ok (.aload_n 0, 1) := dk_42 (dk_at dksX4_byteAt_0 18 rfl rfl)
theorem dX4_byteAt_19 : decode cX4_byteAt 19 = .ok (.getfield 22, 3) := dk_180 0 22 (dk_at dksX4_byteAt_0 19 rfl rfl)
theorem dX4_byteAt_22 : decode cX4_byteAt 22 = .ok (.aload_n 0, 1) := dk_42 (dk_at dksX4_byteAt_0 22 rfl rfl)
theorem dX4_byteAt_23 : decode cX4_byteAt 23 = .ok (.getfield 120, 3) := dk_180 0 120 (dk_at dksX4_byteAt_1 0 rfl rfl)
theorem dX4_byteAt_26 : decode cX4_byteAt 26 = .ok (.iaload, 1) := dk_46 (dk_at dksX4_byteAt_1 3 rfl rfl)
theorem dX4_byteAt_27 : decode cX4_byteAt 27 = .ok (.goto 21, 3) := dk_167 0 21 (dk_at dksX4_byteAt_1 4 rfl rfl)
theorem dX4_byteAt_30 : decode cX4_byteAt 30 = .ok (.aload_n 0, 1) := dk_42 (dk_at dksX4_byteAt_1 7 rfl rfl)
theorem dX4_byteAt_31 : decode cX4_byteAt 31 = .ok (.getfield 25, 3) := dk_180 0 25 (dk_at dksX4_byteAt_1 8 rfl rfl)
theorem dX4_byteAt_34 : decode cX4_byteAt 34 = .ok (.aload_n 0, 1) := dk_42 (dk_at dksX4_byteAt_1 11 rfl rfl)
theorem dX4_byteAt_35 : decode cX4_byteAt 35 = .ok (.getfield 126, 3) := dk_180 0 126 (dk_at dksX4_byteAt_1 12 rfl rfl)
theorem dX4_byteAt_38 : decode cX4_byteAt 38 = .ok (.aload_n 0, 1) := dk_42 (dk_at dksX4_byteAt_1 15 rfl rfl)
theorem dX4_byteAt_39 : decode cX4_byteAt 39 = .ok (.getfield 120, 3) := dk_180 0 120 (dk_at dksX4_byteAt_1 16 rfl rfl)
theorem dX4_byteAt_42 : decode cX4_byteAt 42 = .ok (.iadd, 1) := dk_96 (dk_at dksX4_byteAt_1 19 rfl rfl)
theorem dX4_byteAt_43 : decode cX4_byteAt 43 = .ok (.iaload, 1) := dk_46 (dk_at dksX4_byteAt_1 20 rfl rfl)
theorem dX4_byteAt_44 : decode cX4_byteAt 44 = .ok (.goto 4, 3) := dk_167 0 4 (dk_at dksX4_byteAt_1 21 rfl rfl)
theorem dX4_byteAt_47 : decode cX4_byteAt 47 = .ok (.iconst 0, 1) := dk_3 (dk_at dksX4_byteAt_2 0 rfl rfl)
theorem dX4_byteAt_48 : decode cX4_byteAt 48 = .ok (.ireturn, 1) := dk_172 (dk_at dksX4_byteAt_2 1 rfl rfl)
abbrev cX4_wrong : ByteArray := prog_34_method_9_code
def yX4_wrong : MethodName := ⟨RX4, "wrong", "()I"⟩
def dkwX4_wrong_0 : List UInt8 := [42, 42, 180, 0, 129, 156, 0, 10, 42, 180, 0, 120, 167, 0, 7, 42, 180, 0, 129, 181, 0, 129, 3, 172]
abbrev dktX4_wrong_0 : List UInt8 := dkwX4_wrong_0 ++ []
theorem dksX4_wrong_0 : cX4_wrong.data.toList.drop 0 = dktX4_wrong_0 := by decide +kernel
theorem dX4_wrong_0 : decode cX4_wrong 0 = .ok (.aload_n 0, 1) := dk_42 (dk_at dksX4_wrong_0 0 rfl rfl)
theorem dX4_wrong_1 : decode cX4_wrong 1 = .ok (.aload_n 0, 1) := dk_42 (dk_at dksX4_wrong_0 1 rfl rfl)
theorem dX4_wrong_2 : decode cX4_wrong 2 = .ok (.getfield 129, 3) := dk_180 0 129 (dk_at dksX4_wrong_0 2 rfl rfl)
theorem dX4_wrong_5 : decode cX4_wrong 5 = .ok (.ifCond .ge 10, 3) := dk_156 0 10 (dk_at dksX4_wrong_0 5 rfl rfl)
theorem dX4_wrong_8 : decode cX4_wrong 8 = .ok (.aload_n 0, 1) := dk_42 (dk_at dksX4_wrong_0 8 rfl rfl)
theorem dX4_wrong_9 : decode cX4_wrong 9 = .ok (.getfield 120, 3) := dk_180 0 120 (dk_at dksX4_wrong_0 9 rfl rfl)
theorem dX4_wrong_12 : decode cX4_wrong 12 = .ok (.goto 7, 3) := dk_167 0 7 (dk_at dksX4_wrong_0 12 rfl rfl)
theorem dX4_wrong_15 : decode cX4_wrong 15 = .ok (.aload_n 0, 1) := dk_42 (dk_at dksX4_wrong_0 15 rfl rfl)
theorem dX4_wrong_16 : decode cX4_wrong 16 = .ok (.getfield 129, 3) := dk_180 0 129 (dk_at dksX4_wrong_0 16 rfl rfl)
theorem dX4_wrong_19 : decode cX4_wrong 19 = .ok (.putfield 129, 3) := dk_181 0 129 (dk_at dksX4_wrong_0 19 rfl rfl)
theorem dX4_wrong_22 : decode cX4_wrong 22 = .ok (.iconst 0, 1) := dk_3 (dk_at dksX4_wrong_0 22 rfl rfl)
theorem dX4_wrong_23 : decode cX4_wrong 23 = .ok (.ireturn, 1) := dk_172 (dk_at dksX4_wrong_0 23 rfl rfl)
abbrev cX4_takes : ByteArray := prog_34_method_10_code
def yX4_takes : MethodName := ⟨RX4, "takes", "(I)Z"⟩
def dkwX4_takes_1 : List UInt8 := [181, 0, 120, 4, 172]
abbrev dktX4_takes_1 : List UInt8 := dkwX4_takes_1 ++ []
def dkwX4_takes_0 : List UInt8 := [42, 180, 0, 129, 156, 0, 11, 42, 182, 0, 132, 27, 159, 0, 5, 3, 172, 42, 89, 180, 0, 120, 4, 96]
abbrev dktX4_takes_0 : List UInt8 := dkwX4_takes_0 ++ dktX4_takes_1
theorem dksX4_takes_0 : cX4_takes.data.toList.drop 0 = dktX4_takes_0 := by decide +kernel
theorem dksX4_takes_1 : cX4_takes.data.toList.drop 24 = dktX4_takes_1 := dk_seg dksX4_takes_0 24 rfl rfl
theorem dX4_takes_0 : decode cX4_takes 0 = .ok (.aload_n 0, 1) := dk_42 (dk_at dksX4_takes_0 0 rfl rfl)
theorem dX4_takes_1 : decode cX4_takes 1 = .ok (.getfield 129, 3) := dk_180 0 129 (dk_at dksX4_takes_0 1 rfl rfl)
theorem dX4_takes_4 : decode cX4_takes 4 = .ok (.ifCond .ge 11, 3) := dk_156 0 11 (dk_at dksX4_takes_0 4 rfl rfl)
theorem dX4_takes_7 : decode cX4_takes 7 = .ok (.aload_n 0, 1) := dk_42 (dk_at dksX4_takes_0 7 rfl rfl)
theorem dX4_takes_8 : decode cX4_takes 8 = .ok (.invokevirtual 132, 3) := dk_182 0 132 (dk_at dksX4_takes_0 8 rfl rfl)
theorem dX4_takes_11 : decode cX4_takes 11 = .ok (.iload_n 1, 1) := dk_27 (dk_at dksX4_takes_0 11 rfl rfl)
theorem dX4_takes_12 : decode cX4_takes 12 = .ok (.if_icmp .eq 5, 3) := dk_159 0 5 (dk_at dksX4_takes_0 12 rfl rfl)
theorem dX4_takes_15 : decode cX4_takes 15 = .ok (.iconst 0, 1) := dk_3 (dk_at dksX4_takes_0 15 rfl rfl)
theorem dX4_takes_16 : decode cX4_takes 16 = .ok (.ireturn, 1) := dk_172 (dk_at dksX4_takes_0 16 rfl rfl)
theorem dX4_takes_17 : decode cX4_takes 17 = .ok (.aload_n 0, 1) := dk_42 (dk_at dksX4_takes_0 17 rfl rfl)
theorem dX4_takes_18 : decode cX4_takes 18 = .ok (.dup, 1) := dk_89 (dk_at dksX4_takes_0 18 rfl rfl)
theorem dX4_takes_19 : decode cX4_takes 19 = .ok (.getfield 120, 3) := dk_180 0 120 (dk_at dksX4_takes_0 19 rfl rfl)
theorem dX4_takes_22 : decode cX4_takes 22 = .ok (.iconst 1, 1) := dk_4 (dk_at dksX4_takes_0 22 rfl rfl)
theorem dX4_takes_23 : decode cX4_takes 23 = .ok (.iadd, 1) := dk_96 (dk_at dksX4_takes_0 23 rfl rfl)
theorem dX4_takes_24 : decode cX4_takes 24 = .ok (.putfield 120, 3) := dk_181 0 120 (dk_at dksX4_takes_1 0 rfl rfl)
theorem dX4_takes_27 : decode cX4_takes 27 = .ok (.iconst 1, 1) := dk_4 (dk_at dksX4_takes_1 3 rfl rfl)
theorem dX4_takes_28 : decode cX4_takes 28 = .ok (.ireturn, 1) := dk_172 (dk_at dksX4_takes_1 4 rfl rfl)
abbrev cX4_nameOf : ByteArray := prog_34_method_16_code
def yX4_nameOf : MethodName := ⟨RX4, "nameOf", "(I)I"⟩
def dkwX4_nameOf_2 : List UInt8 := [3, 172, 4, 172, 5, 172, 6, 172, 7, 172, 8, 172, 16, 6, 172, 16, 7, 172, 2, 172]
abbrev dktX4_nameOf_2 : List UInt8 := dkwX4_nameOf_2 ++ []
def dkwX4_nameOf_1 : List UInt8 := [170, 0, 0, 0, 0, 0, 129, 0, 0, 0, 99, 0, 0, 0, 122, 0, 0, 0, 126, 0, 0, 0, 119, 0, 0, 0, 129, 0, 0, 0, 129, 0, 0, 0, 129, 0, 0, 0, 129, 0, 0, 0, 129, 0, 0, 0, 129, 0, 0, 0, 129, 0, 0, 0, 129, 0, 0, 0, 111, 0, 0, 0, 113, 0, 0, 0, 129, 0, 0, 0, 129, 0, 0, 0, 129, 0, 0, 0, 129, 0, 0, 0, 129, 0, 0, 0, 123, 0, 0, 0, 129, 0, 0, 0, 129, 0, 0, 0, 129, 0, 0, 0, 115, 0, 0, 0, 117, 0, 0, 0, 121]
abbrev dktX4_nameOf_1 : List UInt8 := dkwX4_nameOf_1 ++ dktX4_nameOf_2
def dkwX4_nameOf_0 : List UInt8 := [26]
abbrev dktX4_nameOf_0 : List UInt8 := dkwX4_nameOf_0 ++ dktX4_nameOf_1
theorem dksX4_nameOf_0 : cX4_nameOf.data.toList.drop 0 = dktX4_nameOf_0 := by decide +kernel
theorem dksX4_nameOf_1 : cX4_nameOf.data.toList.drop 1 = dktX4_nameOf_1 := dk_seg dksX4_nameOf_0 1 rfl rfl
theorem dksX4_nameOf_2 : cX4_nameOf.data.toList.drop 112 = dktX4_nameOf_2 := dk_seg dksX4_nameOf_1 111 rfl rfl
theorem dX4_nameOf_0 : decode cX4_nameOf 0 = .ok (.iload_n 0, 1) := dk_26 (dk_at dksX4_nameOf_0 0 rfl rfl)
theorem dX4_nameOf_1 : decode cX4_nameOf 1 = .ok (.tableswitch 129 99 122 #[126, 119, 129, 129, 129, 129, 129, 129, 129, 129, 111, 113, 129, 129, 129, 129, 129, 123, 129, 129, 129, 115, 117, 121], 111) := by decide +kernel
theorem dX4_nameOf_112 : decode cX4_nameOf 112 = .ok (.iconst 0, 1) := dk_3 (dk_at dksX4_nameOf_2 0 rfl rfl)
theorem dX4_nameOf_113 : decode cX4_nameOf 113 = .ok (.ireturn, 1) := dk_172 (dk_at dksX4_nameOf_2 1 rfl rfl)
theorem dX4_nameOf_114 : decode cX4_nameOf 114 = .ok (.iconst 1, 1) := dk_4 (dk_at dksX4_nameOf_2 2 rfl rfl)
theorem dX4_nameOf_115 : decode cX4_nameOf 115 = .ok (.ireturn, 1) := dk_172 (dk_at dksX4_nameOf_2 3 rfl rfl)
theorem dX4_nameOf_116 : decode cX4_nameOf 116 = .ok (.iconst 2, 1) := dk_5 (dk_at dksX4_nameOf_2 4 rfl rfl)
theorem dX4_nameOf_117 : decode cX4_nameOf 117 = .ok (.ireturn, 1) := dk_172 (dk_at dksX4_nameOf_2 5 rfl rfl)
theorem dX4_nameOf_118 : decode cX4_nameOf 118 = .ok (.iconst 3, 1) := dk_6 (dk_at dksX4_nameOf_2 6 rfl rfl)
theorem dX4_nameOf_119 : decode cX4_nameOf 119 = .ok (.ireturn, 1) := dk_172 (dk_at dksX4_nameOf_2 7 rfl rfl)
theorem dX4_nameOf_120 : decode cX4_nameOf 120 = .ok (.iconst 4, 1) := dk_7 (dk_at dksX4_nameOf_2 8 rfl rfl)
theorem dX4_nameOf_121 : decode cX4_nameOf 121 = .ok (.ireturn, 1) := dk_172 (dk_at dksX4_nameOf_2 9 rfl rfl)
theorem dX4_nameOf_122 : decode cX4_nameOf 122 = .ok (.iconst 5, 1) := dk_8 (dk_at dksX4_nameOf_2 10 rfl rfl)
theorem dX4_nameOf_123 : decode cX4_nameOf 123 = .ok (.ireturn, 1) := dk_172 (dk_at dksX4_nameOf_2 11 rfl rfl)
theorem dX4_nameOf_124 : decode cX4_nameOf 124 = .ok (.bipush 6, 2) := dk_16 6 (dk_at dksX4_nameOf_2 12 rfl rfl)
theorem dX4_nameOf_126 : decode cX4_nameOf 126 = .ok (.ireturn, 1) := dk_172 (dk_at dksX4_nameOf_2 14 rfl rfl)
theorem dX4_nameOf_127 : decode cX4_nameOf 127 = .ok (.bipush 7, 2) := dk_16 7 (dk_at dksX4_nameOf_2 15 rfl rfl)
theorem dX4_nameOf_129 : decode cX4_nameOf 129 = .ok (.ireturn, 1) := dk_172 (dk_at dksX4_nameOf_2 17 rfl rfl)
theorem dX4_nameOf_130 : decode cX4_nameOf 130 = .ok (.iconst (-1), 1) := dk_2 (dk_at dksX4_nameOf_2 18 rfl rfl)
theorem dX4_nameOf_131 : decode cX4_nameOf 131 = .ok (.ireturn, 1) := dk_172 (dk_at dksX4_nameOf_2 19 rfl rfl)
abbrev cX4_head : ByteArray := prog_34_method_23_code
def yX4_head : MethodName := ⟨RX4, "head", "()I"⟩
def dkwX4_head_8 : List UInt8 := [180, 0, 172, 4, 100, 172]
abbrev dktX4_head_8 : List UInt8 := dkwX4_head_8 ++ []
def dkwX4_head_7 : List UInt8 := [42, 180, 0, 31, 27, 46, 79, 132, 1, 1, 167, 255, 229, 42, 89, 180, 0, 172, 4, 96, 181, 0, 172, 42]
abbrev dktX4_head_7 : List UInt8 := dkwX4_head_7 ++ dktX4_head_8
def dkwX4_head_6 : List UInt8 := [180, 0, 129, 100, 172, 3, 60, 27, 8, 162, 0, 28, 42, 180, 0, 9, 8, 42, 180, 0, 172, 104, 27, 96]
abbrev dktX4_head_6 : List UInt8 := dkwX4_head_6 ++ dktX4_head_7
def dkwX4_head_5 : List UInt8 := [162, 0, 8, 42, 182, 0, 158, 60, 42, 3, 181, 0, 117, 42, 180, 0, 129, 155, 0, 11, 16, 156, 42]
abbrev dktX4_head_5 : List UInt8 := dkwX4_head_5 ++ dktX4_head_6
def dkwX4_head_4 : List UInt8 := [16, 99, 7, 182, 0, 185, 79, 42, 180, 0, 129, 156, 0, 19, 42, 180, 0, 120, 42, 180, 0, 123]
abbrev dktX4_head_4 : List UInt8 := dkwX4_head_4 ++ dktX4_head_5
def dkwX4_head_3 : List UInt8 := [182, 0, 185, 79, 42, 180, 0, 31, 6, 42, 16, 116, 6, 182, 0, 185, 79, 42, 180, 0, 31, 7, 42]
abbrev dktX4_head_3 : List UInt8 := dkwX4_head_3 ++ dktX4_head_4
def dkwX4_head_2 : List UInt8 := [42, 180, 0, 31, 4, 42, 16, 97, 4, 182, 0, 185, 79, 42, 180, 0, 31, 5, 42, 16, 104, 5]
abbrev dktX4_head_2 : List UInt8 := dkwX4_head_2 ++ dktX4_head_3
def dkwX4_head_1 : List UInt8 := [180, 0, 117, 181, 0, 123, 42, 2, 181, 0, 129, 42, 180, 0, 31, 3, 42, 16, 108, 3, 182, 0, 185, 79]
abbrev dktX4_head_1 : List UInt8 := dkwX4_head_1 ++ dktX4_head_2
def dkwX4_head_0 : List UInt8 := [42, 180, 0, 172, 16, 6, 160, 0, 6, 16, 253, 172, 42, 2, 181, 0, 126, 42, 3, 181, 0, 120, 42, 42]
abbrev dktX4_head_0 : List UInt8 := dkwX4_head_0 ++ dktX4_head_1
theorem dksX4_head_0 : cX4_head.data.toList.drop 0 = dktX4_head_0 := by decide +kernel
theorem dksX4_head_1 : cX4_head.data.toList.drop 24 = dktX4_head_1 := dk_seg dksX4_head_0 24 rfl rfl
theorem dksX4_head_2 : cX4_head.data.toList.drop 48 = dktX4_head_2 := dk_seg dksX4_head_1 24 rfl rfl
theorem dksX4_head_3 : cX4_head.data.toList.drop 70 = dktX4_head_3 := dk_seg dksX4_head_2 22 rfl rfl
theorem dksX4_head_4 : cX4_head.data.toList.drop 93 = dktX4_head_4 := dk_seg dksX4_head_3 23 rfl rfl
theorem dksX4_head_5 : cX4_head.data.toList.drop 115 = dktX4_head_5 := dk_seg dksX4_head_4 22 rfl rfl
theorem dksX4_head_6 : cX4_head.data.toList.drop 138 = dktX4_head_6 := dk_seg dksX4_head_5 23 rfl rfl
theorem dksX4_head_7 : cX4_head.data.toList.drop 162 = dktX4_head_7 := dk_seg dksX4_head_6 24 rfl rfl
theorem dksX4_head_8 : cX4_head.data.toList.drop 186 = dktX4_head_8 := dk_seg dksX4_head_7 24 rfl rfl
theorem dX4_head_0 : decode cX4_head 0 = .ok (.aload_n 0, 1) := dk_42 (dk_at dksX4_head_0 0 rfl rfl)
theorem dX4_head_1 : decode cX4_head 1 = .ok (.getfield 172, 3) := dk_180 0 172 (dk_at dksX4_head_0 1 rfl rfl)
theorem dX4_head_4 : decode cX4_head 4 = .ok (.bipush 6, 2) := dk_16 6 (dk_at dksX4_head_0 4 rfl rfl)
theorem dX4_head_6 : decode cX4_head 6 = .ok (.if_icmp .ne 6, 3) := dk_160 0 6 (dk_at dksX4_head_0 6 rfl rfl)
theorem dX4_head_9 : decode cX4_head 9 = .ok (.bipush (-3), 2) := dk_16 253 (dk_at dksX4_head_0 9 rfl rfl)
theorem dX4_head_11 : decode cX4_head 11 = .ok (.ireturn, 1) := dk_172 (dk_at dksX4_head_0 11 rfl rfl)
theorem dX4_head_12 : decode cX4_head 12 = .ok (.aload_n 0, 1) := dk_42 (dk_at dksX4_head_0 12 rfl rfl)
theorem dX4_head_13 : decode cX4_head 13 = .ok (.iconst (-1), 1) := dk_2 (dk_at dksX4_head_0 13 rfl rfl)
theorem dX4_head_14 : decode cX4_head 14 = .ok (.putfield 126, 3) := dk_181 0 126 (dk_at dksX4_head_0 14 rfl rfl)
theorem dX4_head_17 : decode cX4_head 17 = .ok (.aload_n 0, 1) := dk_42 (dk_at dksX4_head_0 17 rfl rfl)
theorem dX4_head_18 : decode cX4_head 18 = .ok (.iconst 0, 1) := dk_3 (dk_at dksX4_head_0 18 rfl rfl)
theorem dX4_head_19 : decode cX4_head 19 = .ok (.putfield 120, 3) := dk_181 0 120 (dk_at dksX4_head_0 19 rfl rfl)
theorem dX4_head_22 : decode cX4_head 22 = .ok (.aload_n 0, 1) := dk_42 (dk_at dksX4_head_0 22 rfl rfl)
theorem dX4_head_23 : decode cX4_head 23 = .ok (.aload_n 0, 1) := dk_42 (dk_at dksX4_head_0 23 rfl rfl)
theorem dX4_head_24 : decode cX4_head 24 = .ok (.getfield 117, 3) := dk_180 0 117 (dk_at dksX4_head_1 0 rfl rfl)
theorem dX4_head_27 : decode cX4_head 27 = .ok (.putfield 123, 3) := dk_181 0 123 (dk_at dksX4_head_1 3 rfl rfl)
theorem dX4_head_30 : decode cX4_head 30 = .ok (.aload_n 0, 1) := dk_42 (dk_at dksX4_head_1 6 rfl rfl)
theorem dX4_head_31 : decode cX4_head 31 = .ok (.iconst (-1), 1) := dk_2 (dk_at dksX4_head_1 7 rfl rfl)
theorem dX4_head_32 : decode cX4_head 32 = .ok (.putfield 129, 3) := dk_181 0 129 (dk_at dksX4_head_1 8 rfl rfl)
theorem dX4_head_35 : decode cX4_head 35 = .ok (.aload_n 0, 1) := dk_42 (dk_at dksX4_head_1 11 rfl rfl)
theorem dX4_head_36 : decode cX4_head 36 = .ok (.getfield 31, 3) := dk_180 0 31 (dk_at dksX4_head_1 12 rfl rfl)
theorem dX4_head_39 : decode cX4_head 39 = .ok (.iconst 0, 1) := dk_3 (dk_at dksX4_head_1 15 rfl rfl)
theorem dX4_head_40 : decode cX4_head 40 = .ok (.aload_n 0, 1) := dk_42 (dk_at dksX4_head_1 16 rfl rfl)
theorem dX4_head_41 : decode cX4_head 41 = .ok (.bipush 108, 2) := dk_16 108 (dk_at dksX4_head_1 17 rfl rfl)
theorem dX4_head_43 : decode cX4_head 43 = .ok (.iconst 0, 1) := dk_3 (dk_at dksX4_head_1 19 rfl rfl)
theorem dX4_head_44 : decode cX4_head 44 = .ok (.invokevirtual 185, 3) := dk_182 0 185 (dk_at dksX4_head_1 20 rfl rfl)
theorem dX4_head_47 : decode cX4_head 47 = .ok (.iastore, 1) := dk_79 (dk_at dksX4_head_1 23 rfl rfl)
theorem dX4_head_48 : decode cX4_head 48 = .ok (.aload_n 0, 1) := dk_42 (dk_at dksX4_head_2 0 rfl rfl)
theorem dX4_head_49 : decode cX4_head 49 = .ok (.getfield 31, 3) := dk_180 0 31 (dk_at dksX4_head_2 1 rfl rfl)
theorem dX4_head_52 : decode cX4_head 52 = .ok (.iconst 1, 1) := dk_4 (dk_at dksX4_head_2 4 rfl rfl)
theorem dX4_head_53 : decode cX4_head 53 = .ok (.aload_n 0, 1) := dk_42 (dk_at dksX4_head_2 5 rfl rfl)
theorem dX4_head_54 : decode cX4_head 54 = .ok (.bipush 97, 2) := dk_16 97 (dk_at dksX4_head_2 6 rfl rfl)
theorem dX4_head_56 : decode cX4_head 56 = .ok (.iconst 1, 1) := dk_4 (dk_at dksX4_head_2 8 rfl rfl)
theorem dX4_head_57 : decode cX4_head 57 = .ok (.invokevirtual 185, 3) := dk_182 0 185 (dk_at dksX4_head_2 9 rfl rfl)
theorem dX4_head_60 : decode cX4_head 60 = .ok (.iastore, 1) := dk_79 (dk_at dksX4_head_2 12 rfl rfl)
theorem dX4_head_61 : decode cX4_head 61 = .ok (.aload_n 0, 1) := dk_42 (dk_at dksX4_head_2 13 rfl rfl)
theorem dX4_head_62 : decode cX4_head 62 = .ok (.getfield 31, 3) := dk_180 0 31 (dk_at dksX4_head_2 14 rfl rfl)
theorem dX4_head_65 : decode cX4_head 65 = .ok (.iconst 2, 1) := dk_5 (dk_at dksX4_head_2 17 rfl rfl)
theorem dX4_head_66 : decode cX4_head 66 = .ok (.aload_n 0, 1) := dk_42 (dk_at dksX4_head_2 18 rfl rfl)
theorem dX4_head_67 : decode cX4_head 67 = .ok (.bipush 104, 2) := dk_16 104 (dk_at dksX4_head_2 19 rfl rfl)
theorem dX4_head_69 : decode cX4_head 69 = .ok (.iconst 2, 1) := dk_5 (dk_at dksX4_head_2 21 rfl rfl)
theorem dX4_head_70 : decode cX4_head 70 = .ok (.invokevirtual 185, 3) := dk_182 0 185 (dk_at dksX4_head_3 0 rfl rfl)
theorem dX4_head_73 : decode cX4_head 73 = .ok (.iastore, 1) := dk_79 (dk_at dksX4_head_3 3 rfl rfl)
theorem dX4_head_74 : decode cX4_head 74 = .ok (.aload_n 0, 1) := dk_42 (dk_at dksX4_head_3 4 rfl rfl)
theorem dX4_head_75 : decode cX4_head 75 = .ok (.getfield 31, 3) := dk_180 0 31 (dk_at dksX4_head_3 5 rfl rfl)
theorem dX4_head_78 : decode cX4_head 78 = .ok (.iconst 3, 1) := dk_6 (dk_at dksX4_head_3 8 rfl rfl)
theorem dX4_head_79 : decode cX4_head 79 = .ok (.aload_n 0, 1) := dk_42 (dk_at dksX4_head_3 9 rfl rfl)
theorem dX4_head_80 : decode cX4_head 80 = .ok (.bipush 116, 2) := dk_16 116 (dk_at dksX4_head_3 10 rfl rfl)
theorem dX4_head_82 : decode cX4_head 82 = .ok (.iconst 3, 1) := dk_6 (dk_at dksX4_head_3 12 rfl rfl)
theorem dX4_head_83 : decode cX4_head 83 = .ok (.invokevirtual 185, 3) := dk_182 0 185 (dk_at dksX4_head_3 13 rfl rfl)
theorem dX4_head_86 : decode cX4_head 86 = .ok (.iastore, 1) := dk_79 (dk_at dksX4_head_3 16 rfl rfl)
theorem dX4_head_87 : decode cX4_head 87 = .ok (.aload_n 0, 1) := dk_42 (dk_at dksX4_head_3 17 rfl rfl)
theorem dX4_head_88 : decode cX4_head 88 = .ok (.getfield 31, 3) := dk_180 0 31 (dk_at dksX4_head_3 18 rfl rfl)
theorem dX4_head_91 : decode cX4_head 91 = .ok (.iconst 4, 1) := dk_7 (dk_at dksX4_head_3 21 rfl rfl)
theorem dX4_head_92 : decode cX4_head 92 = .ok (.aload_n 0, 1) := dk_42 (dk_at dksX4_head_3 22 rfl rfl)
theorem dX4_head_93 : decode cX4_head 93 = .ok (.bipush 99, 2) := dk_16 99 (dk_at dksX4_head_4 0 rfl rfl)
theorem dX4_head_95 : decode cX4_head 95 = .ok (.iconst 4, 1) := dk_7 (dk_at dksX4_head_4 2 rfl rfl)
theorem dX4_head_96 : decode cX4_head 96 = .ok (.invokevirtual 185, 3) := dk_182 0 185 (dk_at dksX4_head_4 3 rfl rfl)
theorem dX4_head_99 : decode cX4_head 99 = .ok (.iastore, 1) := dk_79 (dk_at dksX4_head_4 6 rfl rfl)
theorem dX4_head_100 : decode cX4_head 100 = .ok (.aload_n 0, 1) := dk_42 (dk_at dksX4_head_4 7 rfl rfl)
theorem dX4_head_101 : decode cX4_head 101 = .ok (.getfield 129, 3) := dk_180 0 129 (dk_at dksX4_head_4 8 rfl rfl)
theorem dX4_head_104 : decode cX4_head 104 = .ok (.ifCond .ge 19, 3) := dk_156 0 19 (dk_at dksX4_head_4 11 rfl rfl)
theorem dX4_head_107 : decode cX4_head 107 = .ok (.aload_n 0, 1) := dk_42 (dk_at dksX4_head_4 14 rfl rfl)
theorem dX4_head_108 : decode cX4_head 108 = .ok (.getfield 120, 3) := dk_180 0 120 (dk_at dksX4_head_4 15 rfl rfl)
theorem dX4_head_111 : decode cX4_head 111 = .ok (.aload_n 0, 1) := dk_42 (dk_at dksX4_head_4 18 rfl rfl)
theorem dX4_head_112 : decode cX4_head 112 = .ok (.getfield 123, 3) := dk_180 0 123 (dk_at dksX4_head_4 19 rfl rfl)
theorem dX4_head_115 : decode cX4_head 115 = .ok (.if_icmp .ge 8, 3) := dk_162 0 8 (dk_at dksX4_head_5 0 rfl rfl)
theorem dX4_head_118 : decode cX4_head 118 = .ok (.aload_n 0, 1) := dk_42 (dk_at dksX4_head_5 3 rfl rfl)
theorem dX4_head_119 : decode cX4_head 119 = .ok (.invokevirtual 158, 3) := dk_182 0 158 (dk_at dksX4_head_5 4 rfl rfl)
theorem dX4_head_122 : decode cX4_head 122 = .ok (.istore_n 1, 1) := dk_60 (dk_at dksX4_head_5 7 rfl rfl)
theorem dX4_head_123 : decode cX4_head 123 = .ok (.aload_n 0, 1) := dk_42 (dk_at dksX4_head_5 8 rfl rfl)
theorem dX4_head_124 : decode cX4_head 124 = .ok (.iconst 0, 1) := dk_3 (dk_at dksX4_head_5 9 rfl rfl)
theorem dX4_head_125 : decode cX4_head 125 = .ok (.putfield 117, 3) := dk_181 0 117 (dk_at dksX4_head_5 10 rfl rfl)
theorem dX4_head_128 : decode cX4_head 128 = .ok (.aload_n 0, 1) := dk_42 (dk_at dksX4_head_5 13 rfl rfl)
theorem dX4_head_129 : decode cX4_head 129 = .ok (.getfield 129, 3) := dk_180 0 129 (dk_at dksX4_head_5 14 rfl rfl)
theorem dX4_head_132 : decode cX4_head 132 = .ok (.ifCond .lt 11, 3) := dk_155 0 11 (dk_at dksX4_head_5 17 rfl rfl)
theorem dX4_head_135 : decode cX4_head 135 = .ok (.bipush (-100), 2) := dk_16 156 (dk_at dksX4_head_5 20 rfl rfl)
theorem dX4_head_137 : decode cX4_head 137 = .ok (.aload_n 0, 1) := dk_42 (dk_at dksX4_head_5 22 rfl rfl)
theorem dX4_head_138 : decode cX4_head 138 = .ok (.getfield 129, 3) := dk_180 0 129 (dk_at dksX4_head_6 0 rfl rfl)
theorem dX4_head_141 : decode cX4_head 141 = .ok (.isub, 1) := dk_100 (dk_at dksX4_head_6 3 rfl rfl)
theorem dX4_head_142 : decode cX4_head 142 = .ok (.ireturn, 1) := dk_172 (dk_at dksX4_head_6 4 rfl rfl)
theorem dX4_head_143 : decode cX4_head 143 = .ok (.iconst 0, 1) := dk_3 (dk_at dksX4_head_6 5 rfl rfl)
theorem dX4_head_144 : decode cX4_head 144 = .ok (.istore_n 1, 1) := dk_60 (dk_at dksX4_head_6 6 rfl rfl)
theorem dX4_head_145 : decode cX4_head 145 = .ok (.iload_n 1, 1) := dk_27 (dk_at dksX4_head_6 7 rfl rfl)
theorem dX4_head_146 : decode cX4_head 146 = .ok (.iconst 5, 1) := dk_8 (dk_at dksX4_head_6 8 rfl rfl)
theorem dX4_head_147 : decode cX4_head 147 = .ok (.if_icmp .ge 28, 3) := dk_162 0 28 (dk_at dksX4_head_6 9 rfl rfl)
theorem dX4_head_150 : decode cX4_head 150 = .ok (.aload_n 0, 1) := dk_42 (dk_at dksX4_head_6 12 rfl rfl)
theorem dX4_head_151 : decode cX4_head 151 = .ok (.getfield 9, 3) := dk_180 0 9 (dk_at dksX4_head_6 13 rfl rfl)
theorem dX4_head_154 : decode cX4_head 154 = .ok (.iconst 5, 1) := dk_8 (dk_at dksX4_head_6 16 rfl rfl)
theorem dX4_head_155 : decode cX4_head 155 = .ok (.aload_n 0, 1) := dk_42 (dk_at dksX4_head_6 17 rfl rfl)
theorem dX4_head_156 : decode cX4_head 156 = .ok (.getfield 172, 3) := dk_180 0 172 (dk_at dksX4_head_6 18 rfl rfl)
theorem dX4_head_159 : decode cX4_head 159 = .ok (.imul, 1) := dk_104 (dk_at dksX4_head_6 21 rfl rfl)
theorem dX4_head_160 : decode cX4_head 160 = .ok (.iload_n 1, 1) := dk_27 (dk_at dksX4_head_6 22 rfl rfl)
theorem dX4_head_161 : decode cX4_head 161 = .ok (.iadd, 1) := dk_96 (dk_at dksX4_head_6 23 rfl rfl)
theorem dX4_head_162 : decode cX4_head 162 = .ok (.aload_n 0, 1) := dk_42 (dk_at dksX4_head_7 0 rfl rfl)
theorem dX4_head_163 : decode cX4_head 163 = .ok (.getfield 31, 3) := dk_180 0 31 (dk_at dksX4_head_7 1 rfl rfl)
theorem dX4_head_166 : decode cX4_head 166 = .ok (.iload_n 1, 1) := dk_27 (dk_at dksX4_head_7 4 rfl rfl)
theorem dX4_head_167 : decode cX4_head 167 = .ok (.iaload, 1) := dk_46 (dk_at dksX4_head_7 5 rfl rfl)
theorem dX4_head_168 : decode cX4_head 168 = .ok (.iastore, 1) := dk_79 (dk_at dksX4_head_7 6 rfl rfl)
theorem dX4_head_169 : decode cX4_head 169 = .ok (.iinc 1 1, 3) := dk_132 1 1 (dk_at dksX4_head_7 7 rfl rfl)
theorem dX4_head_172 : decode cX4_head 172 = .ok (.goto (-27), 3) := dk_167 255 229 (dk_at dksX4_head_7 10 rfl rfl)
theorem dX4_head_175 : decode cX4_head 175 = .ok (.aload_n 0, 1) := dk_42 (dk_at dksX4_head_7 13 rfl rfl)
theorem dX4_head_176 : decode cX4_head 176 = .ok (.dup, 1) := dk_89 (dk_at dksX4_head_7 14 rfl rfl)
theorem dX4_head_177 : decode cX4_head 177 = .ok (.getfield 172, 3) := dk_180 0 172 (dk_at dksX4_head_7 15 rfl rfl)
theorem dX4_head_180 : decode cX4_head 180 = .ok (.iconst 1, 1) := dk_4 (dk_at dksX4_head_7 18 rfl rfl)
theorem dX4_head_181 : decode cX4_head 181 = .ok (.iadd, 1) := dk_96 (dk_at dksX4_head_7 19 rfl rfl)
theorem dX4_head_182 : decode cX4_head 182 = .ok (.putfield 172, 3) := dk_181 0 172 (dk_at dksX4_head_7 20 rfl rfl)
theorem dX4_head_185 : decode cX4_head 185 = .ok (.aload_n 0, 1) := dk_42 (dk_at dksX4_head_7 23 rfl rfl)
theorem dX4_head_186 : decode cX4_head 186 = .ok (.getfield 172, 3) := dk_180 0 172 (dk_at dksX4_head_8 0 rfl rfl)
theorem dX4_head_189 : decode cX4_head 189 = .ok (.iconst 1, 1) := dk_4 (dk_at dksX4_head_8 3 rfl rfl)
theorem dX4_head_190 : decode cX4_head 190 = .ok (.isub, 1) := dk_100 (dk_at dksX4_head_8 4 rfl rfl)
theorem dX4_head_191 : decode cX4_head 191 = .ok (.ireturn, 1) := dk_172 (dk_at dksX4_head_8 5 rfl rfl)
abbrev cX4_readOne : ByteArray := prog_34_method_22_code
def yX4_readOne : MethodName := ⟨RX4, "readOne", "(II)I"⟩
def dkwX4_readOne_4 : List UInt8 := [172, 28, 21, 4, 184, 0, 181, 154, 0, 13, 42, 29, 181, 0, 120, 42, 182, 0, 158, 172, 21, 4, 172]
abbrev dktX4_readOne_4 : List UInt8 := dkwX4_readOne_4 ++ []
def dkwX4_readOne_3 : List UInt8 := [89, 180, 0, 120, 4, 96, 181, 0, 120, 167, 255, 203, 42, 180, 0, 120, 29, 160, 0, 8, 42, 182, 0, 158]
abbrev dktX4_readOne_3 : List UInt8 := dkwX4_readOne_3 ++ dktX4_readOne_4
def dkwX4_readOne_2 : List UInt8 := [182, 0, 132, 16, 57, 163, 0, 31, 16, 10, 21, 4, 104, 42, 182, 0, 132, 96, 16, 48, 100, 54, 4, 42]
abbrev dktX4_readOne_2 : List UInt8 := dkwX4_readOne_2 ++ dktX4_readOne_3
def dkwX4_readOne_1 : List UInt8 := [62, 3, 54, 4, 42, 180, 0, 120, 29, 5, 96, 162, 0, 49, 42, 182, 0, 132, 16, 48, 161, 0, 40, 42]
abbrev dktX4_readOne_1 : List UInt8 := dkwX4_readOne_1 ++ dktX4_readOne_2
def dkwX4_readOne_0 : List UInt8 := [42, 180, 0, 129, 156, 0, 11, 42, 27, 182, 0, 139, 154, 0, 8, 42, 182, 0, 158, 172, 42, 180, 0, 120]
abbrev dktX4_readOne_0 : List UInt8 := dkwX4_readOne_0 ++ dktX4_readOne_1
theorem dksX4_readOne_0 : cX4_readOne.data.toList.drop 0 = dktX4_readOne_0 := by decide +kernel
theorem dksX4_readOne_1 : cX4_readOne.data.toList.drop 24 = dktX4_readOne_1 := dk_seg dksX4_readOne_0 24 rfl rfl
theorem dksX4_readOne_2 : cX4_readOne.data.toList.drop 48 = dktX4_readOne_2 := dk_seg dksX4_readOne_1 24 rfl rfl
theorem dksX4_readOne_3 : cX4_readOne.data.toList.drop 72 = dktX4_readOne_3 := dk_seg dksX4_readOne_2 24 rfl rfl
theorem dksX4_readOne_4 : cX4_readOne.data.toList.drop 96 = dktX4_readOne_4 := dk_seg dksX4_readOne_3 24 rfl rfl
theorem dX4_readOne_0 : decode cX4_readOne 0 = .ok (.aload_n 0, 1) := dk_42 (dk_at dksX4_readOne_0 0 rfl rfl)
theorem dX4_readOne_1 : decode cX4_readOne 1 = .ok (.getfield 129, 3) := dk_180 0 129 (dk_at dksX4_readOne_0 1 rfl rfl)
theorem dX4_readOne_4 : decode cX4_readOne 4 = .ok (.ifCond .ge 11, 3) := dk_156 0 11 (dk_at dksX4_readOne_0 4 rfl rfl)
theorem dX4_readOne_7 : decode cX4_readOne 7 = .ok (.aload_n 0, 1) := dk_42 (dk_at dksX4_readOne_0 7 rfl rfl)
theorem dX4_readOne_8 : decode cX4_readOne 8 = .ok (.iload_n 1, 1) := dk_27 (dk_at dksX4_readOne_0 8 rfl rfl)
theorem dX4_readOne_9 : decode cX4_readOne 9 = .ok (.invokevirtual 139, 3) := dk_182 0 139 (dk_at dksX4_readOne_0 9 rfl rfl)
theorem dX4_readOne_12 : decode cX4_readOne 12 = .ok (.ifCond .ne 8, 3) := dk_154 0 8 (dk_at dksX4_readOne_0 12 rfl rfl)
theorem dX4_readOne_15 : decode cX4_readOne 15 = .ok (.aload_n 0, 1) := dk_42 (dk_at dksX4_readOne_0 15 rfl rfl)
theorem dX4_readOne_16 : decode cX4_readOne 16 = .ok (.invokevirtual 158, 3) := dk_182 0 158 (dk_at dksX4_readOne_0 16 rfl rfl)
theorem dX4_readOne_19 : decode cX4_readOne 19 = .ok (.ireturn, 1) := dk_172 (dk_at dksX4_readOne_0 19 rfl rfl)
theorem dX4_readOne_20 : decode cX4_readOne 20 = .ok (.aload_n 0, 1) := dk_42 (dk_at dksX4_readOne_0 20 rfl rfl)
theorem dX4_readOne_21 : decode cX4_readOne 21 = .ok (.getfield 120, 3) := dk_180 0 120 (dk_at dksX4_readOne_0 21 rfl rfl)
theorem dX4_readOne_24 : decode cX4_readOne 24 = .ok (.istore_n 3, 1) := dk_62 (dk_at dksX4_readOne_1 0 rfl rfl)
theorem dX4_readOne_25 : decode cX4_readOne 25 = .ok (.iconst 0, 1) := dk_3 (dk_at dksX4_readOne_1 1 rfl rfl)
theorem dX4_readOne_26 : decode cX4_readOne 26 = .ok (.istore 4, 2) := dk_54 4 (dk_at dksX4_readOne_1 2 rfl rfl)
theorem dX4_readOne_28 : decode cX4_readOne 28 = .ok (.aload_n 0, 1) := dk_42 (dk_at dksX4_readOne_1 4 rfl rfl)
theorem dX4_readOne_29 : decode cX4_readOne 29 = .ok (.getfield 120, 3) := dk_180 0 120 (dk_at dksX4_readOne_1 5 rfl rfl)
theorem dX4_readOne_32 : decode cX4_readOne 32 = .ok (.iload_n 3, 1) := dk_29 (dk_at dksX4_readOne_1 8 rfl rfl)
theorem dX4_readOne_33 : decode cX4_readOne 33 = .ok (.iconst 2, 1) := dk_5 (dk_at dksX4_readOne_1 9 rfl rfl)
theorem dX4_readOne_34 : decode cX4_readOne 34 = .ok (.iadd, 1) := dk_96 (dk_at dksX4_readOne_1 10 rfl rfl)
theorem dX4_readOne_35 : decode cX4_readOne 35 = .ok (.if_icmp .ge 49, 3) := dk_162 0 49 (dk_at dksX4_readOne_1 11 rfl rfl)
theorem dX4_readOne_38 : decode cX4_readOne 38 = .ok (.aload_n 0, 1) := dk_42 (dk_at dksX4_readOne_1 14 rfl rfl)
theorem dX4_readOne_39 : decode cX4_readOne 39 = .ok (.invokevirtual 132, 3) := dk_182 0 132 (dk_at dksX4_readOne_1 15 rfl rfl)
theorem dX4_readOne_42 : decode cX4_readOne 42 = .ok (.bipush 48, 2) := dk_16 48 (dk_at dksX4_readOne_1 18 rfl rfl)
theorem dX4_readOne_44 : decode cX4_readOne 44 = .ok (.if_icmp .lt 40, 3) := dk_161 0 40 (dk_at dksX4_readOne_1 20 rfl rfl)
theorem dX4_readOne_47 : decode cX4_readOne 47 = .ok (.aload_n 0, 1) := dk_42 (dk_at dksX4_readOne_1 23 rfl rfl)
theorem dX4_readOne_48 : decode cX4_readOne 48 = .ok (.invokevirtual 132, 3) := dk_182 0 132 (dk_at dksX4_readOne_2 0 rfl rfl)
theorem dX4_readOne_51 : decode cX4_readOne 51 = .ok (.bipush 57, 2) := dk_16 57 (dk_at dksX4_readOne_2 3 rfl rfl)
theorem dX4_readOne_53 : decode cX4_readOne 53 = .ok (.if_icmp .gt 31, 3) := dk_163 0 31 (dk_at dksX4_readOne_2 5 rfl rfl)
theorem dX4_readOne_56 : decode cX4_readOne 56 = .ok (.bipush 10, 2) := dk_16 10 (dk_at dksX4_readOne_2 8 rfl rfl)
theorem dX4_readOne_58 : decode cX4_readOne 58 = .ok (.iload 4, 2) := dk_21 4 (dk_at dksX4_readOne_2 10 rfl rfl)
theorem dX4_readOne_60 : decode cX4_readOne 60 = .ok (.imul, 1) := dk_104 (dk_at dksX4_readOne_2 12 rfl rfl)
theorem dX4_readOne_61 : decode cX4_readOne 61 = .ok (.aload_n 0, 1) := dk_42 (dk_at dksX4_readOne_2 13 rfl rfl)
theorem dX4_readOne_62 : decode cX4_readOne 62 = .ok (.invokevirtual 132, 3) := dk_182 0 132 (dk_at dksX4_readOne_2 14 rfl rfl)
theorem dX4_readOne_65 : decode cX4_readOne 65 = .ok (.iadd, 1) := dk_96 (dk_at dksX4_readOne_2 17 rfl rfl)
theorem dX4_readOne_66 : decode cX4_readOne 66 = .ok (.bipush 48, 2) := dk_16 48 (dk_at dksX4_readOne_2 18 rfl rfl)
theorem dX4_readOne_68 : decode cX4_readOne 68 = .ok (.isub, 1) := dk_100 (dk_at dksX4_readOne_2 20 rfl rfl)
theorem dX4_readOne_69 : decode cX4_readOne 69 = .ok (.istore 4, 2) := dk_54 4 (dk_at dksX4_readOne_2 21 rfl rfl)
theorem dX4_readOne_71 : decode cX4_readOne 71 = .ok (.aload_n 0, 1) := dk_42 (dk_at dksX4_readOne_2 23 rfl rfl)
theorem dX4_readOne_72 : decode cX4_readOne 72 = .ok (.dup, 1) := dk_89 (dk_at dksX4_readOne_3 0 rfl rfl)
theorem dX4_readOne_73 : decode cX4_readOne 73 = .ok (.getfield 120, 3) := dk_180 0 120 (dk_at dksX4_readOne_3 1 rfl rfl)
theorem dX4_readOne_76 : decode cX4_readOne 76 = .ok (.iconst 1, 1) := dk_4 (dk_at dksX4_readOne_3 4 rfl rfl)
theorem dX4_readOne_77 : decode cX4_readOne 77 = .ok (.iadd, 1) := dk_96 (dk_at dksX4_readOne_3 5 rfl rfl)
theorem dX4_readOne_78 : decode cX4_readOne 78 = .ok (.putfield 120, 3) := dk_181 0 120 (dk_at dksX4_readOne_3 6 rfl rfl)
theorem dX4_readOne_81 : decode cX4_readOne 81 = .ok (.goto (-53), 3) := dk_167 255 203 (dk_at dksX4_readOne_3 9 rfl rfl)
theorem dX4_readOne_84 : decode cX4_readOne 84 = .ok (.aload_n 0, 1) := dk_42 (dk_at dksX4_readOne_3 12 rfl rfl)
theorem dX4_readOne_85 : decode cX4_readOne 85 = .ok (.getfield 120, 3) := dk_180 0 120 (dk_at dksX4_readOne_3 13 rfl rfl)
theorem dX4_readOne_88 : decode cX4_readOne 88 = .ok (.iload_n 3, 1) := dk_29 (dk_at dksX4_readOne_3 16 rfl rfl)
theorem dX4_readOne_89 : decode cX4_readOne 89 = .ok (.if_icmp .ne 8, 3) := dk_160 0 8 (dk_at dksX4_readOne_3 17 rfl rfl)
theorem dX4_readOne_92 : decode cX4_readOne 92 = .ok (.aload_n 0, 1) := dk_42 (dk_at dksX4_readOne_3 20 rfl rfl)
theorem dX4_readOne_93 : decode cX4_readOne 93 = .ok (.invokevirtual 158, 3) := dk_182 0 158 (dk_at dksX4_readOne_3 21 rfl rfl)
theorem dX4_readOne_96 : decode cX4_readOne 96 = .ok (.ireturn, 1) := dk_172 (dk_at dksX4_readOne_4 0 rfl rfl)
theorem dX4_readOne_97 : decode cX4_readOne 97 = .ok (.iload_n 2, 1) := dk_28 (dk_at dksX4_readOne_4 1 rfl rfl)
theorem dX4_readOne_98 : decode cX4_readOne 98 = .ok (.iload 4, 2) := dk_21 4 (dk_at dksX4_readOne_4 2 rfl rfl)
theorem dX4_readOne_100 : decode cX4_readOne 100 = .ok (.invokestatic 181, 3) := dk_184 0 181 (dk_at dksX4_readOne_4 4 rfl rfl)
theorem dX4_readOne_103 : decode cX4_readOne 103 = .ok (.ifCond .ne 13, 3) := dk_154 0 13 (dk_at dksX4_readOne_4 7 rfl rfl)
theorem dX4_readOne_106 : decode cX4_readOne 106 = .ok (.aload_n 0, 1) := dk_42 (dk_at dksX4_readOne_4 10 rfl rfl)
theorem dX4_readOne_107 : decode cX4_readOne 107 = .ok (.iload_n 3, 1) := dk_29 (dk_at dksX4_readOne_4 11 rfl rfl)
theorem dX4_readOne_108 : decode cX4_readOne 108 = .ok (.putfield 120, 3) := dk_181 0 120 (dk_at dksX4_readOne_4 12 rfl rfl)
theorem dX4_readOne_111 : decode cX4_readOne 111 = .ok (.aload_n 0, 1) := dk_42 (dk_at dksX4_readOne_4 15 rfl rfl)
theorem dX4_readOne_112 : decode cX4_readOne 112 = .ok (.invokevirtual 158, 3) := dk_182 0 158 (dk_at dksX4_readOne_4 16 rfl rfl)
theorem dX4_readOne_115 : decode cX4_readOne 115 = .ok (.ireturn, 1) := dk_172 (dk_at dksX4_readOne_4 19 rfl rfl)
theorem dX4_readOne_116 : decode cX4_readOne 116 = .ok (.iload 4, 2) := dk_21 4 (dk_at dksX4_readOne_4 20 rfl rfl)
theorem dX4_readOne_118 : decode cX4_readOne 118 = .ok (.ireturn, 1) := dk_172 (dk_at dksX4_readOne_4 22 rfl rfl)
abbrev cX4_isOf : ByteArray := prog_34_method_21_code
def yX4_isOf : MethodName := ⟨RX4, "isOf", "(II)Z"⟩
def dkwX4_isOf_1 : List UInt8 := [20, 0, 177, 20, 0, 175, 184, 0, 113, 167, 0, 12, 27, 133, 10, 20, 0, 179, 184, 0, 113, 172]
abbrev dktX4_isOf_1 : List UInt8 := dkwX4_isOf_1 ++ []
def dkwX4_isOf_0 : List UInt8 := [26, 6, 162, 0, 15, 27, 133, 9, 20, 0, 175, 184, 0, 113, 167, 0, 31, 26, 6, 160, 0, 17, 27, 133]
abbrev dktX4_isOf_0 : List UInt8 := dkwX4_isOf_0 ++ dktX4_isOf_1
theorem dksX4_isOf_0 : cX4_isOf.data.toList.drop 0 = dktX4_isOf_0 := by decide +kernel
theorem dksX4_isOf_1 : cX4_isOf.data.toList.drop 24 = dktX4_isOf_1 := dk_seg dksX4_isOf_0 24 rfl rfl
theorem dX4_isOf_0 : decode cX4_isOf 0 = .ok (.iload_n 0, 1) := dk_26 (dk_at dksX4_isOf_0 0 rfl rfl)
theorem dX4_isOf_1 : decode cX4_isOf 1 = .ok (.iconst 3, 1) := dk_6 (dk_at dksX4_isOf_0 1 rfl rfl)
theorem dX4_isOf_2 : decode cX4_isOf 2 = .ok (.if_icmp .ge 15, 3) := dk_162 0 15 (dk_at dksX4_isOf_0 2 rfl rfl)
theorem dX4_isOf_5 : decode cX4_isOf 5 = .ok (.iload_n 1, 1) := dk_27 (dk_at dksX4_isOf_0 5 rfl rfl)
theorem dX4_isOf_6 : decode cX4_isOf 6 = .ok (.i2l, 1) := dk_133 (dk_at dksX4_isOf_0 6 rfl rfl)
theorem dX4_isOf_7 : decode cX4_isOf 7 = .ok (.lconst 0, 1) := dk_9 (dk_at dksX4_isOf_0 7 rfl rfl)
theorem dX4_isOf_8 : decode cX4_isOf 8 = .ok (.ldc2_w 175, 3) := dk_20 0 175 (dk_at dksX4_isOf_0 8 rfl rfl)
theorem dX4_isOf_11 : decode cX4_isOf 11 = .ok (.invokestatic 113, 3) := dk_184 0 113 (dk_at dksX4_isOf_0 11 rfl rfl)
theorem dX4_isOf_14 : decode cX4_isOf 14 = .ok (.goto 31, 3) := dk_167 0 31 (dk_at dksX4_isOf_0 14 rfl rfl)
theorem dX4_isOf_17 : decode cX4_isOf 17 = .ok (.iload_n 0, 1) := dk_26 (dk_at dksX4_isOf_0 17 rfl rfl)
theorem dX4_isOf_18 : decode cX4_isOf 18 = .ok (.iconst 3, 1) := dk_6 (dk_at dksX4_isOf_0 18 rfl rfl)
theorem dX4_isOf_19 : decode cX4_isOf 19 = .ok (.if_icmp .ne 17, 3) := dk_160 0 17 (dk_at dksX4_isOf_0 19 rfl rfl)
theorem dX4_isOf_22 : decode cX4_isOf 22 = .ok (.iload_n 1, 1) := dk_27 (dk_at dksX4_isOf_0 22 rfl rfl)
theorem dX4_isOf_23 : decode cX4_isOf 23 = .ok (.i2l, 1) := dk_133 (dk_at dksX4_isOf_0 23 rfl rfl)
theorem dX4_isOf_24 : decode cX4_isOf 24 = .ok (.ldc2_w 177, 3) := dk_20 0 177 (dk_at dksX4_isOf_1 0 rfl rfl)
theorem dX4_isOf_27 : decode cX4_isOf 27 = .ok (.ldc2_w 175, 3) := dk_20 0 175 (dk_at dksX4_isOf_1 3 rfl rfl)
theorem dX4_isOf_30 : decode cX4_isOf 30 = .ok (.invokestatic 113, 3) := dk_184 0 113 (dk_at dksX4_isOf_1 6 rfl rfl)
theorem dX4_isOf_33 : decode cX4_isOf 33 = .ok (.goto 12, 3) := dk_167 0 12 (dk_at dksX4_isOf_1 9 rfl rfl)
theorem dX4_isOf_36 : decode cX4_isOf 36 = .ok (.iload_n 1, 1) := dk_27 (dk_at dksX4_isOf_1 12 rfl rfl)
theorem dX4_isOf_37 : decode cX4_isOf 37 = .ok (.i2l, 1) := dk_133 (dk_at dksX4_isOf_1 13 rfl rfl)
theorem dX4_isOf_38 : decode cX4_isOf 38 = .ok (.lconst 1, 1) := dk_10 (dk_at dksX4_isOf_1 14 rfl rfl)
theorem dX4_isOf_39 : decode cX4_isOf 39 = .ok (.ldc2_w 179, 3) := dk_20 0 179 (dk_at dksX4_isOf_1 15 rfl rfl)
theorem dX4_isOf_42 : decode cX4_isOf 42 = .ok (.invokestatic 113, 3) := dk_184 0 113 (dk_at dksX4_isOf_1 18 rfl rfl)
theorem dX4_isOf_45 : decode cX4_isOf 45 = .ok (.ireturn, 1) := dk_172 (dk_at dksX4_isOf_1 21 rfl rfl)
abbrev cX4_of : ByteArray := prog_34_method_24_code
def yX4_of : MethodName := ⟨RX4, "of", "(II)I"⟩
def dkwX4_of_2 : List UInt8 := [167, 0, 4, 2, 172]
abbrev dktX4_of_2 : List UInt8 := dkwX4_of_2 ++ []
def dkwX4_of_1 : List UInt8 := [180, 0, 9, 8, 27, 104, 28, 96, 46, 167, 0, 17, 28, 8, 160, 0, 11, 42, 27, 182, 0, 191]
abbrev dktX4_of_1 : List UInt8 := dkwX4_of_1 ++ dktX4_of_2
def dkwX4_of_0 : List UInt8 := [42, 27, 182, 0, 188, 154, 0, 5, 2, 172, 28, 133, 9, 20, 0, 111, 184, 0, 113, 153, 0, 16, 42]
abbrev dktX4_of_0 : List UInt8 := dkwX4_of_0 ++ dktX4_of_1
theorem dksX4_of_0 : cX4_of.data.toList.drop 0 = dktX4_of_0 := by decide +kernel
theorem dksX4_of_1 : cX4_of.data.toList.drop 23 = dktX4_of_1 := dk_seg dksX4_of_0 23 rfl rfl
theorem dksX4_of_2 : cX4_of.data.toList.drop 45 = dktX4_of_2 := dk_seg dksX4_of_1 22 rfl rfl
theorem dX4_of_0 : decode cX4_of 0 = .ok (.aload_n 0, 1) := dk_42 (dk_at dksX4_of_0 0 rfl rfl)
theorem dX4_of_1 : decode cX4_of 1 = .ok (.iload_n 1, 1) := dk_27 (dk_at dksX4_of_0 1 rfl rfl)
theorem dX4_of_2 : decode cX4_of 2 = .ok (.invokevirtual 188, 3) := dk_182 0 188 (dk_at dksX4_of_0 2 rfl rfl)
theorem dX4_of_5 : decode cX4_of 5 = .ok (.ifCond .ne 5, 3) := dk_154 0 5 (dk_at dksX4_of_0 5 rfl rfl)
theorem dX4_of_8 : decode cX4_of 8 = .ok (.iconst (-1), 1) := dk_2 (dk_at dksX4_of_0 8 rfl rfl)
theorem dX4_of_9 : decode cX4_of 9 = .ok (.ireturn, 1) := dk_172 (dk_at dksX4_of_0 9 rfl rfl)
theorem dX4_of_10 : decode cX4_of 10 = .ok (.iload_n 2, 1) := dk_28 (dk_at dksX4_of_0 10 rfl rfl)
theorem dX4_of_11 : decode cX4_of 11 = .ok (.i2l, 1) := dk_133 (dk_at dksX4_of_0 11 rfl rfl)
theorem dX4_of_12 : decode cX4_of 12 = .ok (.lconst 0, 1) := dk_9 (dk_at dksX4_of_0 12 rfl rfl)
theorem dX4_of_13 : decode cX4_of 13 = .ok (.ldc2_w 111, 3) := dk_20 0 111 (dk_at dksX4_of_0 13 rfl rfl)
theorem dX4_of_16 : decode cX4_of 16 = .ok (.invokestatic 113, 3) := dk_184 0 113 (dk_at dksX4_of_0 16 rfl rfl)
theorem dX4_of_19 : decode cX4_of 19 = .ok (.ifCond .eq 16, 3) := dk_153 0 16 (dk_at dksX4_of_0 19 rfl rfl)
theorem dX4_of_22 : decode cX4_of 22 = .ok (.aload_n 0, 1) := dk_42 (dk_at dksX4_of_0 22 rfl rfl)
theorem dX4_of_23 : decode cX4_of 23 = .ok (.getfield 9, 3) := dk_180 0 9 (dk_at dksX4_of_1 0 rfl rfl)
theorem dX4_of_26 : decode cX4_of 26 = .ok (.iconst 5, 1) := dk_8 (dk_at dksX4_of_1 3 rfl rfl)
theorem dX4_of_27 : decode cX4_of 27 = .ok (.iload_n 1, 1) := dk_27 (dk_at dksX4_of_1 4 rfl rfl)
theorem dX4_of_28 : decode cX4_of 28 = .ok (.imul, 1) := dk_104 (dk_at dksX4_of_1 5 rfl rfl)
theorem dX4_of_29 : decode cX4_of 29 = .ok (.iload_n 2, 1) := dk_28 (dk_at dksX4_of_1 6 rfl rfl)
theorem dX4_of_30 : decode cX4_of 30 = .ok (.iadd, 1) := dk_96 (dk_at dksX4_of_1 7 rfl rfl)
theorem dX4_of_31 : decode cX4_of 31 = .ok (.iaload, 1) := dk_46 (dk_at dksX4_of_1 8 rfl rfl)
theorem dX4_of_32 : decode cX4_of 32 = .ok (.goto 17, 3) := dk_167 0 17 (dk_at dksX4_of_1 9 rfl rfl)
theorem dX4_of_35 : decode cX4_of 35 = .ok (.iload_n 2, 1) := dk_28 (dk_at dksX4_of_1 12 rfl rfl)
theorem dX4_of_36 : decode cX4_of 36 = .ok (.iconst 5, 1) := dk_8 (dk_at dksX4_of_1 13 rfl rfl)
theorem dX4_of_37 : decode cX4_of 37 = .ok (.if_icmp .ne 11, 3) := dk_160 0 11 (dk_at dksX4_of_1 14 rfl rfl)
theorem dX4_of_40 : decode cX4_of 40 = .ok (.aload_n 0, 1) := dk_42 (dk_at dksX4_of_1 17 rfl rfl)
theorem dX4_of_41 : decode cX4_of 41 = .ok (.iload_n 1, 1) := dk_27 (dk_at dksX4_of_1 18 rfl rfl)
theorem dX4_of_42 : decode cX4_of 42 = .ok (.invokevirtual 191, 3) := dk_182 0 191 (dk_at dksX4_of_1 19 rfl rfl)
theorem dX4_of_45 : decode cX4_of 45 = .ok (.goto 4, 3) := dk_167 0 4 (dk_at dksX4_of_2 0 rfl rfl)
theorem dX4_of_48 : decode cX4_of 48 = .ok (.iconst (-1), 1) := dk_2 (dk_at dksX4_of_2 3 rfl rfl)
theorem dX4_of_49 : decode cX4_of 49 = .ok (.ireturn, 1) := dk_172 (dk_at dksX4_of_2 4 rfl rfl)
abbrev cX4_isHead : ByteArray := prog_34_method_20_code
def yX4_isHead : MethodName := ⟨RX4, "isHead", "(I)Z"⟩
def dkwX4_isHead_0 : List UInt8 := [27, 133, 9, 42, 180, 0, 172, 4, 100, 133, 184, 0, 113, 172]
abbrev dktX4_isHead_0 : List UInt8 := dkwX4_isHead_0 ++ []
theorem dksX4_isHead_0 : cX4_isHead.data.toList.drop 0 = dktX4_isHead_0 := by decide +kernel
theorem dX4_isHead_0 : decode cX4_isHead 0 = .ok (.iload_n 1, 1) := dk_27 (dk_at dksX4_isHead_0 0 rfl rfl)
theorem dX4_isHead_1 : decode cX4_isHead 1 = .ok (.i2l, 1) := dk_133 (dk_at dksX4_isHead_0 1 rfl rfl)
theorem dX4_isHead_2 : decode cX4_isHead 2 = .ok (.lconst 0, 1) := dk_9 (dk_at dksX4_isHead_0 2 rfl rfl)
theorem dX4_isHead_3 : decode cX4_isHead 3 = .ok (.aload_n 0, 1) := dk_42 (dk_at dksX4_isHead_0 3 rfl rfl)
theorem dX4_isHead_4 : decode cX4_isHead 4 = .ok (.getfield 172, 3) := dk_180 0 172 (dk_at dksX4_isHead_0 4 rfl rfl)
theorem dX4_isHead_7 : decode cX4_isHead 7 = .ok (.iconst 1, 1) := dk_4 (dk_at dksX4_isHead_0 7 rfl rfl)
theorem dX4_isHead_8 : decode cX4_isHead 8 = .ok (.isub, 1) := dk_100 (dk_at dksX4_isHead_0 8 rfl rfl)
theorem dX4_isHead_9 : decode cX4_isHead 9 = .ok (.i2l, 1) := dk_133 (dk_at dksX4_isHead_0 9 rfl rfl)
theorem dX4_isHead_10 : decode cX4_isHead 10 = .ok (.invokestatic 113, 3) := dk_184 0 113 (dk_at dksX4_isHead_0 10 rfl rfl)
theorem dX4_isHead_13 : decode cX4_isHead 13 = .ok (.ireturn, 1) := dk_172 (dk_at dksX4_isHead_0 13 rfl rfl)
abbrev cX4_learntOf : ByteArray := prog_34_method_31_code
def yX4_learntOf : MethodName := ⟨RX4, "learntOf", "(I)I"⟩
def dkwX4_learntOf_1 : List UInt8 := [96, 46, 6, 161, 0, 7, 4, 167, 0, 4, 3, 96, 61, 132, 3, 1, 167, 255, 220, 28, 172]
abbrev dktX4_learntOf_1 : List UInt8 := dkwX4_learntOf_1 ++ []
def dkwX4_learntOf_0 : List UInt8 := [3, 61, 3, 62, 29, 42, 180, 0, 34, 27, 46, 162, 0, 32, 28, 42, 180, 0, 40, 16, 60, 27, 104, 29]
abbrev dktX4_learntOf_0 : List UInt8 := dkwX4_learntOf_0 ++ dktX4_learntOf_1
theorem dksX4_learntOf_0 : cX4_learntOf.data.toList.drop 0 = dktX4_learntOf_0 := by decide +kernel
theorem dksX4_learntOf_1 : cX4_learntOf.data.toList.drop 24 = dktX4_learntOf_1 := dk_seg dksX4_learntOf_0 24 rfl rfl
theorem dX4_learntOf_0 : decode cX4_learntOf 0 = .ok (.iconst 0, 1) := dk_3 (dk_at dksX4_learntOf_0 0 rfl rfl)
theorem dX4_learntOf_1 : decode cX4_learntOf 1 = .ok (.istore_n 2, 1) := dk_61 (dk_at dksX4_learntOf_0 1 rfl rfl)
theorem dX4_learntOf_2 : decode cX4_learntOf 2 = .ok (.iconst 0, 1) := dk_3 (dk_at dksX4_learntOf_0 2 rfl rfl)
theorem dX4_learntOf_3 : decode cX4_learntOf 3 = .ok (.istore_n 3, 1) := dk_62 (dk_at dksX4_learntOf_0 3 rfl rfl)
theorem dX4_learntOf_4 : decode cX4_learntOf 4 = .ok (.iload_n 3, 1) := dk_29 (dk_at dksX4_learntOf_0 4 rfl rfl)
theorem dX4_learntOf_5 : decode cX4_learntOf 5 = .ok (.aload_n 0, 1) := dk_42 (dk_at dksX4_learntOf_0 5 rfl rfl)
theorem dX4_learntOf_6 : decode cX4_learntOf 6 = .ok (.getfield 34, 3) := dk_180 0 34 (dk_at dksX4_learntOf_0 6 rfl rfl)
theorem dX4_learntOf_9 : decode cX4_learntOf 9 = .ok (.iload_n 1, 1) := dk_27 (dk_at dksX4_learntOf_0 9 rfl rfl)
theorem dX4_learntOf_10 : decode cX4_learntOf 10 = .ok (.iaload, 1) := dk_46 (dk_at dksX4_learntOf_0 10 rfl rfl)
theorem dX4_learntOf_11 : decode cX4_learntOf 11 = .ok (.if_icmp .ge 32, 3) := dk_162 0 32 (dk_at dksX4_learntOf_0 11 rfl rfl)
theorem dX4_learntOf_14 : decode cX4_learntOf 14 = .ok (.iload_n 2, 1) := dk_28 (dk_at dksX4_learntOf_0 14 rfl rfl)
theorem dX4_learntOf_15 : decode cX4_learntOf 15 = .ok (.aload_n 0, 1) := dk_42 (dk_at dksX4_learntOf_0 15 rfl rfl)
theorem dX4_learntOf_16 : decode cX4_learntOf 16 = .ok (.getfield 40, 3) := dk_180 0 40 (dk_at dksX4_learntOf_0 16 rfl rfl)
theorem dX4_learntOf_19 : decode cX4_learntOf 19 = .ok (.bipush 60, 2) := dk_16 60 (dk_at dksX4_learntOf_0 19 rfl rfl)
theorem dX4_learntOf_21 : decode cX4_learntOf 21 = .ok (.iload_n 1, 1) := dk_27 (dk_at dksX4_learntOf_0 21 rfl rfl)
theorem dX4_learntOf_22 : decode cX4_learntOf 22 = .ok (.imul, 1) := dk_104 (dk_at dksX4_learntOf_0 22 rfl rfl)
theorem dX4_learntOf_23 : decode cX4_learntOf 23 = .ok (.iload_n 3, 1) := dk_29 (dk_at dksX4_learntOf_0 23 rfl rfl)
theorem dX4_learntOf_24 : decode cX4_learntOf 24 = .ok (.iadd, 1) := dk_96 (dk_at dksX4_learntOf_1 0 rfl rfl)
theorem dX4_learntOf_25 : decode cX4_learntOf 25 = .ok (.iaload, 1) := dk_46 (dk_at dksX4_learntOf_1 1 rfl rfl)
theorem dX4_learntOf_26 : decode cX4_learntOf 26 = .ok (.iconst 3, 1) := dk_6 (dk_at dksX4_learntOf_1 2 rfl rfl)
theorem dX4_learntOf_27 : decode cX4_learntOf 27 = .ok (.if_icmp .lt 7, 3) := dk_161 0 7 (dk_at dksX4_learntOf_1 3 rfl rfl)
theorem dX4_learntOf_30 : decode cX4_learntOf 30 = .ok (.iconst 1, 1) := dk_4 (dk_at dksX4_learntOf_1 6 rfl rfl)
theorem dX4_learntOf_31 : decode cX4_learntOf 31 = .ok (.goto 4, 3) := dk_167 0 4 (dk_at dksX4_learntOf_1 7 rfl rfl)
theorem dX4_learntOf_34 : decode cX4_learntOf 34 = .ok (.iconst 0, 1) := dk_3 (dk_at dksX4_learntOf_1 10 rfl rfl)
theorem dX4_learntOf_35 : decode cX4_learntOf 35 = .ok (.iadd, 1) := dk_96 (dk_at dksX4_learntOf_1 11 rfl rfl)
theorem dX4_learntOf_36 : decode cX4_learntOf 36 = .ok (.istore_n 2, 1) := dk_61 (dk_at dksX4_learntOf_1 12 rfl rfl)
theorem dX4_learntOf_37 : decode cX4_learntOf 37 = .ok (.iinc 3 1, 3) := dk_132 3 1 (dk_at dksX4_learntOf_1 13 rfl rfl)
theorem dX4_learntOf_40 : decode cX4_learntOf 40 = .ok (.goto (-36), 3) := dk_167 255 220 (dk_at dksX4_learntOf_1 16 rfl rfl)
theorem dX4_learntOf_43 : decode cX4_learntOf 43 = .ok (.iload_n 2, 1) := dk_28 (dk_at dksX4_learntOf_1 19 rfl rfl)
theorem dX4_learntOf_44 : decode cX4_learntOf 44 = .ok (.ireturn, 1) := dk_172 (dk_at dksX4_learntOf_1 20 rfl rfl)
abbrev cX4_turn : ByteArray := prog_34_method_25_code
def yX4_turn : MethodName := ⟨RX4, "turn", "(III)I"⟩
def dkwX4_turn_1 : List UInt8 := [184, 0, 181, 153, 0, 16, 42, 8, 27, 104, 28, 96, 29, 182, 0, 194, 167, 0, 4, 2, 172]
abbrev dktX4_turn_1 : List UInt8 := dkwX4_turn_1 ++ []
def dkwX4_turn_0 : List UInt8 := [42, 27, 182, 0, 188, 153, 0, 36, 28, 133, 9, 20, 0, 111, 184, 0, 113, 153, 0, 24, 28, 29]
abbrev dktX4_turn_0 : List UInt8 := dkwX4_turn_0 ++ dktX4_turn_1
theorem dksX4_turn_0 : cX4_turn.data.toList.drop 0 = dktX4_turn_0 := by decide +kernel
theorem dksX4_turn_1 : cX4_turn.data.toList.drop 22 = dktX4_turn_1 := dk_seg dksX4_turn_0 22 rfl rfl
theorem dX4_turn_0 : decode cX4_turn 0 = .ok (.aload_n 0, 1) := dk_42 (dk_at dksX4_turn_0 0 rfl rfl)
theorem dX4_turn_1 : decode cX4_turn 1 = .ok (.iload_n 1, 1) := dk_27 (dk_at dksX4_turn_0 1 rfl rfl)
theorem dX4_turn_2 : decode cX4_turn 2 = .ok (.invokevirtual 188, 3) := dk_182 0 188 (dk_at dksX4_turn_0 2 rfl rfl)
theorem dX4_turn_5 : decode cX4_turn 5 = .ok (.ifCond .eq 36, 3) := dk_153 0 36 (dk_at dksX4_turn_0 5 rfl rfl)
theorem dX4_turn_8 : decode cX4_turn 8 = .ok (.iload_n 2, 1) := dk_28 (dk_at dksX4_turn_0 8 rfl rfl)
theorem dX4_turn_9 : decode cX4_turn 9 = .ok (.i2l, 1) := dk_133 (dk_at dksX4_turn_0 9 rfl rfl)
theorem dX4_turn_10 : decode cX4_turn 10 = .ok (.lconst 0, 1) := dk_9 (dk_at dksX4_turn_0 10 rfl rfl)
theorem dX4_turn_11 : decode cX4_turn 11 = .ok (.ldc2_w 111, 3) := dk_20 0 111 (dk_at dksX4_turn_0 11 rfl rfl)
theorem dX4_turn_14 : decode cX4_turn 14 = .ok (.invokestatic 113, 3) := dk_184 0 113 (dk_at dksX4_turn_0 14 rfl rfl)
theorem dX4_turn_17 : decode cX4_turn 17 = .ok (.ifCond .eq 24, 3) := dk_153 0 24 (dk_at dksX4_turn_0 17 rfl rfl)
theorem dX4_turn_20 : decode cX4_turn 20 = .ok (.iload_n 2, 1) := dk_28 (dk_at dksX4_turn_0 20 rfl rfl)
theorem dX4_turn_21 : decode cX4_turn 21 = .ok (.iload_n 3, 1) := dk_29 (dk_at dksX4_turn_0 21 rfl rfl)
theorem dX4_turn_22 : decode cX4_turn 22 = .ok (.invokestatic 181, 3) := dk_184 0 181 (dk_at dksX4_turn_1 0 rfl rfl)
theorem dX4_turn_25 : decode cX4_turn 25 = .ok (.ifCond .eq 16, 3) := dk_153 0 16 (dk_at dksX4_turn_1 3 rfl rfl)
theorem dX4_turn_28 : decode cX4_turn 28 = .ok (.aload_n 0, 1) := dk_42 (dk_at dksX4_turn_1 6 rfl rfl)
theorem dX4_turn_29 : decode cX4_turn 29 = .ok (.iconst 5, 1) := dk_8 (dk_at dksX4_turn_1 7 rfl rfl)
theorem dX4_turn_30 : decode cX4_turn 30 = .ok (.iload_n 1, 1) := dk_27 (dk_at dksX4_turn_1 8 rfl rfl)
theorem dX4_turn_31 : decode cX4_turn 31 = .ok (.imul, 1) := dk_104 (dk_at dksX4_turn_1 9 rfl rfl)
theorem dX4_turn_32 : decode cX4_turn 32 = .ok (.iload_n 2, 1) := dk_28 (dk_at dksX4_turn_1 10 rfl rfl)
theorem dX4_turn_33 : decode cX4_turn 33 = .ok (.iadd, 1) := dk_96 (dk_at dksX4_turn_1 11 rfl rfl)
theorem dX4_turn_34 : decode cX4_turn 34 = .ok (.iload_n 3, 1) := dk_29 (dk_at dksX4_turn_1 12 rfl rfl)
theorem dX4_turn_35 : decode cX4_turn 35 = .ok (.invokevirtual 194, 3) := dk_182 0 194 (dk_at dksX4_turn_1 13 rfl rfl)
theorem dX4_turn_38 : decode cX4_turn 38 = .ok (.goto 4, 3) := dk_167 0 4 (dk_at dksX4_turn_1 16 rfl rfl)
theorem dX4_turn_41 : decode cX4_turn 41 = .ok (.iconst (-1), 1) := dk_2 (dk_at dksX4_turn_1 19 rfl rfl)
theorem dX4_turn_42 : decode cX4_turn 42 = .ok (.ireturn, 1) := dk_172 (dk_at dksX4_turn_1 20 rfl rfl)
abbrev cX4_becomes : ByteArray := prog_34_method_4_code
def yX4_becomes : MethodName := ⟨RX4, "becomes", "(II)I"⟩
def dkwX4_becomes_6 : List UInt8 := [181, 0, 108, 42, 180, 0, 9, 27, 28, 79, 29, 172]
abbrev dktX4_becomes_6 : List UInt8 := dkwX4_becomes_6 ++ []
def dkwX4_becomes_5 : List UInt8 := [180, 0, 19, 42, 180, 0, 105, 28, 79, 42, 89, 180, 0, 105, 4, 96, 181, 0, 105, 42, 42, 180, 0, 105]
abbrev dktX4_becomes_5 : List UInt8 := dkwX4_becomes_5 ++ dktX4_becomes_6
def dkwX4_becomes_4 : List UInt8 := [181, 0, 105, 42, 180, 0, 13, 42, 180, 0, 105, 27, 79, 42, 180, 0, 16, 42, 180, 0, 105, 29, 79, 42]
abbrev dktX4_becomes_4 : List UInt8 := dkwX4_becomes_4 ++ dktX4_becomes_5
def dkwX4_becomes_3 : List UInt8 := [100, 42, 180, 0, 19, 21, 4, 46, 79, 132, 4, 1, 167, 255, 198, 42, 89, 180, 0, 105, 4, 100]
abbrev dktX4_becomes_3 : List UInt8 := dkwX4_becomes_3 ++ dktX4_becomes_4
def dkwX4_becomes_2 : List UInt8 := [79, 42, 180, 0, 16, 21, 4, 4, 100, 42, 180, 0, 16, 21, 4, 46, 79, 42, 180, 0, 19, 21, 4, 4]
abbrev dktX4_becomes_2 : List UInt8 := dkwX4_becomes_2 ++ dktX4_becomes_3
def dkwX4_becomes_1 : List UInt8 := [54, 4, 21, 4, 16, 40, 162, 0, 57, 42, 180, 0, 13, 21, 4, 4, 100, 42, 180, 0, 13, 21, 4, 46]
abbrev dktX4_becomes_1 : List UInt8 := dkwX4_becomes_1 ++ dktX4_becomes_2
def dkwX4_becomes_0 : List UInt8 := [42, 180, 0, 9, 27, 46, 62, 29, 28, 160, 0, 5, 29, 172, 42, 180, 0, 105, 16, 40, 160, 0, 77, 4]
abbrev dktX4_becomes_0 : List UInt8 := dkwX4_becomes_0 ++ dktX4_becomes_1
theorem dksX4_becomes_0 : cX4_becomes.data.toList.drop 0 = dktX4_becomes_0 := by decide +kernel
theorem dksX4_becomes_1 : cX4_becomes.data.toList.drop 24 = dktX4_becomes_1 := dk_seg dksX4_becomes_0 24 rfl rfl
theorem dksX4_becomes_2 : cX4_becomes.data.toList.drop 48 = dktX4_becomes_2 := dk_seg dksX4_becomes_1 24 rfl rfl
theorem dksX4_becomes_3 : cX4_becomes.data.toList.drop 72 = dktX4_becomes_3 := dk_seg dksX4_becomes_2 24 rfl rfl
theorem dksX4_becomes_4 : cX4_becomes.data.toList.drop 94 = dktX4_becomes_4 := dk_seg dksX4_becomes_3 22 rfl rfl
theorem dksX4_becomes_5 : cX4_becomes.data.toList.drop 118 = dktX4_becomes_5 := dk_seg dksX4_becomes_4 24 rfl rfl
theorem dksX4_becomes_6 : cX4_becomes.data.toList.drop 142 = dktX4_becomes_6 := dk_seg dksX4_becomes_5 24 rfl rfl
theorem dX4_becomes_0 : decode cX4_becomes 0 = .ok (.aload_n 0, 1) := dk_42 (dk_at dksX4_becomes_0 0 rfl rfl)
theorem dX4_becomes_1 : decode cX4_becomes 1 = .ok (.getfield 9, 3) := dk_180 0 9 (dk_at dksX4_becomes_0 1 rfl rfl)
theorem dX4_becomes_4 : decode cX4_becomes 4 = .ok (.iload_n 1, 1) := dk_27 (dk_at dksX4_becomes_0 4 rfl rfl)
theorem dX4_becomes_5 : decode cX4_becomes 5 = .ok (.iaload, 1) := dk_46 (dk_at dksX4_becomes_0 5 rfl rfl)
theorem dX4_becomes_6 : decode cX4_becomes 6 = .ok (.istore_n 3, 1) := dk_62 (dk_at dksX4_becomes_0 6 rfl rfl)
theorem dX4_becomes_7 : decode cX4_becomes 7 = .ok (.iload_n 3, 1) := dk_29 (dk_at dksX4_becomes_0 7 rfl rfl)
theorem dX4_becomes_8 : decode cX4_becomes 8 = .ok (.iload_n 2, 1) := dk_28 (dk_at dksX4_becomes_0 8 rfl rfl)
theorem dX4_becomes_9 : decode cX4_becomes 9 = .ok (.if_icmp .ne 5, 3) := dk_160 0 5 (dk_at dksX4_becomes_0 9 rfl rfl)
theorem dX4_becomes_12 : decode cX4_becomes 12 = .ok (.iload_n 3, 1) := dk_29 (dk_at dksX4_becomes_0 12 rfl rfl)
theorem dX4_becomes_13 : decode cX4_becomes 13 = .ok (.ireturn, 1) := dk_172 (dk_at dksX4_becomes_0 13 rfl rfl)
theorem dX4_becomes_14 : decode cX4_becomes 14 = .ok (.aload_n 0, 1) := dk_42 (dk_at dksX4_becomes_0 14 rfl rfl)
theorem dX4_becomes_15 : decode cX4_becomes 15 = .ok (.getfield 105, 3) := dk_180 0 105 (dk_at dksX4_becomes_0 15 rfl rfl)
theorem dX4_becomes_18 : decode cX4_becomes 18 = .ok (.bipush 40, 2) := dk_16 40 (dk_at dksX4_becomes_0 18 rfl rfl)
theorem dX4_becomes_20 : decode cX4_becomes 20 = .ok (.if_icmp .ne 77, 3) := dk_160 0 77 (dk_at dksX4_becomes_0 20 rfl rfl)
theorem dX4_becomes_23 : decode cX4_becomes 23 = .ok (.iconst 1, 1) := dk_4 (dk_at dksX4_becomes_0 23 rfl rfl)
theorem dX4_becomes_24 : decode cX4_becomes 24 = .ok (.istore 4, 2) := dk_54 4 (dk_at dksX4_becomes_1 0 rfl rfl)
theorem dX4_becomes_26 : decode cX4_becomes 26 = .ok (.iload 4, 2) := dk_21 4 (dk_at dksX4_becomes_1 2 rfl rfl)
theorem dX4_becomes_28 : decode cX4_becomes 28 = .ok (.bipush 40, 2) := dk_16 40 (dk_at dksX4_becomes_1 4 rfl rfl)
theorem dX4_becomes_30 : decode cX4_becomes 30 = .ok (.if_icmp .ge 57, 3) := dk_162 0 57 (dk_at dksX4_becomes_1 6 rfl rfl)
theorem dX4_becomes_33 : decode cX4_becomes 33 = .ok (.aload_n 0, 1) := dk_42 (dk_at dksX4_becomes_1 9 rfl rfl)
theorem dX4_becomes_34 : decode cX4_becomes 34 = .ok (.getfield 13, 3) := dk_180 0 13 (dk_at dksX4_becomes_1 10 rfl rfl)
theorem dX4_becomes_37 : decode cX4_becomes 37 = .ok (.iload 4, 2) := dk_21 4 (dk_at dksX4_becomes_1 13 rfl rfl)
theorem dX4_becomes_39 : decode cX4_becomes 39 = .ok (.iconst 1, 1) := dk_4 (dk_at dksX4_becomes_1 15 rfl rfl)
theorem dX4_becomes_40 : decode cX4_becomes 40 = .ok (.isub, 1) := dk_100 (dk_at dksX4_becomes_1 16 rfl rfl)
theorem dX4_becomes_41 : decode cX4_becomes 41 = .ok (.aload_n 0, 1) := dk_42 (dk_at dksX4_becomes_1 17 rfl rfl)
theorem dX4_becomes_42 : decode cX4_becomes 42 = .ok (.getfield 13, 3) := dk_180 0 13 (dk_at dksX4_becomes_1 18 rfl rfl)
theorem dX4_becomes_45 : decode cX4_becomes 45 = .ok (.iload 4, 2) := dk_21 4 (dk_at dksX4_becomes_1 21 rfl rfl)
theorem dX4_becomes_47 : decode cX4_becomes 47 = .ok (.iaload, 1) := dk_46 (dk_at dksX4_becomes_1 23 rfl rfl)
theorem dX4_becomes_48 : decode cX4_becomes 48 = .ok (.iastore, 1) := dk_79 (dk_at dksX4_becomes_2 0 rfl rfl)
theorem dX4_becomes_49 : decode cX4_becomes 49 = .ok (.aload_n 0, 1) := dk_42 (dk_at dksX4_becomes_2 1 rfl rfl)
theorem dX4_becomes_50 : decode cX4_becomes 50 = .ok (.getfield 16, 3) := dk_180 0 16 (dk_at dksX4_becomes_2 2 rfl rfl)
theorem dX4_becomes_53 : decode cX4_becomes 53 = .ok (.iload 4, 2) := dk_21 4 (dk_at dksX4_becomes_2 5 rfl rfl)
theorem dX4_becomes_55 : decode cX4_becomes 55 = .ok (.iconst 1, 1) := dk_4 (dk_at dksX4_becomes_2 7 rfl rfl)
theorem dX4_becomes_56 : decode cX4_becomes 56 = .ok (.isub, 1) := dk_100 (dk_at dksX4_becomes_2 8 rfl rfl)
theorem dX4_becomes_57 : decode cX4_becomes 57 = .ok (.aload_n 0, 1) := dk_42 (dk_at dksX4_becomes_2 9 rfl rfl)
theorem dX4_becomes_58 : decode cX4_becomes 58 = .ok (.getfield 16, 3) := dk_180 0 16 (dk_at dksX4_becomes_2 10 rfl rfl)
theorem dX4_becomes_61 : decode cX4_becomes 61 = .ok (.iload 4, 2) := dk_21 4 (dk_at dksX4_becomes_2 13 rfl rfl)
theorem dX4_becomes_63 : decode cX4_becomes 63 = .ok (.iaload, 1) := dk_46 (dk_at dksX4_becomes_2 15 rfl rfl)
theorem dX4_becomes_64 : decode cX4_becomes 64 = .ok (.iastore, 1) := dk_79 (dk_at dksX4_becomes_2 16 rfl rfl)
theorem dX4_becomes_65 : decode cX4_becomes 65 = .ok (.aload_n 0, 1) := dk_42 (dk_at dksX4_becomes_2 17 rfl rfl)
theorem dX4_becomes_66 : decode cX4_becomes 66 = .ok (.getfield 19, 3) := dk_180 0 19 (dk_at dksX4_becomes_2 18 rfl rfl)
theorem dX4_becomes_69 : decode cX4_becomes 69 = .ok (.iload 4, 2) := dk_21 4 (dk_at dksX4_becomes_2 21 rfl rfl)
theorem dX4_becomes_71 : decode cX4_becomes 71 = .ok (.iconst 1, 1) := dk_4 (dk_at dksX4_becomes_2 23 rfl rfl)
theorem dX4_becomes_72 : decode cX4_becomes 72 = .ok (.isub, 1) := dk_100 (dk_at dksX4_becomes_3 0 rfl rfl)
theorem dX4_becomes_73 : decode cX4_becomes 73 = .ok (.aload_n 0, 1) := dk_42 (dk_at dksX4_becomes_3 1 rfl rfl)
theorem dX4_becomes_74 : decode cX4_becomes 74 = .ok (.getfield 19, 3) := dk_180 0 19 (dk_at dksX4_becomes_3 2 rfl rfl)
theorem dX4_becomes_77 : decode cX4_becomes 77 = .ok (.iload 4, 2) := dk_21 4 (dk_at dksX4_becomes_3 5 rfl rfl)
theorem dX4_becomes_79 : decode cX4_becomes 79 = .ok (.iaload, 1) := dk_46 (dk_at dksX4_becomes_3 7 rfl rfl)
theorem dX4_becomes_80 : decode cX4_becomes 80 = .ok (.iastore, 1) := dk_79 (dk_at dksX4_becomes_3 8 rfl rfl)
theorem dX4_becomes_81 : decode cX4_becomes 81 = .ok (.iinc 4 1, 3) := dk_132 4 1 (dk_at dksX4_becomes_3 9 rfl rfl)
theorem dX4_becomes_84 : decode cX4_becomes 84 = .ok (.goto (-58), 3) := dk_167 255 198 (dk_at dksX4_becomes_3 12 rfl rfl)
theorem dX4_becomes_87 : decode cX4_becomes 87 = .ok (.aload_n 0, 1) := dk_42 (dk_at dksX4_becomes_3 15 rfl rfl)
theorem dX4_becomes_88 : decode cX4_becomes 88 = .ok (.dup, 1) := dk_89 (dk_at dksX4_becomes_3 16 rfl rfl)
theorem dX4_becomes_89 : decode cX4_becomes 89 = .ok (.getfield 105, 3) := dk_180 0 105 (dk_at dksX4_becomes_3 17 rfl rfl)
theorem dX4_becomes_92 : decode cX4_becomes 92 = .ok (.iconst 1, 1) := dk_4 (dk_at dksX4_becomes_3 20 rfl rfl)
theorem dX4_becomes_93 : decode cX4_becomes 93 = .ok (.isub, 1) := dk_100 (dk_at dksX4_becomes_3 21 rfl rfl)
theorem dX4_becomes_94 : decode cX4_becomes 94 = .ok (.putfield 105, 3) := dk_181 0 105 (dk_at dksX4_becomes_4 0 rfl rfl)
theorem dX4_becomes_97 : decode cX4_becomes 97 = .ok (.aload_n 0, 1) := dk_42 (dk_at dksX4_becomes_4 3 rfl rfl)
theorem dX4_becomes_98 : decode cX4_becomes 98 = .ok (.getfield 13, 3) := dk_180 0 13 (dk_at dksX4_becomes_4 4 rfl rfl)
theorem dX4_becomes_101 : decode cX4_becomes 101 = .ok (.aload_n 0, 1) := dk_42 (dk_at dksX4_becomes_4 7 rfl rfl)
theorem dX4_becomes_102 : decode cX4_becomes 102 = .ok (.getfield 105, 3) := dk_180 0 105 (dk_at dksX4_becomes_4 8 rfl rfl)
theorem dX4_becomes_105 : decode cX4_becomes 105 = .ok (.iload_n 1, 1) := dk_27 (dk_at dksX4_becomes_4 11 rfl rfl)
theorem dX4_becomes_106 : decode cX4_becomes 106 = .ok (.iastore, 1) := dk_79 (dk_at dksX4_becomes_4 12 rfl rfl)
theorem dX4_becomes_107 : decode cX4_becomes 107 = .ok (.aload_n 0, 1) := dk_42 (dk_at dksX4_becomes_4 13 rfl rfl)
theorem dX4_becomes_108 : decode cX4_becomes 108 = .ok (.getfield 16, 3) := dk_180 0 16 (dk_at dksX4_becomes_4 14 rfl rfl)
theorem dX4_becomes_111 : decode cX4_becomes 111 = .ok (.aload_n 0, 1) := dk_42 (dk_at dksX4_becomes_4 17 rfl rfl)
theorem dX4_becomes_112 : decode cX4_becomes 112 = .ok (.getfield 105, 3) := dk_180 0 105 (dk_at dksX4_becomes_4 18 rfl rfl)
theorem dX4_becomes_115 : decode cX4_becomes 115 = .ok (.iload_n 3, 1) := dk_29 (dk_at dksX4_becomes_4 21 rfl rfl)
theorem dX4_becomes_116 : decode cX4_becomes 116 = .ok (.iastore, 1) := dk_79 (dk_at dksX4_becomes_4 22 rfl rfl)
theorem dX4_becomes_117 : decode cX4_becomes 117 = .ok (.aload_n 0, 1) := dk_42 (dk_at dksX4_becomes_4 23 rfl rfl)
theorem dX4_becomes_118 : decode cX4_becomes 118 = .ok (.getfield 19, 3) := dk_180 0 19 (dk_at dksX4_becomes_5 0 rfl rfl)
theorem dX4_becomes_121 : decode cX4_becomes 121 = .ok (.aload_n 0, 1) := dk_42 (dk_at dksX4_becomes_5 3 rfl rfl)
theorem dX4_becomes_122 : decode cX4_becomes 122 = .ok (.getfield 105, 3) := dk_180 0 105 (dk_at dksX4_becomes_5 4 rfl rfl)
theorem dX4_becomes_125 : decode cX4_becomes 125 = .ok (.iload_n 2, 1) := dk_28 (dk_at dksX4_becomes_5 7 rfl rfl)
theorem dX4_becomes_126 : decode cX4_becomes 126 = .ok (.iastore, 1) := dk_79 (dk_at dksX4_becomes_5 8 rfl rfl)
theorem dX4_becomes_127 : decode cX4_becomes 127 = .ok (.aload_n 0, 1) := dk_42 (dk_at dksX4_becomes_5 9 rfl rfl)
theorem dX4_becomes_128 : decode cX4_becomes 128 = .ok (.dup, 1) := dk_89 (dk_at dksX4_becomes_5 10 rfl rfl)
theorem dX4_becomes_129 : decode cX4_becomes 129 = .ok (.getfield 105, 3) := dk_180 0 105 (dk_at dksX4_becomes_5 11 rfl rfl)
theorem dX4_becomes_132 : decode cX4_becomes 132 = .ok (.iconst 1, 1) := dk_4 (dk_at dksX4_becomes_5 14 rfl rfl)
theorem dX4_becomes_133 : decode cX4_becomes 133 = .ok (.iadd, 1) := dk_96 (dk_at dksX4_becomes_5 15 rfl rfl)
theorem dX4_becomes_134 : decode cX4_becomes 134 = .ok (.putfield 105, 3) := dk_181 0 105 (dk_at dksX4_becomes_5 16 rfl rfl)
theorem dX4_becomes_137 : decode cX4_becomes 137 = .ok (.aload_n 0, 1) := dk_42 (dk_at dksX4_becomes_5 19 rfl rfl)
theorem dX4_becomes_138 : decode cX4_becomes 138 = .ok (.aload_n 0, 1) := dk_42 (dk_at dksX4_becomes_5 20 rfl rfl)
theorem dX4_becomes_139 : decode cX4_becomes 139 = .ok (.getfield 105, 3) := dk_180 0 105 (dk_at dksX4_becomes_5 21 rfl rfl)
theorem dX4_becomes_142 : decode cX4_becomes 142 = .ok (.putfield 108, 3) := dk_181 0 108 (dk_at dksX4_becomes_6 0 rfl rfl)
theorem dX4_becomes_145 : decode cX4_becomes 145 = .ok (.aload_n 0, 1) := dk_42 (dk_at dksX4_becomes_6 3 rfl rfl)
theorem dX4_becomes_146 : decode cX4_becomes 146 = .ok (.getfield 9, 3) := dk_180 0 9 (dk_at dksX4_becomes_6 4 rfl rfl)
theorem dX4_becomes_149 : decode cX4_becomes 149 = .ok (.iload_n 1, 1) := dk_27 (dk_at dksX4_becomes_6 7 rfl rfl)
theorem dX4_becomes_150 : decode cX4_becomes 150 = .ok (.iload_n 2, 1) := dk_28 (dk_at dksX4_becomes_6 8 rfl rfl)
theorem dX4_becomes_151 : decode cX4_becomes 151 = .ok (.iastore, 1) := dk_79 (dk_at dksX4_becomes_6 9 rfl rfl)
theorem dX4_becomes_152 : decode cX4_becomes 152 = .ok (.iload_n 3, 1) := dk_29 (dk_at dksX4_becomes_6 10 rfl rfl)
theorem dX4_becomes_153 : decode cX4_becomes 153 = .ok (.ireturn, 1) := dk_172 (dk_at dksX4_becomes_6 11 rfl rfl)
abbrev cX4_ask : ByteArray := prog_34_method_33_code
def yX4_ask : MethodName := ⟨RX4, "ask", "(II)I"⟩
def dkwX4_ask_1 : List UInt8 := [2, 172]
abbrev dktX4_ask_1 : List UInt8 := dkwX4_ask_1 ++ []
def dkwX4_ask_0 : List UInt8 := [42, 27, 182, 0, 188, 153, 0, 19, 28, 184, 0, 208, 153, 0, 12, 42, 27, 28, 182, 0, 211, 167, 0, 4]
abbrev dktX4_ask_0 : List UInt8 := dkwX4_ask_0 ++ dktX4_ask_1
theorem dksX4_ask_0 : cX4_ask.data.toList.drop 0 = dktX4_ask_0 := by decide +kernel
theorem dksX4_ask_1 : cX4_ask.data.toList.drop 24 = dktX4_ask_1 := dk_seg dksX4_ask_0 24 rfl rfl
theorem dX4_ask_0 : decode cX4_ask 0 = .ok (.aload_n 0, 1) := dk_42 (dk_at dksX4_ask_0 0 rfl rfl)
theorem dX4_ask_1 : decode cX4_ask 1 = .ok (.iload_n 1, 1) := dk_27 (dk_at dksX4_ask_0 1 rfl rfl)
theorem dX4_ask_2 : decode cX4_ask 2 = .ok (.invokevirtual 188, 3) := dk_182 0 188 (dk_at dksX4_ask_0 2 rfl rfl)
theorem dX4_ask_5 : decode cX4_ask 5 = .ok (.ifCond .eq 19, 3) := dk_153 0 19 (dk_at dksX4_ask_0 5 rfl rfl)
theorem dX4_ask_8 : decode cX4_ask 8 = .ok (.iload_n 2, 1) := dk_28 (dk_at dksX4_ask_0 8 rfl rfl)
theorem dX4_ask_9 : decode cX4_ask 9 = .ok (.invokestatic 208, 3) := dk_184 0 208 (dk_at dksX4_ask_0 9 rfl rfl)
theorem dX4_ask_12 : decode cX4_ask 12 = .ok (.ifCond .eq 12, 3) := dk_153 0 12 (dk_at dksX4_ask_0 12 rfl rfl)
theorem dX4_ask_15 : decode cX4_ask 15 = .ok (.aload_n 0, 1) := dk_42 (dk_at dksX4_ask_0 15 rfl rfl)
theorem dX4_ask_16 : decode cX4_ask 16 = .ok (.iload_n 1, 1) := dk_27 (dk_at dksX4_ask_0 16 rfl rfl)
theorem dX4_ask_17 : decode cX4_ask 17 = .ok (.iload_n 2, 1) := dk_28 (dk_at dksX4_ask_0 17 rfl rfl)
theorem dX4_ask_18 : decode cX4_ask 18 = .ok (.invokevirtual 211, 3) := dk_182 0 211 (dk_at dksX4_ask_0 18 rfl rfl)
theorem dX4_ask_21 : decode cX4_ask 21 = .ok (.goto 4, 3) := dk_167 0 4 (dk_at dksX4_ask_0 21 rfl rfl)
theorem dX4_ask_24 : decode cX4_ask 24 = .ok (.iconst (-1), 1) := dk_2 (dk_at dksX4_ask_1 0 rfl rfl)
theorem dX4_ask_25 : decode cX4_ask 25 = .ok (.ireturn, 1) := dk_172 (dk_at dksX4_ask_1 1 rfl rfl)
abbrev cX4_isAsk : ByteArray := prog_34_method_26_code
def yX4_isAsk : MethodName := ⟨RX4, "isAsk", "(I)Z"⟩
def dkwX4_isAsk_1 : List UInt8 := [112, 133, 10, 20, 0, 197, 184, 0, 113, 153, 0, 7, 4, 167, 0, 4, 3, 172]
abbrev dktX4_isAsk_1 : List UInt8 := dkwX4_isAsk_1 ++ []
def dkwX4_isAsk_0 : List UInt8 := [26, 155, 0, 39, 26, 17, 39, 16, 108, 133, 10, 20, 0, 197, 184, 0, 113, 153, 0, 23, 26, 17, 39, 16]
abbrev dktX4_isAsk_0 : List UInt8 := dkwX4_isAsk_0 ++ dktX4_isAsk_1
theorem dksX4_isAsk_0 : cX4_isAsk.data.toList.drop 0 = dktX4_isAsk_0 := by decide +kernel
theorem dksX4_isAsk_1 : cX4_isAsk.data.toList.drop 24 = dktX4_isAsk_1 := dk_seg dksX4_isAsk_0 24 rfl rfl
theorem dX4_isAsk_0 : decode cX4_isAsk 0 = .ok (.iload_n 0, 1) := dk_26 (dk_at dksX4_isAsk_0 0 rfl rfl)
theorem dX4_isAsk_1 : decode cX4_isAsk 1 = .ok (.ifCond .lt 39, 3) := dk_155 0 39 (dk_at dksX4_isAsk_0 1 rfl rfl)
theorem dX4_isAsk_4 : decode cX4_isAsk 4 = .ok (.iload_n 0, 1) := dk_26 (dk_at dksX4_isAsk_0 4 rfl rfl)
theorem dX4_isAsk_5 : decode cX4_isAsk 5 = .ok (.sipush 10000, 3) := dk_17 39 16 (dk_at dksX4_isAsk_0 5 rfl rfl)
theorem dX4_isAsk_8 : decode cX4_isAsk 8 = .ok (.idiv, 1) := dk_108 (dk_at dksX4_isAsk_0 8 rfl rfl)
theorem dX4_isAsk_9 : decode cX4_isAsk 9 = .ok (.i2l, 1) := dk_133 (dk_at dksX4_isAsk_0 9 rfl rfl)
theorem dX4_isAsk_10 : decode cX4_isAsk 10 = .ok (.lconst 1, 1) := dk_10 (dk_at dksX4_isAsk_0 10 rfl rfl)
theorem dX4_isAsk_11 : decode cX4_isAsk 11 = .ok (.ldc2_w 197, 3) := dk_20 0 197 (dk_at dksX4_isAsk_0 11 rfl rfl)
theorem dX4_isAsk_14 : decode cX4_isAsk 14 = .ok (.invokestatic 113, 3) := dk_184 0 113 (dk_at dksX4_isAsk_0 14 rfl rfl)
theorem dX4_isAsk_17 : decode cX4_isAsk 17 = .ok (.ifCond .eq 23, 3) := dk_153 0 23 (dk_at dksX4_isAsk_0 17 rfl rfl)
theorem dX4_isAsk_20 : decode cX4_isAsk 20 = .ok (.iload_n 0, 1) := dk_26 (dk_at dksX4_isAsk_0 20 rfl rfl)
theorem dX4_isAsk_21 : decode cX4_isAsk 21 = .ok (.sipush 10000, 3) := dk_17 39 16 (dk_at dksX4_isAsk_0 21 rfl rfl)
theorem dX4_isAsk_24 : decode cX4_isAsk 24 = .ok (.irem, 1) := dk_112 (dk_at dksX4_isAsk_1 0 rfl rfl)
theorem dX4_isAsk_25 : decode cX4_isAsk 25 = .ok (.i2l, 1) := dk_133 (dk_at dksX4_isAsk_1 1 rfl rfl)
theorem dX4_isAsk_26 : decode cX4_isAsk 26 = .ok (.lconst 1, 1) := dk_10 (dk_at dksX4_isAsk_1 2 rfl rfl)
theorem dX4_isAsk_27 : decode cX4_isAsk 27 = .ok (.ldc2_w 197, 3) := dk_20 0 197 (dk_at dksX4_isAsk_1 3 rfl rfl)
theorem dX4_isAsk_30 : decode cX4_isAsk 30 = .ok (.invokestatic 113, 3) := dk_184 0 113 (dk_at dksX4_isAsk_1 6 rfl rfl)
theorem dX4_isAsk_33 : decode cX4_isAsk 33 = .ok (.ifCond .eq 7, 3) := dk_153 0 7 (dk_at dksX4_isAsk_1 9 rfl rfl)
theorem dX4_isAsk_36 : decode cX4_isAsk 36 = .ok (.iconst 1, 1) := dk_4 (dk_at dksX4_isAsk_1 12 rfl rfl)
theorem dX4_isAsk_37 : decode cX4_isAsk 37 = .ok (.goto 4, 3) := dk_167 0 4 (dk_at dksX4_isAsk_1 13 rfl rfl)
theorem dX4_isAsk_40 : decode cX4_isAsk 40 = .ok (.iconst 0, 1) := dk_3 (dk_at dksX4_isAsk_1 16 rfl rfl)
theorem dX4_isAsk_41 : decode cX4_isAsk 41 = .ok (.ireturn, 1) := dk_172 (dk_at dksX4_isAsk_1 17 rfl rfl)
abbrev cX4_askOf : ByteArray := prog_34_method_32_code
def yX4_askOf : MethodName := ⟨RX4, "askOf", "(II)I"⟩
def dkwX4_askOf_4 : List UInt8 := [42, 180, 0, 40, 16, 60, 27, 104, 29, 96, 46, 172]
abbrev dktX4_askOf_4 : List UInt8 := dkwX4_askOf_4 ++ []
def dkwX4_askOf_3 : List UInt8 := [180, 0, 34, 27, 92, 46, 4, 96, 79, 42, 180, 0, 40, 16, 60, 27, 104, 29, 96, 92, 46, 4, 96, 79]
abbrev dktX4_askOf_3 : List UInt8 := dkwX4_askOf_3 ++ dktX4_askOf_4
def dkwX4_askOf_2 : List UInt8 := [16, 60, 27, 104, 29, 96, 28, 184, 0, 199, 79, 42, 180, 0, 40, 16, 60, 27, 104, 29, 96, 3, 79, 42]
abbrev dktX4_askOf_2 : List UInt8 := dkwX4_askOf_2 ++ dktX4_askOf_3
def dkwX4_askOf_1 : List UInt8 := [27, 46, 16, 60, 160, 0, 5, 3, 172, 29, 156, 0, 47, 42, 180, 0, 34, 27, 46, 62, 42, 180, 0, 37]
abbrev dktX4_askOf_1 : List UInt8 := dkwX4_askOf_1 ++ dktX4_askOf_2
def dkwX4_askOf_0 : List UInt8 := [28, 184, 0, 202, 154, 0, 5, 3, 172, 42, 27, 28, 182, 0, 205, 62, 29, 156, 0, 16, 42, 180, 0, 34]
abbrev dktX4_askOf_0 : List UInt8 := dkwX4_askOf_0 ++ dktX4_askOf_1
theorem dksX4_askOf_0 : cX4_askOf.data.toList.drop 0 = dktX4_askOf_0 := by decide +kernel
theorem dksX4_askOf_1 : cX4_askOf.data.toList.drop 24 = dktX4_askOf_1 := dk_seg dksX4_askOf_0 24 rfl rfl
theorem dksX4_askOf_2 : cX4_askOf.data.toList.drop 48 = dktX4_askOf_2 := dk_seg dksX4_askOf_1 24 rfl rfl
theorem dksX4_askOf_3 : cX4_askOf.data.toList.drop 72 = dktX4_askOf_3 := dk_seg dksX4_askOf_2 24 rfl rfl
theorem dksX4_askOf_4 : cX4_askOf.data.toList.drop 96 = dktX4_askOf_4 := dk_seg dksX4_askOf_3 24 rfl rfl
theorem dX4_askOf_0 : decode cX4_askOf 0 = .ok (.iload_n 2, 1) := dk_28 (dk_at dksX4_askOf_0 0 rfl rfl)
theorem dX4_askOf_1 : decode cX4_askOf 1 = .ok (.invokestatic 202, 3) := dk_184 0 202 (dk_at dksX4_askOf_0 1 rfl rfl)
theorem dX4_askOf_4 : decode cX4_askOf 4 = .ok (.ifCond .ne 5, 3) := dk_154 0 5 (dk_at dksX4_askOf_0 4 rfl rfl)
theorem dX4_askOf_7 : decode cX4_askOf 7 = .ok (.iconst 0, 1) := dk_3 (dk_at dksX4_askOf_0 7 rfl rfl)
theorem dX4_askOf_8 : decode cX4_askOf 8 = .ok (.ireturn, 1) := dk_172 (dk_at dksX4_askOf_0 8 rfl rfl)
theorem dX4_askOf_9 : decode cX4_askOf 9 = .ok (.aload_n 0, 1) := dk_42 (dk_at dksX4_askOf_0 9 rfl rfl)
theorem dX4_askOf_10 : decode cX4_askOf 10 = .ok (.iload_n 1, 1) := dk_27 (dk_at dksX4_askOf_0 10 rfl rfl)
theorem dX4_askOf_11 : decode cX4_askOf 11 = .ok (.iload_n 2, 1) := dk_28 (dk_at dksX4_askOf_0 11 rfl rfl)
theorem dX4_askOf_12 : decode cX4_askOf 12 = .ok (.invokevirtual 205, 3) := dk_182 0 205 (dk_at dksX4_askOf_0 12 rfl rfl)
theorem dX4_askOf_15 : decode cX4_askOf 15 = .ok (.istore_n 3, 1) := dk_62 (dk_at dksX4_askOf_0 15 rfl rfl)
theorem dX4_askOf_16 : decode cX4_askOf 16 = .ok (.iload_n 3, 1) := dk_29 (dk_at dksX4_askOf_0 16 rfl rfl)
theorem dX4_askOf_17 : decode cX4_askOf 17 = .ok (.ifCond .ge 16, 3) := dk_156 0 16 (dk_at dksX4_askOf_0 17 rfl rfl)
theorem dX4_askOf_20 : decode cX4_askOf 20 = .ok (.aload_n 0, 1) := dk_42 (dk_at dksX4_askOf_0 20 rfl rfl)
theorem dX4_askOf_21 : decode cX4_askOf 21 = .ok (.getfield 34, 3) := dk_180 0 34 (dk_at dksX4_askOf_0 21 rfl rfl)
theorem dX4_askOf_24 : decode cX4_askOf 24 = .ok (.iload_n 1, 1) := dk_27 (dk_at dksX4_askOf_1 0 rfl rfl)
theorem dX4_askOf_25 : decode cX4_askOf 25 = .ok (.iaload, 1) := dk_46 (dk_at dksX4_askOf_1 1 rfl rfl)
theorem dX4_askOf_26 : decode cX4_askOf 26 = .ok (.bipush 60, 2) := dk_16 60 (dk_at dksX4_askOf_1 2 rfl rfl)
theorem dX4_askOf_28 : decode cX4_askOf 28 = .ok (.if_icmp .ne 5, 3) := dk_160 0 5 (dk_at dksX4_askOf_1 4 rfl rfl)
theorem dX4_askOf_31 : decode cX4_askOf 31 = .ok (.iconst 0, 1) := dk_3 (dk_at dksX4_askOf_1 7 rfl rfl)
theorem dX4_askOf_32 : decode cX4_askOf 32 = .ok (.ireturn, 1) := dk_172 (dk_at dksX4_askOf_1 8 rfl rfl)
theorem dX4_askOf_33 : decode cX4_askOf 33 = .ok (.iload_n 3, 1) := dk_29 (dk_at dksX4_askOf_1 9 rfl rfl)
theorem dX4_askOf_34 : decode cX4_askOf 34 = .ok (.ifCond .ge 47, 3) := dk_156 0 47 (dk_at dksX4_askOf_1 10 rfl rfl)
theorem dX4_askOf_37 : decode cX4_askOf 37 = .ok (.aload_n 0, 1) := dk_42 (dk_at dksX4_askOf_1 13 rfl rfl)
theorem dX4_askOf_38 : decode cX4_askOf 38 = .ok (.getfield 34, 3) := dk_180 0 34 (dk_at dksX4_askOf_1 14 rfl rfl)
theorem dX4_askOf_41 : decode cX4_askOf 41 = .ok (.iload_n 1, 1) := dk_27 (dk_at dksX4_askOf_1 17 rfl rfl)
theorem dX4_askOf_42 : decode cX4_askOf 42 = .ok (.iaload, 1) := dk_46 (dk_at dksX4_askOf_1 18 rfl rfl)
theorem dX4_askOf_43 : decode cX4_askOf 43 = .ok (.istore_n 3, 1) := dk_62 (dk_at dksX4_askOf_1 19 rfl rfl)
theorem dX4_askOf_44 : decode cX4_askOf 44 = .ok (.aload_n 0, 1) := dk_42 (dk_at dksX4_askOf_1 20 rfl rfl)
theorem dX4_askOf_45 : decode cX4_askOf 45 = .ok (.getfield 37, 3) := dk_180 0 37 (dk_at dksX4_askOf_1 21 rfl rfl)
theorem dX4_askOf_48 : decode cX4_askOf 48 = .ok (.bipush 60, 2) := dk_16 60 (dk_at dksX4_askOf_2 0 rfl rfl)
theorem dX4_askOf_50 : decode cX4_askOf 50 = .ok (.iload_n 1, 1) := dk_27 (dk_at dksX4_askOf_2 2 rfl rfl)
theorem dX4_askOf_51 : decode cX4_askOf 51 = .ok (.imul, 1) := dk_104 (dk_at dksX4_askOf_2 3 rfl rfl)
theorem dX4_askOf_52 : decode cX4_askOf 52 = .ok (.iload_n 3, 1) := dk_29 (dk_at dksX4_askOf_2 4 rfl rfl)
theorem dX4_askOf_53 : decode cX4_askOf 53 = .ok (.iadd, 1) := dk_96 (dk_at dksX4_askOf_2 5 rfl rfl)
theorem dX4_askOf_54 : decode cX4_askOf 54 = .ok (.iload_n 2, 1) := dk_28 (dk_at dksX4_askOf_2 6 rfl rfl)
theorem dX4_askOf_55 : decode cX4_askOf 55 = .ok (.invokestatic 199, 3) := dk_184 0 199 (dk_at dksX4_askOf_2 7 rfl rfl)
theorem dX4_askOf_58 : decode cX4_askOf 58 = .ok (.iastore, 1) := dk_79 (dk_at dksX4_askOf_2 10 rfl rfl)
theorem dX4_askOf_59 : decode cX4_askOf 59 = .ok (.aload_n 0, 1) := dk_42 (dk_at dksX4_askOf_2 11 rfl rfl)
theorem dX4_askOf_60 : decode cX4_askOf 60 = .ok (.getfield 40, 3) := dk_180 0 40 (dk_at dksX4_askOf_2 12 rfl rfl)
theorem dX4_askOf_63 : decode cX4_askOf 63 = .ok (.bipush 60, 2) := dk_16 60 (dk_at dksX4_askOf_2 15 rfl rfl)
theorem dX4_askOf_65 : decode cX4_askOf 65 = .ok (.iload_n 1, 1) := dk_27 (dk_at dksX4_askOf_2 17 rfl rfl)
theorem dX4_askOf_66 : decode cX4_askOf 66 = .ok (.imul, 1) := dk_104 (dk_at dksX4_askOf_2 18 rfl rfl)
theorem dX4_askOf_67 : decode cX4_askOf 67 = .ok (.iload_n 3, 1) := dk_29 (dk_at dksX4_askOf_2 19 rfl rfl)
theorem dX4_askOf_68 : decode cX4_askOf 68 = .ok (.iadd, 1) := dk_96 (dk_at dksX4_askOf_2 20 rfl rfl)
theorem dX4_askOf_69 : decode cX4_askOf 69 = .ok (.iconst 0, 1) := dk_3 (dk_at dksX4_askOf_2 21 rfl rfl)
theorem dX4_askOf_70 : decode cX4_askOf 70 = .ok (.iastore, 1) := dk_79 (dk_at dksX4_askOf_2 22 rfl rfl)
theorem dX4_askOf_71 : decode cX4_askOf 71 = .ok (.aload_n 0, 1) := dk_42 (dk_at dksX4_askOf_2 23 rfl rfl)
theorem dX4_askOf_72 : decode cX4_askOf 72 = .ok (.getfield 34, 3) := dk_180 0 34 (dk_at dksX4_askOf_3 0 rfl rfl)
theorem dX4_askOf_75 : decode cX4_askOf 75 = .ok (.iload_n 1, 1) := dk_27 (dk_at dksX4_askOf_3 3 rfl rfl)
theorem dX4_askOf_76 : decode cX4_askOf 76 = .ok (.dup2, 1) := dk_92 (dk_at dksX4_askOf_3 4 rfl rfl)
theorem dX4_askOf_77 : decode cX4_askOf 77 = .ok (.iaload, 1) := dk_46 (dk_at dksX4_askOf_3 5 rfl rfl)
theorem dX4_askOf_78 : decode cX4_askOf 78 = .ok (.iconst 1, 1) := dk_4 (dk_at dksX4_askOf_3 6 rfl rfl)
theorem dX4_askOf_79 : decode cX4_askOf 79 = .ok (.iadd, 1) := dk_96 (dk_at dksX4_askOf_3 7 rfl rfl)
theorem dX4_askOf_80 : decode cX4_askOf 80 = .ok (.iastore, 1) := dk_79 (dk_at dksX4_askOf_3 8 rfl rfl)
theorem dX4_askOf_81 : decode cX4_askOf 81 = .ok (.aload_n 0, 1) := dk_42 (dk_at dksX4_askOf_3 9 rfl rfl)
theorem dX4_askOf_82 : decode cX4_askOf 82 = .ok (.getfield 40, 3) := dk_180 0 40 (dk_at dksX4_askOf_3 10 rfl rfl)
theorem dX4_askOf_85 : decode cX4_askOf 85 = .ok (.bipush 60, 2) := dk_16 60 (dk_at dksX4_askOf_3 13 rfl rfl)
theorem dX4_askOf_87 : decode cX4_askOf 87 = .ok (.iload_n 1, 1) := dk_27 (dk_at dksX4_askOf_3 15 rfl rfl)
theorem dX4_askOf_88 : decode cX4_askOf 88 = .ok (.imul, 1) := dk_104 (dk_at dksX4_askOf_3 16 rfl rfl)
theorem dX4_askOf_89 : decode cX4_askOf 89 = .ok (.iload_n 3, 1) := dk_29 (dk_at dksX4_askOf_3 17 rfl rfl)
theorem dX4_askOf_90 : decode cX4_askOf 90 = .ok (.iadd, 1) := dk_96 (dk_at dksX4_askOf_3 18 rfl rfl)
theorem dX4_askOf_91 : decode cX4_askOf 91 = .ok (.dup2, 1) := dk_92 (dk_at dksX4_askOf_3 19 rfl rfl)
theorem dX4_askOf_92 : decode cX4_askOf 92 = .ok (.iaload, 1) := dk_46 (dk_at dksX4_askOf_3 20 rfl rfl)
theorem dX4_askOf_93 : decode cX4_askOf 93 = .ok (.iconst 1, 1) := dk_4 (dk_at dksX4_askOf_3 21 rfl rfl)
theorem dX4_askOf_94 : decode cX4_askOf 94 = .ok (.iadd, 1) := dk_96 (dk_at dksX4_askOf_3 22 rfl rfl)
theorem dX4_askOf_95 : decode cX4_askOf 95 = .ok (.iastore, 1) := dk_79 (dk_at dksX4_askOf_3 23 rfl rfl)
theorem dX4_askOf_96 : decode cX4_askOf 96 = .ok (.aload_n 0, 1) := dk_42 (dk_at dksX4_askOf_4 0 rfl rfl)
theorem dX4_askOf_97 : decode cX4_askOf 97 = .ok (.getfield 40, 3) := dk_180 0 40 (dk_at dksX4_askOf_4 1 rfl rfl)
theorem dX4_askOf_100 : decode cX4_askOf 100 = .ok (.bipush 60, 2) := dk_16 60 (dk_at dksX4_askOf_4 4 rfl rfl)
theorem dX4_askOf_102 : decode cX4_askOf 102 = .ok (.iload_n 1, 1) := dk_27 (dk_at dksX4_askOf_4 6 rfl rfl)
theorem dX4_askOf_103 : decode cX4_askOf 103 = .ok (.imul, 1) := dk_104 (dk_at dksX4_askOf_4 7 rfl rfl)
theorem dX4_askOf_104 : decode cX4_askOf 104 = .ok (.iload_n 3, 1) := dk_29 (dk_at dksX4_askOf_4 8 rfl rfl)
theorem dX4_askOf_105 : decode cX4_askOf 105 = .ok (.iadd, 1) := dk_96 (dk_at dksX4_askOf_4 9 rfl rfl)
theorem dX4_askOf_106 : decode cX4_askOf 106 = .ok (.iaload, 1) := dk_46 (dk_at dksX4_askOf_4 10 rfl rfl)
theorem dX4_askOf_107 : decode cX4_askOf 107 = .ok (.ireturn, 1) := dk_172 (dk_at dksX4_askOf_4 11 rfl rfl)
abbrev cX4_isSmall : ByteArray := prog_34_method_27_code
def yX4_isSmall : MethodName := ⟨RX4, "isSmall", "(I)Z"⟩
def dkwX4_isSmall_1 : List UInt8 := [3, 172]
abbrev dktX4_isSmall_1 : List UInt8 := dkwX4_isSmall_1 ++ []
def dkwX4_isSmall_0 : List UInt8 := [26, 17, 39, 16, 108, 16, 99, 163, 0, 17, 26, 17, 39, 16, 112, 16, 99, 163, 0, 7, 4, 167, 0, 4]
abbrev dktX4_isSmall_0 : List UInt8 := dkwX4_isSmall_0 ++ dktX4_isSmall_1
theorem dksX4_isSmall_0 : cX4_isSmall.data.toList.drop 0 = dktX4_isSmall_0 := by decide +kernel
theorem dksX4_isSmall_1 : cX4_isSmall.data.toList.drop 24 = dktX4_isSmall_1 := dk_seg dksX4_isSmall_0 24 rfl rfl
theorem dX4_isSmall_0 : decode cX4_isSmall 0 = .ok (.iload_n 0, 1) := dk_26 (dk_at dksX4_isSmall_0 0 rfl rfl)
theorem dX4_isSmall_1 : decode cX4_isSmall 1 = .ok (.sipush 10000, 3) := dk_17 39 16 (dk_at dksX4_isSmall_0 1 rfl rfl)
theorem dX4_isSmall_4 : decode cX4_isSmall 4 = .ok (.idiv, 1) := dk_108 (dk_at dksX4_isSmall_0 4 rfl rfl)
theorem dX4_isSmall_5 : decode cX4_isSmall 5 = .ok (.bipush 99, 2) := dk_16 99 (dk_at dksX4_isSmall_0 5 rfl rfl)
theorem dX4_isSmall_7 : decode cX4_isSmall 7 = .ok (.if_icmp .gt 17, 3) := dk_163 0 17 (dk_at dksX4_isSmall_0 7 rfl rfl)
theorem dX4_isSmall_10 : decode cX4_isSmall 10 = .ok (.iload_n 0, 1) := dk_26 (dk_at dksX4_isSmall_0 10 rfl rfl)
theorem dX4_isSmall_11 : decode cX4_isSmall 11 = .ok (.sipush 10000, 3) := dk_17 39 16 (dk_at dksX4_isSmall_0 11 rfl rfl)
theorem dX4_isSmall_14 : decode cX4_isSmall 14 = .ok (.irem, 1) := dk_112 (dk_at dksX4_isSmall_0 14 rfl rfl)
theorem dX4_isSmall_15 : decode cX4_isSmall 15 = .ok (.bipush 99, 2) := dk_16 99 (dk_at dksX4_isSmall_0 15 rfl rfl)
theorem dX4_isSmall_17 : decode cX4_isSmall 17 = .ok (.if_icmp .gt 7, 3) := dk_163 0 7 (dk_at dksX4_isSmall_0 17 rfl rfl)
theorem dX4_isSmall_20 : decode cX4_isSmall 20 = .ok (.iconst 1, 1) := dk_4 (dk_at dksX4_isSmall_0 20 rfl rfl)
theorem dX4_isSmall_21 : decode cX4_isSmall 21 = .ok (.goto 4, 3) := dk_167 0 4 (dk_at dksX4_isSmall_0 21 rfl rfl)
theorem dX4_isSmall_24 : decode cX4_isSmall 24 = .ok (.iconst 0, 1) := dk_3 (dk_at dksX4_isSmall_1 0 rfl rfl)
theorem dX4_isSmall_25 : decode cX4_isSmall 25 = .ok (.ireturn, 1) := dk_172 (dk_at dksX4_isSmall_1 1 rfl rfl)
abbrev cX4_pairAt : ByteArray := prog_34_method_29_code
def yX4_pairAt : MethodName := ⟨RX4, "pairAt", "(II)I"⟩
def dkwX4_pairAt_1 : List UInt8 := [184, 0, 199, 160, 0, 5, 29, 172, 132, 3, 1, 167, 255, 223, 2, 172]
abbrev dktX4_pairAt_1 : List UInt8 := dkwX4_pairAt_1 ++ []
def dkwX4_pairAt_0 : List UInt8 := [3, 62, 29, 42, 180, 0, 34, 27, 46, 162, 0, 29, 42, 180, 0, 37, 16, 60, 27, 104, 29, 96, 46, 28]
abbrev dktX4_pairAt_0 : List UInt8 := dkwX4_pairAt_0 ++ dktX4_pairAt_1
theorem dksX4_pairAt_0 : cX4_pairAt.data.toList.drop 0 = dktX4_pairAt_0 := by decide +kernel
theorem dksX4_pairAt_1 : cX4_pairAt.data.toList.drop 24 = dktX4_pairAt_1 := dk_seg dksX4_pairAt_0 24 rfl rfl
theorem dX4_pairAt_0 : decode cX4_pairAt 0 = .ok (.iconst 0, 1) := dk_3 (dk_at dksX4_pairAt_0 0 rfl rfl)
theorem dX4_pairAt_1 : decode cX4_pairAt 1 = .ok (.istore_n 3, 1) := dk_62 (dk_at dksX4_pairAt_0 1 rfl rfl)
theorem dX4_pairAt_2 : decode cX4_pairAt 2 = .ok (.iload_n 3, 1) := dk_29 (dk_at dksX4_pairAt_0 2 rfl rfl)
theorem dX4_pairAt_3 : decode cX4_pairAt 3 = .ok (.aload_n 0, 1) := dk_42 (dk_at dksX4_pairAt_0 3 rfl rfl)
theorem dX4_pairAt_4 : decode cX4_pairAt 4 = .ok (.getfield 34, 3) := dk_180 0 34 (dk_at dksX4_pairAt_0 4 rfl rfl)
theorem dX4_pairAt_7 : decode cX4_pairAt 7 = .ok (.iload_n 1, 1) := dk_27 (dk_at dksX4_pairAt_0 7 rfl rfl)
theorem dX4_pairAt_8 : decode cX4_pairAt 8 = .ok (.iaload, 1) := dk_46 (dk_at dksX4_pairAt_0 8 rfl rfl)
theorem dX4_pairAt_9 : decode cX4_pairAt 9 = .ok (.if_icmp .ge 29, 3) := dk_162 0 29 (dk_at dksX4_pairAt_0 9 rfl rfl)
theorem dX4_pairAt_12 : decode cX4_pairAt 12 = .ok (.aload_n 0, 1) := dk_42 (dk_at dksX4_pairAt_0 12 rfl rfl)
theorem dX4_pairAt_13 : decode cX4_pairAt 13 = .ok (.getfield 37, 3) := dk_180 0 37 (dk_at dksX4_pairAt_0 13 rfl rfl)
theorem dX4_pairAt_16 : decode cX4_pairAt 16 = .ok (.bipush 60, 2) := dk_16 60 (dk_at dksX4_pairAt_0 16 rfl rfl)
theorem dX4_pairAt_18 : decode cX4_pairAt 18 = .ok (.iload_n 1, 1) := dk_27 (dk_at dksX4_pairAt_0 18 rfl rfl)
theorem dX4_pairAt_19 : decode cX4_pairAt 19 = .ok (.imul, 1) := dk_104 (dk_at dksX4_pairAt_0 19 rfl rfl)
theorem dX4_pairAt_20 : decode cX4_pairAt 20 = .ok (.iload_n 3, 1) := dk_29 (dk_at dksX4_pairAt_0 20 rfl rfl)
theorem dX4_pairAt_21 : decode cX4_pairAt 21 = .ok (.iadd, 1) := dk_96 (dk_at dksX4_pairAt_0 21 rfl rfl)
theorem dX4_pairAt_22 : decode cX4_pairAt 22 = .ok (.iaload, 1) := dk_46 (dk_at dksX4_pairAt_0 22 rfl rfl)
theorem dX4_pairAt_23 : decode cX4_pairAt 23 = .ok (.iload_n 2, 1) := dk_28 (dk_at dksX4_pairAt_0 23 rfl rfl)
theorem dX4_pairAt_24 : decode cX4_pairAt 24 = .ok (.invokestatic 199, 3) := dk_184 0 199 (dk_at dksX4_pairAt_1 0 rfl rfl)
theorem dX4_pairAt_27 : decode cX4_pairAt 27 = .ok (.if_icmp .ne 5, 3) := dk_160 0 5 (dk_at dksX4_pairAt_1 3 rfl rfl)
theorem dX4_pairAt_30 : decode cX4_pairAt 30 = .ok (.iload_n 3, 1) := dk_29 (dk_at dksX4_pairAt_1 6 rfl rfl)
theorem dX4_pairAt_31 : decode cX4_pairAt 31 = .ok (.ireturn, 1) := dk_172 (dk_at dksX4_pairAt_1 7 rfl rfl)
theorem dX4_pairAt_32 : decode cX4_pairAt 32 = .ok (.iinc 3 1, 3) := dk_132 3 1 (dk_at dksX4_pairAt_1 8 rfl rfl)
theorem dX4_pairAt_35 : decode cX4_pairAt 35 = .ok (.goto (-33), 3) := dk_167 255 223 (dk_at dksX4_pairAt_1 11 rfl rfl)
theorem dX4_pairAt_38 : decode cX4_pairAt 38 = .ok (.iconst (-1), 1) := dk_2 (dk_at dksX4_pairAt_1 14 rfl rfl)
theorem dX4_pairAt_39 : decode cX4_pairAt 39 = .ok (.ireturn, 1) := dk_172 (dk_at dksX4_pairAt_1 15 rfl rfl)
abbrev cX4_asPair : ByteArray := prog_34_method_28_code
def yX4_asPair : MethodName := ⟨RX4, "asPair", "(I)I"⟩
def dkwX4_asPair_1 : List UInt8 := [167, 0, 9, 16, 100, 28, 104, 27, 96, 172]
abbrev dktX4_asPair_1 : List UInt8 := dkwX4_asPair_1 ++ []
def dkwX4_asPair_0 : List UInt8 := [26, 17, 39, 16, 108, 60, 26, 17, 39, 16, 112, 61, 27, 28, 162, 0, 12, 16, 100, 27, 104, 28, 96]
abbrev dktX4_asPair_0 : List UInt8 := dkwX4_asPair_0 ++ dktX4_asPair_1
theorem dksX4_asPair_0 : cX4_asPair.data.toList.drop 0 = dktX4_asPair_0 := by decide +kernel
theorem dksX4_asPair_1 : cX4_asPair.data.toList.drop 23 = dktX4_asPair_1 := dk_seg dksX4_asPair_0 23 rfl rfl
theorem dX4_asPair_0 : decode cX4_asPair 0 = .ok (.iload_n 0, 1) := dk_26 (dk_at dksX4_asPair_0 0 rfl rfl)
theorem dX4_asPair_1 : decode cX4_asPair 1 = .ok (.sipush 10000, 3) := dk_17 39 16 (dk_at dksX4_asPair_0 1 rfl rfl)
theorem dX4_asPair_4 : decode cX4_asPair 4 = .ok (.idiv, 1) := dk_108 (dk_at dksX4_asPair_0 4 rfl rfl)
theorem dX4_asPair_5 : decode cX4_asPair 5 = .ok (.istore_n 1, 1) := dk_60 (dk_at dksX4_asPair_0 5 rfl rfl)
theorem dX4_asPair_6 : decode cX4_asPair 6 = .ok (.iload_n 0, 1) := dk_26 (dk_at dksX4_asPair_0 6 rfl rfl)
theorem dX4_asPair_7 : decode cX4_asPair 7 = .ok (.sipush 10000, 3) := dk_17 39 16 (dk_at dksX4_asPair_0 7 rfl rfl)
theorem dX4_asPair_10 : decode cX4_asPair 10 = .ok (.irem, 1) := dk_112 (dk_at dksX4_asPair_0 10 rfl rfl)
theorem dX4_asPair_11 : decode cX4_asPair 11 = .ok (.istore_n 2, 1) := dk_61 (dk_at dksX4_asPair_0 11 rfl rfl)
theorem dX4_asPair_12 : decode cX4_asPair 12 = .ok (.iload_n 1, 1) := dk_27 (dk_at dksX4_asPair_0 12 rfl rfl)
theorem dX4_asPair_13 : decode cX4_asPair 13 = .ok (.iload_n 2, 1) := dk_28 (dk_at dksX4_asPair_0 13 rfl rfl)
theorem dX4_asPair_14 : decode cX4_asPair 14 = .ok (.if_icmp .ge 12, 3) := dk_162 0 12 (dk_at dksX4_asPair_0 14 rfl rfl)
theorem dX4_asPair_17 : decode cX4_asPair 17 = .ok (.bipush 100, 2) := dk_16 100 (dk_at dksX4_asPair_0 17 rfl rfl)
theorem dX4_asPair_19 : decode cX4_asPair 19 = .ok (.iload_n 1, 1) := dk_27 (dk_at dksX4_asPair_0 19 rfl rfl)
theorem dX4_asPair_20 : decode cX4_asPair 20 = .ok (.imul, 1) := dk_104 (dk_at dksX4_asPair_0 20 rfl rfl)
theorem dX4_asPair_21 : decode cX4_asPair 21 = .ok (.iload_n 2, 1) := dk_28 (dk_at dksX4_asPair_0 21 rfl rfl)
theorem dX4_asPair_22 : decode cX4_asPair 22 = .ok (.iadd, 1) := dk_96 (dk_at dksX4_asPair_0 22 rfl rfl)
theorem dX4_asPair_23 : decode cX4_asPair 23 = .ok (.goto 9, 3) := dk_167 0 9 (dk_at dksX4_asPair_1 0 rfl rfl)
theorem dX4_asPair_26 : decode cX4_asPair 26 = .ok (.bipush 100, 2) := dk_16 100 (dk_at dksX4_asPair_1 3 rfl rfl)
theorem dX4_asPair_28 : decode cX4_asPair 28 = .ok (.iload_n 2, 1) := dk_28 (dk_at dksX4_asPair_1 5 rfl rfl)
theorem dX4_asPair_29 : decode cX4_asPair 29 = .ok (.imul, 1) := dk_104 (dk_at dksX4_asPair_1 6 rfl rfl)
theorem dX4_asPair_30 : decode cX4_asPair 30 = .ok (.iload_n 1, 1) := dk_27 (dk_at dksX4_asPair_1 7 rfl rfl)
theorem dX4_asPair_31 : decode cX4_asPair 31 = .ok (.iadd, 1) := dk_96 (dk_at dksX4_asPair_1 8 rfl rfl)
theorem dX4_asPair_32 : decode cX4_asPair 32 = .ok (.ireturn, 1) := dk_172 (dk_at dksX4_asPair_1 9 rfl rfl)
abbrev cX4_way : ByteArray := prog_34_method_50_code
def yX4_way : MethodName := ⟨RX4, "way", "(III)I"⟩
def dkwX4_way_3 : List UInt8 := [42, 180, 0, 214, 172]
abbrev dktX4_way_3 : List UInt8 := dkwX4_way_3 ++ []
def dkwX4_way_2 : List UInt8 := [172, 29, 154, 0, 10, 42, 182, 1, 27, 167, 0, 19, 29, 4, 160, 0, 10, 42, 182, 1, 30, 167, 0, 7]
abbrev dktX4_way_2 : List UInt8 := dkwX4_way_2 ++ dktX4_way_3
def dkwX4_way_1 : List UInt8 := [154, 0, 5, 2, 172, 42, 27, 16, 10, 108, 27, 16, 10, 112, 28, 3, 182, 1, 23, 154, 0, 6, 16, 254]
abbrev dktX4_way_1 : List UInt8 := dkwX4_way_1 ++ dktX4_way_2
def dkwX4_way_0 : List UInt8 := [42, 27, 182, 1, 18, 153, 0, 22, 28, 184, 0, 208, 153, 0, 15, 29, 133, 9, 20, 1, 21, 184, 0, 113]
abbrev dktX4_way_0 : List UInt8 := dkwX4_way_0 ++ dktX4_way_1
theorem dksX4_way_0 : cX4_way.data.toList.drop 0 = dktX4_way_0 := by decide +kernel
theorem dksX4_way_1 : cX4_way.data.toList.drop 24 = dktX4_way_1 := dk_seg dksX4_way_0 24 rfl rfl
theorem dksX4_way_2 : cX4_way.data.toList.drop 48 = dktX4_way_2 := dk_seg dksX4_way_1 24 rfl rfl
theorem dksX4_way_3 : cX4_way.data.toList.drop 72 = dktX4_way_3 := dk_seg dksX4_way_2 24 rfl rfl
theorem dX4_way_0 : decode cX4_way 0 = .ok (.aload_n 0, 1) := dk_42 (dk_at dksX4_way_0 0 rfl rfl)
theorem dX4_way_1 : decode cX4_way 1 = .ok (.iload_n 1, 1) := dk_27 (dk_at dksX4_way_0 1 rfl rfl)
theorem dX4_way_2 : decode cX4_way 2 = .ok (.invokevirtual 274, 3) := dk_182 1 18 (dk_at dksX4_way_0 2 rfl rfl)
theorem dX4_way_5 : decode cX4_way 5 = .ok (.ifCond .eq 22, 3) := dk_153 0 22 (dk_at dksX4_way_0 5 rfl rfl)
theorem dX4_way_8 : decode cX4_way 8 = .ok (.iload_n 2, 1) := dk_28 (dk_at dksX4_way_0 8 rfl rfl)
theorem dX4_way_9 : decode cX4_way 9 = .ok (.invokestatic 208, 3) := dk_184 0 208 (dk_at dksX4_way_0 9 rfl rfl)
theorem dX4_way_12 : decode cX4_way 12 = .ok (.ifCond .eq 15, 3) := dk_153 0 15 (dk_at dksX4_way_0 12 rfl rfl)
theorem dX4_way_15 : decode cX4_way 15 = .ok (.iload_n 3, 1) := dk_29 (dk_at dksX4_way_0 15 rfl rfl)
theorem dX4_way_16 : decode cX4_way 16 = .ok (.i2l, 1) := dk_133 (dk_at dksX4_way_0 16 rfl rfl)
theorem dX4_way_17 : decode cX4_way 17 = .ok (.lconst 0, 1) := dk_9 (dk_at dksX4_way_0 17 rfl rfl)
theorem dX4_way_18 : decode cX4_way 18 = .ok (.ldc2_w 277, 3) := dk_20 1 21 (dk_at dksX4_way_0 18 rfl rfl)
theorem dX4_way_21 : decode cX4_way 21 = .ok (.invokestatic 113, 3) := dk_184 0 113 (dk_at dksX4_way_0 21 rfl rfl)
theorem dX4_way_24 : decode cX4_way 24 = .ok (.ifCond .ne 5, 3) := dk_154 0 5 (dk_at dksX4_way_1 0 rfl rfl)
theorem dX4_way_27 : decode cX4_way 27 = .ok (.iconst (-1), 1) := dk_2 (dk_at dksX4_way_1 3 rfl rfl)
theorem dX4_way_28 : decode cX4_way 28 = .ok (.ireturn, 1) := dk_172 (dk_at dksX4_way_1 4 rfl rfl)
theorem dX4_way_29 : decode cX4_way 29 = .ok (.aload_n 0, 1) := dk_42 (dk_at dksX4_way_1 5 rfl rfl)
theorem dX4_way_30 : decode cX4_way 30 = .ok (.iload_n 1, 1) := dk_27 (dk_at dksX4_way_1 6 rfl rfl)
theorem dX4_way_31 : decode cX4_way 31 = .ok (.bipush 10, 2) := dk_16 10 (dk_at dksX4_way_1 7 rfl rfl)
theorem dX4_way_33 : decode cX4_way 33 = .ok (.idiv, 1) := dk_108 (dk_at dksX4_way_1 9 rfl rfl)
theorem dX4_way_34 : decode cX4_way 34 = .ok (.iload_n 1, 1) := dk_27 (dk_at dksX4_way_1 10 rfl rfl)
theorem dX4_way_35 : decode cX4_way 35 = .ok (.bipush 10, 2) := dk_16 10 (dk_at dksX4_way_1 11 rfl rfl)
theorem dX4_way_37 : decode cX4_way 37 = .ok (.irem, 1) := dk_112 (dk_at dksX4_way_1 13 rfl rfl)
theorem dX4_way_38 : decode cX4_way 38 = .ok (.iload_n 2, 1) := dk_28 (dk_at dksX4_way_1 14 rfl rfl)
theorem dX4_way_39 : decode cX4_way 39 = .ok (.iconst 0, 1) := dk_3 (dk_at dksX4_way_1 15 rfl rfl)
theorem dX4_way_40 : decode cX4_way 40 = .ok (.invokevirtual 279, 3) := dk_182 1 23 (dk_at dksX4_way_1 16 rfl rfl)
theorem dX4_way_43 : decode cX4_way 43 = .ok (.ifCond .ne 6, 3) := dk_154 0 6 (dk_at dksX4_way_1 19 rfl rfl)
theorem dX4_way_46 : decode cX4_way 46 = .ok (.bipush (-2), 2) := dk_16 254 (dk_at dksX4_way_1 22 rfl rfl)
theorem dX4_way_48 : decode cX4_way 48 = .ok (.ireturn, 1) := dk_172 (dk_at dksX4_way_2 0 rfl rfl)
theorem dX4_way_49 : decode cX4_way 49 = .ok (.iload_n 3, 1) := dk_29 (dk_at dksX4_way_2 1 rfl rfl)
theorem dX4_way_50 : decode cX4_way 50 = .ok (.ifCond .ne 10, 3) := dk_154 0 10 (dk_at dksX4_way_2 2 rfl rfl)
theorem dX4_way_53 : decode cX4_way 53 = .ok (.aload_n 0, 1) := dk_42 (dk_at dksX4_way_2 5 rfl rfl)
theorem dX4_way_54 : decode cX4_way 54 = .ok (.invokevirtual 283, 3) := dk_182 1 27 (dk_at dksX4_way_2 6 rfl rfl)
theorem dX4_way_57 : decode cX4_way 57 = .ok (.goto 19, 3) := dk_167 0 19 (dk_at dksX4_way_2 9 rfl rfl)
theorem dX4_way_60 : decode cX4_way 60 = .ok (.iload_n 3, 1) := dk_29 (dk_at dksX4_way_2 12 rfl rfl)
theorem dX4_way_61 : decode cX4_way 61 = .ok (.iconst 1, 1) := dk_4 (dk_at dksX4_way_2 13 rfl rfl)
theorem dX4_way_62 : decode cX4_way 62 = .ok (.if_icmp .ne 10, 3) := dk_160 0 10 (dk_at dksX4_way_2 14 rfl rfl)
theorem dX4_way_65 : decode cX4_way 65 = .ok (.aload_n 0, 1) := dk_42 (dk_at dksX4_way_2 17 rfl rfl)
theorem dX4_way_66 : decode cX4_way 66 = .ok (.invokevirtual 286, 3) := dk_182 1 30 (dk_at dksX4_way_2 18 rfl rfl)
theorem dX4_way_69 : decode cX4_way 69 = .ok (.goto 7, 3) := dk_167 0 7 (dk_at dksX4_way_2 21 rfl rfl)
theorem dX4_way_72 : decode cX4_way 72 = .ok (.aload_n 0, 1) := dk_42 (dk_at dksX4_way_3 0 rfl rfl)
theorem dX4_way_73 : decode cX4_way 73 = .ok (.getfield 214, 3) := dk_180 0 214 (dk_at dksX4_way_3 1 rfl rfl)
theorem dX4_way_76 : decode cX4_way 76 = .ok (.ireturn, 1) := dk_172 (dk_at dksX4_way_3 4 rfl rfl)
abbrev cX4_isHw : ByteArray := prog_34_method_49_code
def yX4_isHw : MethodName := ⟨RX4, "isHw", "(I)Z"⟩
def dkwX4_isHw_1 : List UInt8 := [4, 167, 0, 4, 3, 172]
abbrev dktX4_isHw_1 : List UInt8 := dkwX4_isHw_1 ++ []
def dkwX4_isHw_0 : List UInt8 := [27, 155, 0, 27, 42, 27, 16, 10, 108, 182, 0, 188, 153, 0, 16, 27, 16, 10, 112, 16, 7, 162, 0, 7]
abbrev dktX4_isHw_0 : List UInt8 := dkwX4_isHw_0 ++ dktX4_isHw_1
theorem dksX4_isHw_0 : cX4_isHw.data.toList.drop 0 = dktX4_isHw_0 := by decide +kernel
theorem dksX4_isHw_1 : cX4_isHw.data.toList.drop 24 = dktX4_isHw_1 := dk_seg dksX4_isHw_0 24 rfl rfl
theorem dX4_isHw_0 : decode cX4_isHw 0 = .ok (.iload_n 1, 1) := dk_27 (dk_at dksX4_isHw_0 0 rfl rfl)
theorem dX4_isHw_1 : decode cX4_isHw 1 = .ok (.ifCond .lt 27, 3) := dk_155 0 27 (dk_at dksX4_isHw_0 1 rfl rfl)
theorem dX4_isHw_4 : decode cX4_isHw 4 = .ok (.aload_n 0, 1) := dk_42 (dk_at dksX4_isHw_0 4 rfl rfl)
theorem dX4_isHw_5 : decode cX4_isHw 5 = .ok (.iload_n 1, 1) := dk_27 (dk_at dksX4_isHw_0 5 rfl rfl)
theorem dX4_isHw_6 : decode cX4_isHw 6 = .ok (.bipush 10, 2) := dk_16 10 (dk_at dksX4_isHw_0 6 rfl rfl)
theorem dX4_isHw_8 : decode cX4_isHw 8 = .ok (.idiv, 1) := dk_108 (dk_at dksX4_isHw_0 8 rfl rfl)
theorem dX4_isHw_9 : decode cX4_isHw 9 = .ok (.invokevirtual 188, 3) := dk_182 0 188 (dk_at dksX4_isHw_0 9 rfl rfl)
theorem dX4_isHw_12 : decode cX4_isHw 12 = .ok (.ifCond .eq 16, 3) := dk_153 0 16 (dk_at dksX4_isHw_0 12 rfl rfl)
theorem dX4_isHw_15 : decode cX4_isHw 15 = .ok (.iload_n 1, 1) := dk_27 (dk_at dksX4_isHw_0 15 rfl rfl)
theorem dX4_isHw_16 : decode cX4_isHw 16 = .ok (.bipush 10, 2) := dk_16 10 (dk_at dksX4_isHw_0 16 rfl rfl)
theorem dX4_isHw_18 : decode cX4_isHw 18 = .ok (.irem, 1) := dk_112 (dk_at dksX4_isHw_0 18 rfl rfl)
theorem dX4_isHw_19 : decode cX4_isHw 19 = .ok (.bipush 7, 2) := dk_16 7 (dk_at dksX4_isHw_0 19 rfl rfl)
theorem dX4_isHw_21 : decode cX4_isHw 21 = .ok (.if_icmp .ge 7, 3) := dk_162 0 7 (dk_at dksX4_isHw_0 21 rfl rfl)
theorem dX4_isHw_24 : decode cX4_isHw 24 = .ok (.iconst 1, 1) := dk_4 (dk_at dksX4_isHw_1 0 rfl rfl)
theorem dX4_isHw_25 : decode cX4_isHw 25 = .ok (.goto 4, 3) := dk_167 0 4 (dk_at dksX4_isHw_1 1 rfl rfl)
theorem dX4_isHw_28 : decode cX4_isHw 28 = .ok (.iconst 0, 1) := dk_3 (dk_at dksX4_isHw_1 4 rfl rfl)
theorem dX4_isHw_29 : decode cX4_isHw 29 = .ok (.ireturn, 1) := dk_172 (dk_at dksX4_isHw_1 5 rfl rfl)
abbrev cX4_layOut : ByteArray := prog_34_method_46_code
def yX4_layOut : MethodName := ⟨RX4, "layOut", "(IIII)Z"⟩
def dkwX4_layOut_8 : List UInt8 := [172, 42, 21, 6, 21, 5, 182, 1, 6, 4, 172]
abbrev dktX4_layOut_8 : List UInt8 := dkwX4_layOut_8 ++ []
def dkwX4_layOut_7 : List UInt8 := [21, 6, 182, 1, 9, 4, 172, 42, 21, 5, 21, 6, 182, 1, 12, 172, 42, 21, 5, 21, 6, 182, 1, 15]
abbrev dktX4_layOut_7 : List UInt8 := dkwX4_layOut_7 ++ dktX4_layOut_8
def dkwX4_layOut_6 : List UInt8 := [42, 21, 5, 21, 6, 182, 0, 243, 4, 172, 42, 21, 5, 21, 6, 182, 1, 6, 4, 172, 42, 21, 5]
abbrev dktX4_layOut_6 : List UInt8 := dkwX4_layOut_6 ++ dktX4_layOut_7
def dkwX4_layOut_5 : List UInt8 := [42, 180, 0, 226, 21, 5, 21, 6, 162, 0, 8, 21, 5, 167, 0, 5, 21, 6, 3, 182, 0, 229, 4, 172]
abbrev dktX4_layOut_5 : List UInt8 := dkwX4_layOut_5 ++ dktX4_layOut_6
def dkwX4_layOut_4 : List UInt8 := [42, 21, 5, 21, 6, 182, 1, 3, 154, 0, 5, 3, 172, 42, 21, 5, 21, 6, 104, 181, 0, 226, 42, 3]
abbrev dktX4_layOut_4 : List UInt8 := dkwX4_layOut_4 ++ dktX4_layOut_5
def dkwX4_layOut_3 : List UInt8 := [170, 0, 0, 0, 133, 0, 0, 0, 0, 0, 0, 0, 5, 0, 0, 0, 37, 0, 0, 0, 85, 0, 0, 0, 95, 0, 0, 0, 105, 0, 0, 0, 115, 0, 0, 0, 124]
abbrev dktX4_layOut_3 : List UInt8 := dkwX4_layOut_3 ++ dktX4_layOut_4
def dkwX4_layOut_2 : List UInt8 := [108, 54, 5, 29, 17, 39, 16, 112, 54, 6, 28]
abbrev dktX4_layOut_2 : List UInt8 := dkwX4_layOut_2 ++ dktX4_layOut_3
def dkwX4_layOut_1 : List UInt8 := [96, 46, 181, 0, 253, 42, 3, 181, 0, 214, 42, 3, 181, 0, 223, 42, 3, 181, 0, 226, 29, 17, 39, 16]
abbrev dktX4_layOut_1 : List UInt8 := dkwX4_layOut_1 ++ dktX4_layOut_2
def dkwX4_layOut_0 : List UInt8 := [42, 27, 181, 0, 217, 42, 21, 4, 158, 0, 8, 21, 4, 167, 0, 13, 42, 180, 0, 9, 8, 27, 104, 6]
abbrev dktX4_layOut_0 : List UInt8 := dkwX4_layOut_0 ++ dktX4_layOut_1
theorem dksX4_layOut_0 : cX4_layOut.data.toList.drop 0 = dktX4_layOut_0 := by decide +kernel
theorem dksX4_layOut_1 : cX4_layOut.data.toList.drop 24 = dktX4_layOut_1 := dk_seg dksX4_layOut_0 24 rfl rfl
theorem dksX4_layOut_2 : cX4_layOut.data.toList.drop 48 = dktX4_layOut_2 := dk_seg dksX4_layOut_1 24 rfl rfl
theorem dksX4_layOut_3 : cX4_layOut.data.toList.drop 59 = dktX4_layOut_3 := dk_seg dksX4_layOut_2 11 rfl rfl
theorem dksX4_layOut_4 : cX4_layOut.data.toList.drop 96 = dktX4_layOut_4 := dk_seg dksX4_layOut_3 37 rfl rfl
theorem dksX4_layOut_5 : cX4_layOut.data.toList.drop 120 = dktX4_layOut_5 := dk_seg dksX4_layOut_4 24 rfl rfl
theorem dksX4_layOut_6 : cX4_layOut.data.toList.drop 144 = dktX4_layOut_6 := dk_seg dksX4_layOut_5 24 rfl rfl
theorem dksX4_layOut_7 : cX4_layOut.data.toList.drop 167 = dktX4_layOut_7 := dk_seg dksX4_layOut_6 23 rfl rfl
theorem dksX4_layOut_8 : cX4_layOut.data.toList.drop 191 = dktX4_layOut_8 := dk_seg dksX4_layOut_7 24 rfl rfl
theorem dX4_layOut_0 : decode cX4_layOut 0 = .ok (.aload_n 0, 1) := dk_42 (dk_at dksX4_layOut_0 0 rfl rfl)
theorem dX4_layOut_1 : decode cX4_layOut 1 = .ok (.iload_n 1, 1) := dk_27 (dk_at dksX4_layOut_0 1 rfl rfl)
theorem dX4_layOut_2 : decode cX4_layOut 2 = .ok (.putfield 217, 3) := dk_181 0 217 (dk_at dksX4_layOut_0 2 rfl rfl)
theorem dX4_layOut_5 : decode cX4_layOut 5 = .ok (.aload_n 0, 1) := dk_42 (dk_at dksX4_layOut_0 5 rfl rfl)
theorem dX4_layOut_6 : decode cX4_layOut 6 = .ok (.iload 4, 2) := dk_21 4 (dk_at dksX4_layOut_0 6 rfl rfl)
theorem dX4_layOut_8 : decode cX4_layOut 8 = .ok (.ifCond .le 8, 3) := dk_158 0 8 (dk_at dksX4_layOut_0 8 rfl rfl)
theorem dX4_layOut_11 : decode cX4_layOut 11 = .ok (.iload 4, 2) := dk_21 4 (dk_at dksX4_layOut_0 11 rfl rfl)
theorem dX4_layOut_13 : decode cX4_layOut 13 = .ok (.goto 13, 3) := dk_167 0 13 (dk_at dksX4_layOut_0 13 rfl rfl)
theorem dX4_layOut_16 : decode cX4_layOut 16 = .ok (.aload_n 0, 1) := dk_42 (dk_at dksX4_layOut_0 16 rfl rfl)
theorem dX4_layOut_17 : decode cX4_layOut 17 = .ok (.getfield 9, 3) := dk_180 0 9 (dk_at dksX4_layOut_0 17 rfl rfl)
theorem dX4_layOut_20 : decode cX4_layOut 20 = .ok (.iconst 5, 1) := dk_8 (dk_at dksX4_layOut_0 20 rfl rfl)
theorem dX4_layOut_21 : decode cX4_layOut 21 = .ok (.iload_n 1, 1) := dk_27 (dk_at dksX4_layOut_0 21 rfl rfl)
theorem dX4_layOut_22 : decode cX4_layOut 22 = .ok (.imul, 1) := dk_104 (dk_at dksX4_layOut_0 22 rfl rfl)
theorem dX4_layOut_23 : decode cX4_layOut 23 = .ok (.iconst 3, 1) := dk_6 (dk_at dksX4_layOut_0 23 rfl rfl)
theorem dX4_layOut_24 : decode cX4_layOut 24 = .ok (.iadd, 1) := dk_96 (dk_at dksX4_layOut_1 0 rfl rfl)
theorem dX4_layOut_25 : decode cX4_layOut 25 = .ok (.iaload, 1) := dk_46 (dk_at dksX4_layOut_1 1 rfl rfl)
theorem dX4_layOut_26 : decode cX4_layOut 26 = .ok (.putfield 253, 3) := dk_181 0 253 (dk_at dksX4_layOut_1 2 rfl rfl)
theorem dX4_layOut_29 : decode cX4_layOut 29 = .ok (.aload_n 0, 1) := dk_42 (dk_at dksX4_layOut_1 5 rfl rfl)
theorem dX4_layOut_30 : decode cX4_layOut 30 = .ok (.iconst 0, 1) := dk_3 (dk_at dksX4_layOut_1 6 rfl rfl)
theorem dX4_layOut_31 : decode cX4_layOut 31 = .ok (.putfield 214, 3) := dk_181 0 214 (dk_at dksX4_layOut_1 7 rfl rfl)
theorem dX4_layOut_34 : decode cX4_layOut 34 = .ok (.aload_n 0, 1) := dk_42 (dk_at dksX4_layOut_1 10 rfl rfl)
theorem dX4_layOut_35 : decode cX4_layOut 35 = .ok (.iconst 0, 1) := dk_3 (dk_at dksX4_layOut_1 11 rfl rfl)
theorem dX4_layOut_36 : decode cX4_layOut 36 = .ok (.putfield 223, 3) := dk_181 0 223 (dk_at dksX4_layOut_1 12 rfl rfl)
theorem dX4_layOut_39 : decode cX4_layOut 39 = .ok (.aload_n 0, 1) := dk_42 (dk_at dksX4_layOut_1 15 rfl rfl)
theorem dX4_layOut_40 : decode cX4_layOut 40 = .ok (.iconst 0, 1) := dk_3 (dk_at dksX4_layOut_1 16 rfl rfl)
theorem dX4_layOut_41 : decode cX4_layOut 41 = .ok (.putfield 226, 3) := dk_181 0 226 (dk_at dksX4_layOut_1 17 rfl rfl)
theorem dX4_layOut_44 : decode cX4_layOut 44 = .ok (.iload_n 3, 1) := dk_29 (dk_at dksX4_layOut_1 20 rfl rfl)
theorem dX4_layOut_45 : decode cX4_layOut 45 = .ok (.sipush 10000, 3) := dk_17 39 16 (dk_at dksX4_layOut_1 21 rfl rfl)
theorem dX4_layOut_48 : decode cX4_layOut 48 = .ok (.idiv, 1) := dk_108 (dk_at dksX4_layOut_2 0 rfl rfl)
theorem dX4_layOut_49 : decode cX4_layOut 49 = .ok (.istore 5, 2) := dk_54 5 (dk_at dksX4_layOut_2 1 rfl rfl)
theorem dX4_layOut_51 : decode cX4_layOut 51 = .ok (.iload_n 3, 1) := dk_29 (dk_at dksX4_layOut_2 3 rfl rfl)
theorem dX4_layOut_52 : decode cX4_layOut 52 = .ok (.sipush 10000, 3) := dk_17 39 16 (dk_at dksX4_layOut_2 4 rfl rfl)
theorem dX4_layOut_55 : decode cX4_layOut 55 = .ok (.irem, 1) := dk_112 (dk_at dksX4_layOut_2 7 rfl rfl)
theorem dX4_layOut_56 : decode cX4_layOut 56 = .ok (.istore 6, 2) := dk_54 6 (dk_at dksX4_layOut_2 8 rfl rfl)
theorem dX4_layOut_58 : decode cX4_layOut 58 = .ok (.iload_n 2, 1) := dk_28 (dk_at dksX4_layOut_2 10 rfl rfl)
theorem dX4_layOut_59 : decode cX4_layOut 59 = .ok (.tableswitch 133 0 5 #[37, 85, 95, 105, 115, 124], 37) := by decide +kernel
theorem dX4_layOut_96 : decode cX4_layOut 96 = .ok (.aload_n 0, 1) := dk_42 (dk_at dksX4_layOut_4 0 rfl rfl)
theorem dX4_layOut_97 : decode cX4_layOut 97 = .ok (.iload 5, 2) := dk_21 5 (dk_at dksX4_layOut_4 1 rfl rfl)
theorem dX4_layOut_99 : decode cX4_layOut 99 = .ok (.iload 6, 2) := dk_21 6 (dk_at dksX4_layOut_4 3 rfl rfl)
theorem dX4_layOut_101 : decode cX4_layOut 101 = .ok (.invokevirtual 259, 3) := dk_182 1 3 (dk_at dksX4_layOut_4 5 rfl rfl)
theorem dX4_layOut_104 : decode cX4_layOut 104 = .ok (.ifCond .ne 5, 3) := dk_154 0 5 (dk_at dksX4_layOut_4 8 rfl rfl)
theorem dX4_layOut_107 : decode cX4_layOut 107 = .ok (.iconst 0, 1) := dk_3 (dk_at dksX4_layOut_4 11 rfl rfl)
theorem dX4_layOut_108 : decode cX4_layOut 108 = .ok (.ireturn, 1) := dk_172 (dk_at dksX4_layOut_4 12 rfl rfl)
theorem dX4_layOut_109 : decode cX4_layOut 109 = .ok (.aload_n 0, 1) := dk_42 (dk_at dksX4_layOut_4 13 rfl rfl)
theorem dX4_layOut_110 : decode cX4_layOut 110 = .ok (.iload 5, 2) := dk_21 5 (dk_at dksX4_layOut_4 14 rfl rfl)
theorem dX4_layOut_112 : decode cX4_layOut 112 = .ok (.iload 6, 2) := dk_21 6 (dk_at dksX4_layOut_4 16 rfl rfl)
theorem dX4_layOut_114 : decode cX4_layOut 114 = .ok (.imul, 1) := dk_104 (dk_at dksX4_layOut_4 18 rfl rfl)
theorem dX4_layOut_115 : decode cX4_layOut 115 = .ok (.putfield 226, 3) := dk_181 0 226 (dk_at dksX4_layOut_4 19 rfl rfl)
theorem dX4_layOut_118 : decode cX4_layOut 118 = .ok (.aload_n 0, 1) := dk_42 (dk_at dksX4_layOut_4 22 rfl rfl)
theorem dX4_layOut_119 : decode cX4_layOut 119 = .ok (.iconst 0, 1) := dk_3 (dk_at dksX4_layOut_4 23 rfl rfl)
theorem dX4_layOut_120 : decode cX4_layOut 120 = .ok (.aload_n 0, 1) := dk_42 (dk_at dksX4_layOut_5 0 rfl rfl)
theorem dX4_layOut_121 : decode cX4_layOut 121 = .ok (.getfield 226, 3) := dk_180 0 226 (dk_at dksX4_layOut_5 1 rfl rfl)
theorem dX4_layOut_124 : decode cX4_layOut 124 = .ok (.iload 5, 2) := dk_21 5 (dk_at dksX4_layOut_5 4 rfl rfl)
theorem dX4_layOut_126 : decode cX4_layOut 126 = .ok (.iload 6, 2) := dk_21 6 (dk_at dksX4_layOut_5 6 rfl rfl)
theorem dX4_layOut_128 : decode cX4_layOut 128 = .ok (.if_icmp .ge 8, 3) := dk_162 0 8 (dk_at dksX4_layOut_5 8 rfl rfl)
theorem dX4_layOut_131 : decode cX4_layOut 131 = .ok (.iload 5, 2) := dk_21 5 (dk_at dksX4_layOut_5 11 rfl rfl)
theorem dX4_layOut_133 : decode cX4_layOut 133 = .ok (.goto 5, 3) := dk_167 0 5 (dk_at dksX4_layOut_5 13 rfl rfl)
theorem dX4_layOut_136 : decode cX4_layOut 136 = .ok (.iload 6, 2) := dk_21 6 (dk_at dksX4_layOut_5 16 rfl rfl)
theorem dX4_layOut_138 : decode cX4_layOut 138 = .ok (.iconst 0, 1) := dk_3 (dk_at dksX4_layOut_5 18 rfl rfl)
theorem dX4_layOut_139 : decode cX4_layOut 139 = .ok (.invokevirtual 229, 3) := dk_182 0 229 (dk_at dksX4_layOut_5 19 rfl rfl)
theorem dX4_layOut_142 : decode cX4_layOut 142 = .ok (.iconst 1, 1) := dk_4 (dk_at dksX4_layOut_5 22 rfl rfl)
theorem dX4_layOut_143 : decode cX4_layOut 143 = .ok (.ireturn, 1) := dk_172 (dk_at dksX4_layOut_5 23 rfl rfl)
theorem dX4_layOut_144 : decode cX4_layOut 144 = .ok (.aload_n 0, 1) := dk_42 (dk_at dksX4_layOut_6 0 rfl rfl)
theorem dX4_layOut_145 : decode cX4_layOut 145 = .ok (.iload 5, 2) := dk_21 5 (dk_at dksX4_layOut_6 1 rfl rfl)
theorem dX4_layOut_147 : decode cX4_layOut 147 = .ok (.iload 6, 2) := dk_21 6 (dk_at dksX4_layOut_6 3 rfl rfl)
theorem dX4_layOut_149 : decode cX4_layOut 149 = .ok (.invokevirtual 243, 3) := dk_182 0 243 (dk_at dksX4_layOut_6 5 rfl rfl)
theorem dX4_layOut_152 : decode cX4_layOut 152 = .ok (.iconst 1, 1) := dk_4 (dk_at dksX4_layOut_6 8 rfl rfl)
theorem dX4_layOut_153 : decode cX4_layOut 153 = .ok (.ireturn, 1) := dk_172 (dk_at dksX4_layOut_6 9 rfl rfl)
theorem dX4_layOut_154 : decode cX4_layOut 154 = .ok (.aload_n 0, 1) := dk_42 (dk_at dksX4_layOut_6 10 rfl rfl)
theorem dX4_layOut_155 : decode cX4_layOut 155 = .ok (.iload 5, 2) := dk_21 5 (dk_at dksX4_layOut_6 11 rfl rfl)
theorem dX4_layOut_157 : decode cX4_layOut 157 = .ok (.iload 6, 2) := dk_21 6 (dk_at dksX4_layOut_6 13 rfl rfl)
theorem dX4_layOut_159 : decode cX4_layOut 159 = .ok (.invokevirtual 262, 3) := dk_182 1 6 (dk_at dksX4_layOut_6 15 rfl rfl)
theorem dX4_layOut_162 : decode cX4_layOut 162 = .ok (.iconst 1, 1) := dk_4 (dk_at dksX4_layOut_6 18 rfl rfl)
theorem dX4_layOut_163 : decode cX4_layOut 163 = .ok (.ireturn, 1) := dk_172 (dk_at dksX4_layOut_6 19 rfl rfl)
theorem dX4_layOut_164 : decode cX4_layOut 164 = .ok (.aload_n 0, 1) := dk_42 (dk_at dksX4_layOut_6 20 rfl rfl)
theorem dX4_layOut_165 : decode cX4_layOut 165 = .ok (.iload 5, 2) := dk_21 5 (dk_at dksX4_layOut_6 21 rfl rfl)
theorem dX4_layOut_167 : decode cX4_layOut 167 = .ok (.iload 6, 2) := dk_21 6 (dk_at dksX4_layOut_7 0 rfl rfl)
theorem dX4_layOut_169 : decode cX4_layOut 169 = .ok (.invokevirtual 265, 3) := dk_182 1 9 (dk_at dksX4_layOut_7 2 rfl rfl)
theorem dX4_layOut_172 : decode cX4_layOut 172 = .ok (.iconst 1, 1) := dk_4 (dk_at dksX4_layOut_7 5 rfl rfl)
theorem dX4_layOut_173 : decode cX4_layOut 173 = .ok (.ireturn, 1) := dk_172 (dk_at dksX4_layOut_7 6 rfl rfl)
theorem dX4_layOut_174 : decode cX4_layOut 174 = .ok (.aload_n 0, 1) := dk_42 (dk_at dksX4_layOut_7 7 rfl rfl)
theorem dX4_layOut_175 : decode cX4_layOut 175 = .ok (.iload 5, 2) := dk_21 5 (dk_at dksX4_layOut_7 8 rfl rfl)
theorem dX4_layOut_177 : decode cX4_layOut 177 = .ok (.iload 6, 2) := dk_21 6 (dk_at dksX4_layOut_7 10 rfl rfl)
theorem dX4_layOut_179 : decode cX4_layOut 179 = .ok (.invokevirtual 268, 3) := dk_182 1 12 (dk_at dksX4_layOut_7 12 rfl rfl)
theorem dX4_layOut_182 : decode cX4_layOut 182 = .ok (.ireturn, 1) := dk_172 (dk_at dksX4_layOut_7 15 rfl rfl)
theorem dX4_layOut_183 : decode cX4_layOut 183 = .ok (.aload_n 0, 1) := dk_42 (dk_at dksX4_layOut_7 16 rfl rfl)
theorem dX4_layOut_184 : decode cX4_layOut 184 = .ok (.iload 5, 2) := dk_21 5 (dk_at dksX4_layOut_7 17 rfl rfl)
theorem dX4_layOut_186 : decode cX4_layOut 186 = .ok (.iload 6, 2) := dk_21 6 (dk_at dksX4_layOut_7 19 rfl rfl)
theorem dX4_layOut_188 : decode cX4_layOut 188 = .ok (.invokevirtual 271, 3) := dk_182 1 15 (dk_at dksX4_layOut_7 21 rfl rfl)
theorem dX4_layOut_191 : decode cX4_layOut 191 = .ok (.ireturn, 1) := dk_172 (dk_at dksX4_layOut_8 0 rfl rfl)
theorem dX4_layOut_192 : decode cX4_layOut 192 = .ok (.aload_n 0, 1) := dk_42 (dk_at dksX4_layOut_8 1 rfl rfl)
theorem dX4_layOut_193 : decode cX4_layOut 193 = .ok (.iload 6, 2) := dk_21 6 (dk_at dksX4_layOut_8 2 rfl rfl)
theorem dX4_layOut_195 : decode cX4_layOut 195 = .ok (.iload 5, 2) := dk_21 5 (dk_at dksX4_layOut_8 4 rfl rfl)
theorem dX4_layOut_197 : decode cX4_layOut 197 = .ok (.invokevirtual 262, 3) := dk_182 1 6 (dk_at dksX4_layOut_8 6 rfl rfl)
theorem dX4_layOut_200 : decode cX4_layOut 200 = .ok (.iconst 1, 1) := dk_4 (dk_at dksX4_layOut_8 9 rfl rfl)
theorem dX4_layOut_201 : decode cX4_layOut 201 = .ok (.ireturn, 1) := dk_172 (dk_at dksX4_layOut_8 10 rfl rfl)
abbrev cX4_isKnown : ByteArray := prog_34_method_45_code
def yX4_isKnown : MethodName := ⟨RX4, "isKnown", "(II)Z"⟩
def dkwX4_isKnown_1 : List UInt8 := [27, 104, 28, 96, 182, 1, 0, 153, 0, 7, 4, 167, 0, 4, 3, 172]
abbrev dktX4_isKnown_1 : List UInt8 := dkwX4_isKnown_1 ++ []
def dkwX4_isKnown_0 : List UInt8 := [27, 42, 180, 0, 253, 163, 0, 11, 28, 42, 180, 0, 253, 164, 0, 21, 42, 42, 180, 0, 217, 17, 39, 16]
abbrev dktX4_isKnown_0 : List UInt8 := dkwX4_isKnown_0 ++ dktX4_isKnown_1
theorem dksX4_isKnown_0 : cX4_isKnown.data.toList.drop 0 = dktX4_isKnown_0 := by decide +kernel
theorem dksX4_isKnown_1 : cX4_isKnown.data.toList.drop 24 = dktX4_isKnown_1 := dk_seg dksX4_isKnown_0 24 rfl rfl
theorem dX4_isKnown_0 : decode cX4_isKnown 0 = .ok (.iload_n 1, 1) := dk_27 (dk_at dksX4_isKnown_0 0 rfl rfl)
theorem dX4_isKnown_1 : decode cX4_isKnown 1 = .ok (.aload_n 0, 1) := dk_42 (dk_at dksX4_isKnown_0 1 rfl rfl)
theorem dX4_isKnown_2 : decode cX4_isKnown 2 = .ok (.getfield 253, 3) := dk_180 0 253 (dk_at dksX4_isKnown_0 2 rfl rfl)
theorem dX4_isKnown_5 : decode cX4_isKnown 5 = .ok (.if_icmp .gt 11, 3) := dk_163 0 11 (dk_at dksX4_isKnown_0 5 rfl rfl)
theorem dX4_isKnown_8 : decode cX4_isKnown 8 = .ok (.iload_n 2, 1) := dk_28 (dk_at dksX4_isKnown_0 8 rfl rfl)
theorem dX4_isKnown_9 : decode cX4_isKnown 9 = .ok (.aload_n 0, 1) := dk_42 (dk_at dksX4_isKnown_0 9 rfl rfl)
theorem dX4_isKnown_10 : decode cX4_isKnown 10 = .ok (.getfield 253, 3) := dk_180 0 253 (dk_at dksX4_isKnown_0 10 rfl rfl)
theorem dX4_isKnown_13 : decode cX4_isKnown 13 = .ok (.if_icmp .le 21, 3) := dk_164 0 21 (dk_at dksX4_isKnown_0 13 rfl rfl)
theorem dX4_isKnown_16 : decode cX4_isKnown 16 = .ok (.aload_n 0, 1) := dk_42 (dk_at dksX4_isKnown_0 16 rfl rfl)
theorem dX4_isKnown_17 : decode cX4_isKnown 17 = .ok (.aload_n 0, 1) := dk_42 (dk_at dksX4_isKnown_0 17 rfl rfl)
theorem dX4_isKnown_18 : decode cX4_isKnown 18 = .ok (.getfield 217, 3) := dk_180 0 217 (dk_at dksX4_isKnown_0 18 rfl rfl)
theorem dX4_isKnown_21 : decode cX4_isKnown 21 = .ok (.sipush 10000, 3) := dk_17 39 16 (dk_at dksX4_isKnown_0 21 rfl rfl)
theorem dX4_isKnown_24 : decode cX4_isKnown 24 = .ok (.iload_n 1, 1) := dk_27 (dk_at dksX4_isKnown_1 0 rfl rfl)
theorem dX4_isKnown_25 : decode cX4_isKnown 25 = .ok (.imul, 1) := dk_104 (dk_at dksX4_isKnown_1 1 rfl rfl)
theorem dX4_isKnown_26 : decode cX4_isKnown 26 = .ok (.iload_n 2, 1) := dk_28 (dk_at dksX4_isKnown_1 2 rfl rfl)
theorem dX4_isKnown_27 : decode cX4_isKnown 27 = .ok (.iadd, 1) := dk_96 (dk_at dksX4_isKnown_1 3 rfl rfl)
theorem dX4_isKnown_28 : decode cX4_isKnown 28 = .ok (.invokevirtual 256, 3) := dk_182 1 0 (dk_at dksX4_isKnown_1 4 rfl rfl)
theorem dX4_isKnown_31 : decode cX4_isKnown 31 = .ok (.ifCond .eq 7, 3) := dk_153 0 7 (dk_at dksX4_isKnown_1 7 rfl rfl)
theorem dX4_isKnown_34 : decode cX4_isKnown 34 = .ok (.iconst 1, 1) := dk_4 (dk_at dksX4_isKnown_1 10 rfl rfl)
theorem dX4_isKnown_35 : decode cX4_isKnown 35 = .ok (.goto 4, 3) := dk_167 0 4 (dk_at dksX4_isKnown_1 11 rfl rfl)
theorem dX4_isKnown_38 : decode cX4_isKnown 38 = .ok (.iconst 0, 1) := dk_3 (dk_at dksX4_isKnown_1 14 rfl rfl)
theorem dX4_isKnown_39 : decode cX4_isKnown 39 = .ok (.ireturn, 1) := dk_172 (dk_at dksX4_isKnown_1 15 rfl rfl)
abbrev cX4_isLearnt : ByteArray := prog_34_method_30_code
def yX4_isLearnt : MethodName := ⟨RX4, "isLearnt", "(II)Z"⟩
def dkwX4_isLearnt_1 : List UInt8 := [180, 0, 40, 16, 60, 27, 104, 29, 96, 46, 6, 161, 0, 7, 4, 167, 0, 4, 3, 172]
abbrev dktX4_isLearnt_1 : List UInt8 := dkwX4_isLearnt_1 ++ []
def dkwX4_isLearnt_0 : List UInt8 := [28, 184, 0, 202, 153, 0, 12, 42, 27, 28, 182, 0, 205, 167, 0, 4, 2, 62, 29, 155, 0, 22, 42]
abbrev dktX4_isLearnt_0 : List UInt8 := dkwX4_isLearnt_0 ++ dktX4_isLearnt_1
theorem dksX4_isLearnt_0 : cX4_isLearnt.data.toList.drop 0 = dktX4_isLearnt_0 := by decide +kernel
theorem dksX4_isLearnt_1 : cX4_isLearnt.data.toList.drop 23 = dktX4_isLearnt_1 := dk_seg dksX4_isLearnt_0 23 rfl rfl
theorem dX4_isLearnt_0 : decode cX4_isLearnt 0 = .ok (.iload_n 2, 1) := dk_28 (dk_at dksX4_isLearnt_0 0 rfl rfl)
theorem dX4_isLearnt_1 : decode cX4_isLearnt 1 = .ok (.invokestatic 202, 3) := dk_184 0 202 (dk_at dksX4_isLearnt_0 1 rfl rfl)
theorem dX4_isLearnt_4 : decode cX4_isLearnt 4 = .ok (.ifCond .eq 12, 3) := dk_153 0 12 (dk_at dksX4_isLearnt_0 4 rfl rfl)
theorem dX4_isLearnt_7 : decode cX4_isLearnt 7 = .ok (.aload_n 0, 1) := dk_42 (dk_at dksX4_isLearnt_0 7 rfl rfl)
theorem dX4_isLearnt_8 : decode cX4_isLearnt 8 = .ok (.iload_n 1, 1) := dk_27 (dk_at dksX4_isLearnt_0 8 rfl rfl)
theorem dX4_isLearnt_9 : decode cX4_isLearnt 9 = .ok (.iload_n 2, 1) := dk_28 (dk_at dksX4_isLearnt_0 9 rfl rfl)
theorem dX4_isLearnt_10 : decode cX4_isLearnt 10 = .ok (.invokevirtual 205, 3) := dk_182 0 205 (dk_at dksX4_isLearnt_0 10 rfl rfl)
theorem dX4_isLearnt_13 : decode cX4_isLearnt 13 = .ok (.goto 4, 3) := dk_167 0 4 (dk_at dksX4_isLearnt_0 13 rfl rfl)
theorem dX4_isLearnt_16 : decode cX4_isLearnt 16 = .ok (.iconst (-1), 1) := dk_2 (dk_at dksX4_isLearnt_0 16 rfl rfl)
theorem dX4_isLearnt_17 : decode cX4_isLearnt 17 = .ok (.istore_n 3, 1) := dk_62 (dk_at dksX4_isLearnt_0 17 rfl rfl)
theorem dX4_isLearnt_18 : decode cX4_isLearnt 18 = .ok (.iload_n 3, 1) := dk_29 (dk_at dksX4_isLearnt_0 18 rfl rfl)
theorem dX4_isLearnt_19 : decode cX4_isLearnt 19 = .ok (.ifCond .lt 22, 3) := dk_155 0 22 (dk_at dksX4_isLearnt_0 19 rfl rfl)
theorem dX4_isLearnt_22 : decode cX4_isLearnt 22 = .ok (.aload_n 0, 1) := dk_42 (dk_at dksX4_isLearnt_0 22 rfl rfl)
theorem dX4_isLearnt_23 : decode cX4_isLearnt 23 = .ok (.getfield 40, 3) := dk_180 0 40 (dk_at dksX4_isLearnt_1 0 rfl rfl)
theorem dX4_isLearnt_26 : decode cX4_isLearnt 26 = .ok (.bipush 60, 2) := dk_16 60 (dk_at dksX4_isLearnt_1 3 rfl rfl)
theorem dX4_isLearnt_28 : decode cX4_isLearnt 28 = .ok (.iload_n 1, 1) := dk_27 (dk_at dksX4_isLearnt_1 5 rfl rfl)
theorem dX4_isLearnt_29 : decode cX4_isLearnt 29 = .ok (.imul, 1) := dk_104 (dk_at dksX4_isLearnt_1 6 rfl rfl)
theorem dX4_isLearnt_30 : decode cX4_isLearnt 30 = .ok (.iload_n 3, 1) := dk_29 (dk_at dksX4_isLearnt_1 7 rfl rfl)
theorem dX4_isLearnt_31 : decode cX4_isLearnt 31 = .ok (.iadd, 1) := dk_96 (dk_at dksX4_isLearnt_1 8 rfl rfl)
theorem dX4_isLearnt_32 : decode cX4_isLearnt 32 = .ok (.iaload, 1) := dk_46 (dk_at dksX4_isLearnt_1 9 rfl rfl)
theorem dX4_isLearnt_33 : decode cX4_isLearnt 33 = .ok (.iconst 3, 1) := dk_6 (dk_at dksX4_isLearnt_1 10 rfl rfl)
theorem dX4_isLearnt_34 : decode cX4_isLearnt 34 = .ok (.if_icmp .lt 7, 3) := dk_161 0 7 (dk_at dksX4_isLearnt_1 11 rfl rfl)
theorem dX4_isLearnt_37 : decode cX4_isLearnt 37 = .ok (.iconst 1, 1) := dk_4 (dk_at dksX4_isLearnt_1 14 rfl rfl)
theorem dX4_isLearnt_38 : decode cX4_isLearnt 38 = .ok (.goto 4, 3) := dk_167 0 4 (dk_at dksX4_isLearnt_1 15 rfl rfl)
theorem dX4_isLearnt_41 : decode cX4_isLearnt 41 = .ok (.iconst 0, 1) := dk_3 (dk_at dksX4_isLearnt_1 18 rfl rfl)
theorem dX4_isLearnt_42 : decode cX4_isLearnt 42 = .ok (.ireturn, 1) := dk_172 (dk_at dksX4_isLearnt_1 19 rfl rfl)
abbrev cX4_acts : ByteArray := prog_34_method_37_code
def yX4_acts : MethodName := ⟨RX4, "acts", "(IIII)V"⟩
def dkwX4_acts_5 : List UInt8 := [181, 0, 214, 177]
abbrev dktX4_acts_5 : List UInt8 := dkwX4_acts_5 ++ []
def dkwX4_acts_4 : List UInt8 := [42, 180, 0, 55, 21, 5, 29, 79, 42, 180, 0, 58, 21, 5, 21, 4, 79, 42, 89, 180, 0, 214, 4, 96]
abbrev dktX4_acts_4 : List UInt8 := dkwX4_acts_4 ++ dktX4_acts_5
def dkwX4_acts_3 : List UInt8 := [184, 0, 220, 104, 79, 42, 180, 0, 52, 21, 5, 42, 180, 0, 223, 42, 180, 0, 226, 184, 0, 220, 96, 79]
abbrev dktX4_acts_3 : List UInt8 := dkwX4_acts_3 ++ dktX4_acts_4
def dkwX4_acts_2 : List UInt8 := [154, 0, 8, 21, 6, 167, 0, 23, 21, 6, 27, 5, 160, 0, 11, 28, 154, 0, 7, 4, 167, 0, 7, 28]
abbrev dktX4_acts_2 : List UInt8 := dkwX4_acts_2 ++ dktX4_acts_3
def dkwX4_acts_1 : List UInt8 := [180, 0, 43, 21, 5, 27, 79, 42, 180, 0, 46, 21, 5, 28, 79, 42, 180, 0, 49, 21, 5, 27]
abbrev dktX4_acts_1 : List UInt8 := dkwX4_acts_1 ++ dktX4_acts_2
def dkwX4_acts_0 : List UInt8 := [42, 180, 0, 214, 54, 5, 42, 180, 0, 9, 8, 42, 180, 0, 217, 104, 27, 96, 46, 54, 6, 42]
abbrev dktX4_acts_0 : List UInt8 := dkwX4_acts_0 ++ dktX4_acts_1
theorem dksX4_acts_0 : cX4_acts.data.toList.drop 0 = dktX4_acts_0 := by decide +kernel
theorem dksX4_acts_1 : cX4_acts.data.toList.drop 22 = dktX4_acts_1 := dk_seg dksX4_acts_0 22 rfl rfl
theorem dksX4_acts_2 : cX4_acts.data.toList.drop 44 = dktX4_acts_2 := dk_seg dksX4_acts_1 22 rfl rfl
theorem dksX4_acts_3 : cX4_acts.data.toList.drop 68 = dktX4_acts_3 := dk_seg dksX4_acts_2 24 rfl rfl
theorem dksX4_acts_4 : cX4_acts.data.toList.drop 92 = dktX4_acts_4 := dk_seg dksX4_acts_3 24 rfl rfl
theorem dksX4_acts_5 : cX4_acts.data.toList.drop 116 = dktX4_acts_5 := dk_seg dksX4_acts_4 24 rfl rfl
theorem dX4_acts_0 : decode cX4_acts 0 = .ok (.aload_n 0, 1) := dk_42 (dk_at dksX4_acts_0 0 rfl rfl)
theorem dX4_acts_1 : decode cX4_acts 1 = .ok (.getfield 214, 3) := dk_180 0 214 (dk_at dksX4_acts_0 1 rfl rfl)
theorem dX4_acts_4 : decode cX4_acts 4 = .ok (.istore 5, 2) := dk_54 5 (dk_at dksX4_acts_0 4 rfl rfl)
theorem dX4_acts_6 : decode cX4_acts 6 = .ok (.aload_n 0, 1) := dk_42 (dk_at dksX4_acts_0 6 rfl rfl)
theorem dX4_acts_7 : decode cX4_acts 7 = .ok (.getfield 9, 3) := dk_180 0 9 (dk_at dksX4_acts_0 7 rfl rfl)
theorem dX4_acts_10 : decode cX4_acts 10 = .ok (.iconst 5, 1) := dk_8 (dk_at dksX4_acts_0 10 rfl rfl)
theorem dX4_acts_11 : decode cX4_acts 11 = .ok (.aload_n 0, 1) := dk_42 (dk_at dksX4_acts_0 11 rfl rfl)
theorem dX4_acts_12 : decode cX4_acts 12 = .ok (.getfield 217, 3) := dk_180 0 217 (dk_at dksX4_acts_0 12 rfl rfl)
theorem dX4_acts_15 : decode cX4_acts 15 = .ok (.imul, 1) := dk_104 (dk_at dksX4_acts_0 15 rfl rfl)
theorem dX4_acts_16 : decode cX4_acts 16 = .ok (.iload_n 1, 1) := dk_27 (dk_at dksX4_acts_0 16 rfl rfl)
theorem dX4_acts_17 : decode cX4_acts 17 = .ok (.iadd, 1) := dk_96 (dk_at dksX4_acts_0 17 rfl rfl)
theorem dX4_acts_18 : decode cX4_acts 18 = .ok (.iaload, 1) := dk_46 (dk_at dksX4_acts_0 18 rfl rfl)
theorem dX4_acts_19 : decode cX4_acts 19 = .ok (.istore 6, 2) := dk_54 6 (dk_at dksX4_acts_0 19 rfl rfl)
theorem dX4_acts_21 : decode cX4_acts 21 = .ok (.aload_n 0, 1) := dk_42 (dk_at dksX4_acts_0 21 rfl rfl)
theorem dX4_acts_22 : decode cX4_acts 22 = .ok (.getfield 43, 3) := dk_180 0 43 (dk_at dksX4_acts_1 0 rfl rfl)
theorem dX4_acts_25 : decode cX4_acts 25 = .ok (.iload 5, 2) := dk_21 5 (dk_at dksX4_acts_1 3 rfl rfl)
theorem dX4_acts_27 : decode cX4_acts 27 = .ok (.iload_n 1, 1) := dk_27 (dk_at dksX4_acts_1 5 rfl rfl)
theorem dX4_acts_28 : decode cX4_acts 28 = .ok (.iastore, 1) := dk_79 (dk_at dksX4_acts_1 6 rfl rfl)
theorem dX4_acts_29 : decode cX4_acts 29 = .ok (.aload_n 0, 1) := dk_42 (dk_at dksX4_acts_1 7 rfl rfl)
theorem dX4_acts_30 : decode cX4_acts 30 = .ok (.getfield 46, 3) := dk_180 0 46 (dk_at dksX4_acts_1 8 rfl rfl)
theorem dX4_acts_33 : decode cX4_acts 33 = .ok (.iload 5, 2) := dk_21 5 (dk_at dksX4_acts_1 11 rfl rfl)
theorem dX4_acts_35 : decode cX4_acts 35 = .ok (.iload_n 2, 1) := dk_28 (dk_at dksX4_acts_1 13 rfl rfl)
theorem dX4_acts_36 : decode cX4_acts 36 = .ok (.iastore, 1) := dk_79 (dk_at dksX4_acts_1 14 rfl rfl)
theorem dX4_acts_37 : decode cX4_acts 37 = .ok (.aload_n 0, 1) := dk_42 (dk_at dksX4_acts_1 15 rfl rfl)
theorem dX4_acts_38 : decode cX4_acts 38 = .ok (.getfield 49, 3) := dk_180 0 49 (dk_at dksX4_acts_1 16 rfl rfl)
theorem dX4_acts_41 : decode cX4_acts 41 = .ok (.iload 5, 2) := dk_21 5 (dk_at dksX4_acts_1 19 rfl rfl)
theorem dX4_acts_43 : decode cX4_acts 43 = .ok (.iload_n 1, 1) := dk_27 (dk_at dksX4_acts_1 21 rfl rfl)
theorem dX4_acts_44 : decode cX4_acts 44 = .ok (.ifCond .ne 8, 3) := dk_154 0 8 (dk_at dksX4_acts_2 0 rfl rfl)
theorem dX4_acts_47 : decode cX4_acts 47 = .ok (.iload 6, 2) := dk_21 6 (dk_at dksX4_acts_2 3 rfl rfl)
theorem dX4_acts_49 : decode cX4_acts 49 = .ok (.goto 23, 3) := dk_167 0 23 (dk_at dksX4_acts_2 5 rfl rfl)
theorem dX4_acts_52 : decode cX4_acts 52 = .ok (.iload 6, 2) := dk_21 6 (dk_at dksX4_acts_2 8 rfl rfl)
theorem dX4_acts_54 : decode cX4_acts 54 = .ok (.iload_n 1, 1) := dk_27 (dk_at dksX4_acts_2 10 rfl rfl)
theorem dX4_acts_55 : decode cX4_acts 55 = .ok (.iconst 2, 1) := dk_5 (dk_at dksX4_acts_2 11 rfl rfl)
theorem dX4_acts_56 : decode cX4_acts 56 = .ok (.if_icmp .ne 11, 3) := dk_160 0 11 (dk_at dksX4_acts_2 12 rfl rfl)
theorem dX4_acts_59 : decode cX4_acts 59 = .ok (.iload_n 2, 1) := dk_28 (dk_at dksX4_acts_2 15 rfl rfl)
theorem dX4_acts_60 : decode cX4_acts 60 = .ok (.ifCond .ne 7, 3) := dk_154 0 7 (dk_at dksX4_acts_2 16 rfl rfl)
theorem dX4_acts_63 : decode cX4_acts 63 = .ok (.iconst 1, 1) := dk_4 (dk_at dksX4_acts_2 19 rfl rfl)
theorem dX4_acts_64 : decode cX4_acts 64 = .ok (.goto 7, 3) := dk_167 0 7 (dk_at dksX4_acts_2 20 rfl rfl)
theorem dX4_acts_67 : decode cX4_acts 67 = .ok (.iload_n 2, 1) := dk_28 (dk_at dksX4_acts_2 23 rfl rfl)
theorem dX4_acts_68 : decode cX4_acts 68 = .ok (.invokestatic 220, 3) := dk_184 0 220 (dk_at dksX4_acts_3 0 rfl rfl)
theorem dX4_acts_71 : decode cX4_acts 71 = .ok (.imul, 1) := dk_104 (dk_at dksX4_acts_3 3 rfl rfl)
theorem dX4_acts_72 : decode cX4_acts 72 = .ok (.iastore, 1) := dk_79 (dk_at dksX4_acts_3 4 rfl rfl)
theorem dX4_acts_73 : decode cX4_acts 73 = .ok (.aload_n 0, 1) := dk_42 (dk_at dksX4_acts_3 5 rfl rfl)
theorem dX4_acts_74 : decode cX4_acts 74 = .ok (.getfield 52, 3) := dk_180 0 52 (dk_at dksX4_acts_3 6 rfl rfl)
theorem dX4_acts_77 : decode cX4_acts 77 = .ok (.iload 5, 2) := dk_21 5 (dk_at dksX4_acts_3 9 rfl rfl)
theorem dX4_acts_79 : decode cX4_acts 79 = .ok (.aload_n 0, 1) := dk_42 (dk_at dksX4_acts_3 11 rfl rfl)
theorem dX4_acts_80 : decode cX4_acts 80 = .ok (.getfield 223, 3) := dk_180 0 223 (dk_at dksX4_acts_3 12 rfl rfl)
theorem dX4_acts_83 : decode cX4_acts 83 = .ok (.aload_n 0, 1) := dk_42 (dk_at dksX4_acts_3 15 rfl rfl)
theorem dX4_acts_84 : decode cX4_acts 84 = .ok (.getfield 226, 3) := dk_180 0 226 (dk_at dksX4_acts_3 16 rfl rfl)
theorem dX4_acts_87 : decode cX4_acts 87 = .ok (.invokestatic 220, 3) := dk_184 0 220 (dk_at dksX4_acts_3 19 rfl rfl)
theorem dX4_acts_90 : decode cX4_acts 90 = .ok (.iadd, 1) := dk_96 (dk_at dksX4_acts_3 22 rfl rfl)
theorem dX4_acts_91 : decode cX4_acts 91 = .ok (.iastore, 1) := dk_79 (dk_at dksX4_acts_3 23 rfl rfl)
theorem dX4_acts_92 : decode cX4_acts 92 = .ok (.aload_n 0, 1) := dk_42 (dk_at dksX4_acts_4 0 rfl rfl)
theorem dX4_acts_93 : decode cX4_acts 93 = .ok (.getfield 55, 3) := dk_180 0 55 (dk_at dksX4_acts_4 1 rfl rfl)
theorem dX4_acts_96 : decode cX4_acts 96 = .ok (.iload 5, 2) := dk_21 5 (dk_at dksX4_acts_4 4 rfl rfl)
theorem dX4_acts_98 : decode cX4_acts 98 = .ok (.iload_n 3, 1) := dk_29 (dk_at dksX4_acts_4 6 rfl rfl)
theorem dX4_acts_99 : decode cX4_acts 99 = .ok (.iastore, 1) := dk_79 (dk_at dksX4_acts_4 7 rfl rfl)
theorem dX4_acts_100 : decode cX4_acts 100 = .ok (.aload_n 0, 1) := dk_42 (dk_at dksX4_acts_4 8 rfl rfl)
theorem dX4_acts_101 : decode cX4_acts 101 = .ok (.getfield 58, 3) := dk_180 0 58 (dk_at dksX4_acts_4 9 rfl rfl)
theorem dX4_acts_104 : decode cX4_acts 104 = .ok (.iload 5, 2) := dk_21 5 (dk_at dksX4_acts_4 12 rfl rfl)
theorem dX4_acts_106 : decode cX4_acts 106 = .ok (.iload 4, 2) := dk_21 4 (dk_at dksX4_acts_4 14 rfl rfl)
theorem dX4_acts_108 : decode cX4_acts 108 = .ok (.iastore, 1) := dk_79 (dk_at dksX4_acts_4 16 rfl rfl)
theorem dX4_acts_109 : decode cX4_acts 109 = .ok (.aload_n 0, 1) := dk_42 (dk_at dksX4_acts_4 17 rfl rfl)
theorem dX4_acts_110 : decode cX4_acts 110 = .ok (.dup, 1) := dk_89 (dk_at dksX4_acts_4 18 rfl rfl)
theorem dX4_acts_111 : decode cX4_acts 111 = .ok (.getfield 214, 3) := dk_180 0 214 (dk_at dksX4_acts_4 19 rfl rfl)
theorem dX4_acts_114 : decode cX4_acts 114 = .ok (.iconst 1, 1) := dk_4 (dk_at dksX4_acts_4 22 rfl rfl)
theorem dX4_acts_115 : decode cX4_acts 115 = .ok (.iadd, 1) := dk_96 (dk_at dksX4_acts_4 23 rfl rfl)
theorem dX4_acts_116 : decode cX4_acts 116 = .ok (.putfield 214, 3) := dk_181 0 214 (dk_at dksX4_acts_5 0 rfl rfl)
theorem dX4_acts_119 : decode cX4_acts 119 = .ok (.return_, 1) := dk_177 (dk_at dksX4_acts_5 3 rfl rfl)
abbrev cX4_digits : ByteArray := prog_34_method_34_code
def yX4_digits : MethodName := ⟨RX4, "digits", "(I)I"⟩
def dkwX4_digits_0 : List UInt8 := [3, 60, 26, 61, 28, 158, 0, 14, 132, 1, 1, 28, 16, 10, 108, 61, 167, 255, 244, 27, 172]
abbrev dktX4_digits_0 : List UInt8 := dkwX4_digits_0 ++ []
theorem dksX4_digits_0 : cX4_digits.data.toList.drop 0 = dktX4_digits_0 := by decide +kernel
theorem dX4_digits_0 : decode cX4_digits 0 = .ok (.iconst 0, 1) := dk_3 (dk_at dksX4_digits_0 0 rfl rfl)
theorem dX4_digits_1 : decode cX4_digits 1 = .ok (.istore_n 1, 1) := dk_60 (dk_at dksX4_digits_0 1 rfl rfl)
theorem dX4_digits_2 : decode cX4_digits 2 = .ok (.iload_n 0, 1) := dk_26 (dk_at dksX4_digits_0 2 rfl rfl)
theorem dX4_digits_3 : decode cX4_digits 3 = .ok (.istore_n 2, 1) := dk_61 (dk_at dksX4_digits_0 3 rfl rfl)
theorem dX4_digits_4 : decode cX4_digits 4 = .ok (.iload_n 2, 1) := dk_28 (dk_at dksX4_digits_0 4 rfl rfl)
theorem dX4_digits_5 : decode cX4_digits 5 = .ok (.ifCond .le 14, 3) := dk_158 0 14 (dk_at dksX4_digits_0 5 rfl rfl)
theorem dX4_digits_8 : decode cX4_digits 8 = .ok (.iinc 1 1, 3) := dk_132 1 1 (dk_at dksX4_digits_0 8 rfl rfl)
theorem dX4_digits_11 : decode cX4_digits 11 = .ok (.iload_n 2, 1) := dk_28 (dk_at dksX4_digits_0 11 rfl rfl)
theorem dX4_digits_12 : decode cX4_digits 12 = .ok (.bipush 10, 2) := dk_16 10 (dk_at dksX4_digits_0 12 rfl rfl)
theorem dX4_digits_14 : decode cX4_digits 14 = .ok (.idiv, 1) := dk_108 (dk_at dksX4_digits_0 14 rfl rfl)
theorem dX4_digits_15 : decode cX4_digits 15 = .ok (.istore_n 2, 1) := dk_61 (dk_at dksX4_digits_0 15 rfl rfl)
theorem dX4_digits_16 : decode cX4_digits 16 = .ok (.goto (-12), 3) := dk_167 255 244 (dk_at dksX4_digits_0 16 rfl rfl)
theorem dX4_digits_19 : decode cX4_digits 19 = .ok (.iload_n 1, 1) := dk_27 (dk_at dksX4_digits_0 19 rfl rfl)
theorem dX4_digits_20 : decode cX4_digits 20 = .ok (.ireturn, 1) := dk_172 (dk_at dksX4_digits_0 20 rfl rfl)
abbrev cX4_goLeft : ByteArray := prog_34_method_40_code
def yX4_goLeft : MethodName := ⟨RX4, "goLeft", "(II)V"⟩
def dkwX4_goLeft_3 : List UInt8 := [132, 5, 255, 167, 255, 206, 132, 4, 255, 167, 255, 187, 177]
abbrev dktX4_goLeft_3 : List UInt8 := dkwX4_goLeft_3 ++ []
def dkwX4_goLeft_2 : List UInt8 := [27, 21, 4, 184, 0, 236, 28, 21, 5, 184, 0, 236, 21, 4, 21, 5, 96, 29, 3, 182, 0, 239, 62]
abbrev dktX4_goLeft_2 : List UInt8 := dkwX4_goLeft_2 ++ dktX4_goLeft_3
def dkwX4_goLeft_1 : List UInt8 := [21, 5, 155, 0, 51, 27, 21, 4, 184, 0, 236, 158, 0, 36, 28, 21, 5, 184, 0, 236, 158, 0, 27, 42]
abbrev dktX4_goLeft_1 : List UInt8 := dkwX4_goLeft_1 ++ dktX4_goLeft_2
def dkwX4_goLeft_0 : List UInt8 := [4, 62, 27, 184, 0, 220, 4, 100, 54, 4, 21, 4, 155, 0, 70, 28, 184, 0, 220, 4, 100, 54, 5]
abbrev dktX4_goLeft_0 : List UInt8 := dkwX4_goLeft_0 ++ dktX4_goLeft_1
theorem dksX4_goLeft_0 : cX4_goLeft.data.toList.drop 0 = dktX4_goLeft_0 := by decide +kernel
theorem dksX4_goLeft_1 : cX4_goLeft.data.toList.drop 23 = dktX4_goLeft_1 := dk_seg dksX4_goLeft_0 23 rfl rfl
theorem dksX4_goLeft_2 : cX4_goLeft.data.toList.drop 47 = dktX4_goLeft_2 := dk_seg dksX4_goLeft_1 24 rfl rfl
theorem dksX4_goLeft_3 : cX4_goLeft.data.toList.drop 70 = dktX4_goLeft_3 := dk_seg dksX4_goLeft_2 23 rfl rfl
theorem dX4_goLeft_0 : decode cX4_goLeft 0 = .ok (.iconst 1, 1) := dk_4 (dk_at dksX4_goLeft_0 0 rfl rfl)
theorem dX4_goLeft_1 : decode cX4_goLeft 1 = .ok (.istore_n 3, 1) := dk_62 (dk_at dksX4_goLeft_0 1 rfl rfl)
theorem dX4_goLeft_2 : decode cX4_goLeft 2 = .ok (.iload_n 1, 1) := dk_27 (dk_at dksX4_goLeft_0 2 rfl rfl)
theorem dX4_goLeft_3 : decode cX4_goLeft 3 = .ok (.invokestatic 220, 3) := dk_184 0 220 (dk_at dksX4_goLeft_0 3 rfl rfl)
theorem dX4_goLeft_6 : decode cX4_goLeft 6 = .ok (.iconst 1, 1) := dk_4 (dk_at dksX4_goLeft_0 6 rfl rfl)
theorem dX4_goLeft_7 : decode cX4_goLeft 7 = .ok (.isub, 1) := dk_100 (dk_at dksX4_goLeft_0 7 rfl rfl)
theorem dX4_goLeft_8 : decode cX4_goLeft 8 = .ok (.istore 4, 2) := dk_54 4 (dk_at dksX4_goLeft_0 8 rfl rfl)
theorem dX4_goLeft_10 : decode cX4_goLeft 10 = .ok (.iload 4, 2) := dk_21 4 (dk_at dksX4_goLeft_0 10 rfl rfl)
theorem dX4_goLeft_12 : decode cX4_goLeft 12 = .ok (.ifCond .lt 70, 3) := dk_155 0 70 (dk_at dksX4_goLeft_0 12 rfl rfl)
theorem dX4_goLeft_15 : decode cX4_goLeft 15 = .ok (.iload_n 2, 1) := dk_28 (dk_at dksX4_goLeft_0 15 rfl rfl)
theorem dX4_goLeft_16 : decode cX4_goLeft 16 = .ok (.invokestatic 220, 3) := dk_184 0 220 (dk_at dksX4_goLeft_0 16 rfl rfl)
theorem dX4_goLeft_19 : decode cX4_goLeft 19 = .ok (.iconst 1, 1) := dk_4 (dk_at dksX4_goLeft_0 19 rfl rfl)
theorem dX4_goLeft_20 : decode cX4_goLeft 20 = .ok (.isub, 1) := dk_100 (dk_at dksX4_goLeft_0 20 rfl rfl)
theorem dX4_goLeft_21 : decode cX4_goLeft 21 = .ok (.istore 5, 2) := dk_54 5 (dk_at dksX4_goLeft_0 21 rfl rfl)
theorem dX4_goLeft_23 : decode cX4_goLeft 23 = .ok (.iload 5, 2) := dk_21 5 (dk_at dksX4_goLeft_1 0 rfl rfl)
theorem dX4_goLeft_25 : decode cX4_goLeft 25 = .ok (.ifCond .lt 51, 3) := dk_155 0 51 (dk_at dksX4_goLeft_1 2 rfl rfl)
theorem dX4_goLeft_28 : decode cX4_goLeft 28 = .ok (.iload_n 1, 1) := dk_27 (dk_at dksX4_goLeft_1 5 rfl rfl)
theorem dX4_goLeft_29 : decode cX4_goLeft 29 = .ok (.iload 4, 2) := dk_21 4 (dk_at dksX4_goLeft_1 6 rfl rfl)
theorem dX4_goLeft_31 : decode cX4_goLeft 31 = .ok (.invokestatic 236, 3) := dk_184 0 236 (dk_at dksX4_goLeft_1 8 rfl rfl)
theorem dX4_goLeft_34 : decode cX4_goLeft 34 = .ok (.ifCond .le 36, 3) := dk_158 0 36 (dk_at dksX4_goLeft_1 11 rfl rfl)
theorem dX4_goLeft_37 : decode cX4_goLeft 37 = .ok (.iload_n 2, 1) := dk_28 (dk_at dksX4_goLeft_1 14 rfl rfl)
theorem dX4_goLeft_38 : decode cX4_goLeft 38 = .ok (.iload 5, 2) := dk_21 5 (dk_at dksX4_goLeft_1 15 rfl rfl)
theorem dX4_goLeft_40 : decode cX4_goLeft 40 = .ok (.invokestatic 236, 3) := dk_184 0 236 (dk_at dksX4_goLeft_1 17 rfl rfl)
theorem dX4_goLeft_43 : decode cX4_goLeft 43 = .ok (.ifCond .le 27, 3) := dk_158 0 27 (dk_at dksX4_goLeft_1 20 rfl rfl)
theorem dX4_goLeft_46 : decode cX4_goLeft 46 = .ok (.aload_n 0, 1) := dk_42 (dk_at dksX4_goLeft_1 23 rfl rfl)
theorem dX4_goLeft_47 : decode cX4_goLeft 47 = .ok (.iload_n 1, 1) := dk_27 (dk_at dksX4_goLeft_2 0 rfl rfl)
theorem dX4_goLeft_48 : decode cX4_goLeft 48 = .ok (.iload 4, 2) := dk_21 4 (dk_at dksX4_goLeft_2 1 rfl rfl)
theorem dX4_goLeft_50 : decode cX4_goLeft 50 = .ok (.invokestatic 236, 3) := dk_184 0 236 (dk_at dksX4_goLeft_2 3 rfl rfl)
theorem dX4_goLeft_53 : decode cX4_goLeft 53 = .ok (.iload_n 2, 1) := dk_28 (dk_at dksX4_goLeft_2 6 rfl rfl)
theorem dX4_goLeft_54 : decode cX4_goLeft 54 = .ok (.iload 5, 2) := dk_21 5 (dk_at dksX4_goLeft_2 7 rfl rfl)
theorem dX4_goLeft_56 : decode cX4_goLeft 56 = .ok (.invokestatic 236, 3) := dk_184 0 236 (dk_at dksX4_goLeft_2 9 rfl rfl)
theorem dX4_goLeft_59 : decode cX4_goLeft 59 = .ok (.iload 4, 2) := dk_21 4 (dk_at dksX4_goLeft_2 12 rfl rfl)
theorem dX4_goLeft_61 : decode cX4_goLeft 61 = .ok (.iload 5, 2) := dk_21 5 (dk_at dksX4_goLeft_2 14 rfl rfl)
theorem dX4_goLeft_63 : decode cX4_goLeft 63 = .ok (.iadd, 1) := dk_96 (dk_at dksX4_goLeft_2 16 rfl rfl)
theorem dX4_goLeft_64 : decode cX4_goLeft 64 = .ok (.iload_n 3, 1) := dk_29 (dk_at dksX4_goLeft_2 17 rfl rfl)
theorem dX4_goLeft_65 : decode cX4_goLeft 65 = .ok (.iconst 0, 1) := dk_3 (dk_at dksX4_goLeft_2 18 rfl rfl)
theorem dX4_goLeft_66 : decode cX4_goLeft 66 = .ok (.invokevirtual 239, 3) := dk_182 0 239 (dk_at dksX4_goLeft_2 19 rfl rfl)
theorem dX4_goLeft_69 : decode cX4_goLeft 69 = .ok (.istore_n 3, 1) := dk_62 (dk_at dksX4_goLeft_2 22 rfl rfl)
theorem dX4_goLeft_70 : decode cX4_goLeft 70 = .ok (.iinc 5 (-1), 3) := dk_132 5 255 (dk_at dksX4_goLeft_3 0 rfl rfl)
theorem dX4_goLeft_73 : decode cX4_goLeft 73 = .ok (.goto (-50), 3) := dk_167 255 206 (dk_at dksX4_goLeft_3 3 rfl rfl)
theorem dX4_goLeft_76 : decode cX4_goLeft 76 = .ok (.iinc 4 (-1), 3) := dk_132 4 255 (dk_at dksX4_goLeft_3 6 rfl rfl)
theorem dX4_goLeft_79 : decode cX4_goLeft 79 = .ok (.goto (-69), 3) := dk_167 255 187 (dk_at dksX4_goLeft_3 9 rfl rfl)
theorem dX4_goLeft_82 : decode cX4_goLeft 82 = .ok (.return_, 1) := dk_177 (dk_at dksX4_goLeft_3 12 rfl rfl)
abbrev cX4_figure : ByteArray := prog_34_method_35_code
def yX4_figure : MethodName := ⟨RX4, "figure", "(II)I"⟩
def dkwX4_figure_1 : List UInt8 := [172]
abbrev dktX4_figure_1 : List UInt8 := dkwX4_figure_1 ++ []
def dkwX4_figure_0 : List UInt8 := [26, 61, 3, 62, 29, 27, 162, 0, 14, 28, 16, 10, 108, 61, 132, 3, 1, 167, 255, 243, 28, 16, 10, 112]
abbrev dktX4_figure_0 : List UInt8 := dkwX4_figure_0 ++ dktX4_figure_1
theorem dksX4_figure_0 : cX4_figure.data.toList.drop 0 = dktX4_figure_0 := by decide +kernel
theorem dksX4_figure_1 : cX4_figure.data.toList.drop 24 = dktX4_figure_1 := dk_seg dksX4_figure_0 24 rfl rfl
theorem dX4_figure_0 : decode cX4_figure 0 = .ok (.iload_n 0, 1) := dk_26 (dk_at dksX4_figure_0 0 rfl rfl)
theorem dX4_figure_1 : decode cX4_figure 1 = .ok (.istore_n 2, 1) := dk_61 (dk_at dksX4_figure_0 1 rfl rfl)
theorem dX4_figure_2 : decode cX4_figure 2 = .ok (.iconst 0, 1) := dk_3 (dk_at dksX4_figure_0 2 rfl rfl)
theorem dX4_figure_3 : decode cX4_figure 3 = .ok (.istore_n 3, 1) := dk_62 (dk_at dksX4_figure_0 3 rfl rfl)
theorem dX4_figure_4 : decode cX4_figure 4 = .ok (.iload_n 3, 1) := dk_29 (dk_at dksX4_figure_0 4 rfl rfl)
theorem dX4_figure_5 : decode cX4_figure 5 = .ok (.iload_n 1, 1) := dk_27 (dk_at dksX4_figure_0 5 rfl rfl)
theorem dX4_figure_6 : decode cX4_figure 6 = .ok (.if_icmp .ge 14, 3) := dk_162 0 14 (dk_at dksX4_figure_0 6 rfl rfl)
theorem dX4_figure_9 : decode cX4_figure 9 = .ok (.iload_n 2, 1) := dk_28 (dk_at dksX4_figure_0 9 rfl rfl)
theorem dX4_figure_10 : decode cX4_figure 10 = .ok (.bipush 10, 2) := dk_16 10 (dk_at dksX4_figure_0 10 rfl rfl)
theorem dX4_figure_12 : decode cX4_figure 12 = .ok (.idiv, 1) := dk_108 (dk_at dksX4_figure_0 12 rfl rfl)
theorem dX4_figure_13 : decode cX4_figure 13 = .ok (.istore_n 2, 1) := dk_61 (dk_at dksX4_figure_0 13 rfl rfl)
theorem dX4_figure_14 : decode cX4_figure 14 = .ok (.iinc 3 1, 3) := dk_132 3 1 (dk_at dksX4_figure_0 14 rfl rfl)
theorem dX4_figure_17 : decode cX4_figure 17 = .ok (.goto (-13), 3) := dk_167 255 243 (dk_at dksX4_figure_0 17 rfl rfl)
theorem dX4_figure_20 : decode cX4_figure 20 = .ok (.iload_n 2, 1) := dk_28 (dk_at dksX4_figure_0 20 rfl rfl)
theorem dX4_figure_21 : decode cX4_figure 21 = .ok (.bipush 10, 2) := dk_16 10 (dk_at dksX4_figure_0 21 rfl rfl)
theorem dX4_figure_23 : decode cX4_figure 23 = .ok (.irem, 1) := dk_112 (dk_at dksX4_figure_0 23 rfl rfl)
theorem dX4_figure_24 : decode cX4_figure 24 = .ok (.ireturn, 1) := dk_172 (dk_at dksX4_figure_1 0 rfl rfl)
abbrev cX4_lookAndAdd : ByteArray := prog_34_method_39_code
def yX4_lookAndAdd : MethodName := ⟨RX4, "lookAndAdd", "(IIIZI)Z"⟩
def dkwX4_lookAndAdd_3 : List UInt8 := [180, 0, 226, 3, 21, 5, 182, 0, 229, 3, 172]
abbrev dktX4_lookAndAdd_3 : List UInt8 := dkwX4_lookAndAdd_3 ++ []
def dkwX4_lookAndAdd_2 : List UInt8 := [182, 0, 229, 21, 4, 154, 0, 26, 42, 89, 180, 0, 226, 21, 6, 96, 181, 0, 226, 42, 4, 42]
abbrev dktX4_lookAndAdd_2 : List UInt8 := dkwX4_lookAndAdd_2 ++ dktX4_lookAndAdd_3
def dkwX4_lookAndAdd_1 : List UInt8 := [21, 6, 27, 28, 162, 0, 7, 27, 167, 0, 4, 28, 29, 184, 0, 233, 104, 21, 5, 184, 0, 233, 104, 3]
abbrev dktX4_lookAndAdd_1 : List UInt8 := dkwX4_lookAndAdd_1 ++ dktX4_lookAndAdd_2
def dkwX4_lookAndAdd_0 : List UInt8 := [27, 28, 104, 29, 184, 0, 233, 104, 54, 6, 21, 4, 153, 0, 9, 42, 21, 6, 181, 0, 226, 42, 3]
abbrev dktX4_lookAndAdd_0 : List UInt8 := dkwX4_lookAndAdd_0 ++ dktX4_lookAndAdd_1
theorem dksX4_lookAndAdd_0 : cX4_lookAndAdd.data.toList.drop 0 = dktX4_lookAndAdd_0 := by decide +kernel
theorem dksX4_lookAndAdd_1 : cX4_lookAndAdd.data.toList.drop 23 = dktX4_lookAndAdd_1 := dk_seg dksX4_lookAndAdd_0 23 rfl rfl
theorem dksX4_lookAndAdd_2 : cX4_lookAndAdd.data.toList.drop 47 = dktX4_lookAndAdd_2 := dk_seg dksX4_lookAndAdd_1 24 rfl rfl
theorem dksX4_lookAndAdd_3 : cX4_lookAndAdd.data.toList.drop 69 = dktX4_lookAndAdd_3 := dk_seg dksX4_lookAndAdd_2 22 rfl rfl
theorem dX4_lookAndAdd_0 : decode cX4_lookAndAdd 0 = .ok (.iload_n 1, 1) := dk_27 (dk_at dksX4_lookAndAdd_0 0 rfl rfl)
theorem dX4_lookAndAdd_1 : decode cX4_lookAndAdd 1 = .ok (.iload_n 2, 1) := dk_28 (dk_at dksX4_lookAndAdd_0 1 rfl rfl)
theorem dX4_lookAndAdd_2 : decode cX4_lookAndAdd 2 = .ok (.imul, 1) := dk_104 (dk_at dksX4_lookAndAdd_0 2 rfl rfl)
theorem dX4_lookAndAdd_3 : decode cX4_lookAndAdd 3 = .ok (.iload_n 3, 1) := dk_29 (dk_at dksX4_lookAndAdd_0 3 rfl rfl)
theorem dX4_lookAndAdd_4 : decode cX4_lookAndAdd 4 = .ok (.invokestatic 233, 3) := dk_184 0 233 (dk_at dksX4_lookAndAdd_0 4 rfl rfl)
theorem dX4_lookAndAdd_7 : decode cX4_lookAndAdd 7 = .ok (.imul, 1) := dk_104 (dk_at dksX4_lookAndAdd_0 7 rfl rfl)
theorem dX4_lookAndAdd_8 : decode cX4_lookAndAdd 8 = .ok (.istore 6, 2) := dk_54 6 (dk_at dksX4_lookAndAdd_0 8 rfl rfl)
theorem dX4_lookAndAdd_10 : decode cX4_lookAndAdd 10 = .ok (.iload 4, 2) := dk_21 4 (dk_at dksX4_lookAndAdd_0 10 rfl rfl)
theorem dX4_lookAndAdd_12 : decode cX4_lookAndAdd 12 = .ok (.ifCond .eq 9, 3) := dk_153 0 9 (dk_at dksX4_lookAndAdd_0 12 rfl rfl)
theorem dX4_lookAndAdd_15 : decode cX4_lookAndAdd 15 = .ok (.aload_n 0, 1) := dk_42 (dk_at dksX4_lookAndAdd_0 15 rfl rfl)
theorem dX4_lookAndAdd_16 : decode cX4_lookAndAdd 16 = .ok (.iload 6, 2) := dk_21 6 (dk_at dksX4_lookAndAdd_0 16 rfl rfl)
theorem dX4_lookAndAdd_18 : decode cX4_lookAndAdd 18 = .ok (.putfield 226, 3) := dk_181 0 226 (dk_at dksX4_lookAndAdd_0 18 rfl rfl)
theorem dX4_lookAndAdd_21 : decode cX4_lookAndAdd 21 = .ok (.aload_n 0, 1) := dk_42 (dk_at dksX4_lookAndAdd_0 21 rfl rfl)
theorem dX4_lookAndAdd_22 : decode cX4_lookAndAdd 22 = .ok (.iconst 0, 1) := dk_3 (dk_at dksX4_lookAndAdd_0 22 rfl rfl)
theorem dX4_lookAndAdd_23 : decode cX4_lookAndAdd 23 = .ok (.iload 6, 2) := dk_21 6 (dk_at dksX4_lookAndAdd_1 0 rfl rfl)
theorem dX4_lookAndAdd_25 : decode cX4_lookAndAdd 25 = .ok (.iload_n 1, 1) := dk_27 (dk_at dksX4_lookAndAdd_1 2 rfl rfl)
theorem dX4_lookAndAdd_26 : decode cX4_lookAndAdd 26 = .ok (.iload_n 2, 1) := dk_28 (dk_at dksX4_lookAndAdd_1 3 rfl rfl)
theorem dX4_lookAndAdd_27 : decode cX4_lookAndAdd 27 = .ok (.if_icmp .ge 7, 3) := dk_162 0 7 (dk_at dksX4_lookAndAdd_1 4 rfl rfl)
theorem dX4_lookAndAdd_30 : decode cX4_lookAndAdd 30 = .ok (.iload_n 1, 1) := dk_27 (dk_at dksX4_lookAndAdd_1 7 rfl rfl)
theorem dX4_lookAndAdd_31 : decode cX4_lookAndAdd 31 = .ok (.goto 4, 3) := dk_167 0 4 (dk_at dksX4_lookAndAdd_1 8 rfl rfl)
theorem dX4_lookAndAdd_34 : decode cX4_lookAndAdd 34 = .ok (.iload_n 2, 1) := dk_28 (dk_at dksX4_lookAndAdd_1 11 rfl rfl)
theorem dX4_lookAndAdd_35 : decode cX4_lookAndAdd 35 = .ok (.iload_n 3, 1) := dk_29 (dk_at dksX4_lookAndAdd_1 12 rfl rfl)
theorem dX4_lookAndAdd_36 : decode cX4_lookAndAdd 36 = .ok (.invokestatic 233, 3) := dk_184 0 233 (dk_at dksX4_lookAndAdd_1 13 rfl rfl)
theorem dX4_lookAndAdd_39 : decode cX4_lookAndAdd 39 = .ok (.imul, 1) := dk_104 (dk_at dksX4_lookAndAdd_1 16 rfl rfl)
theorem dX4_lookAndAdd_40 : decode cX4_lookAndAdd 40 = .ok (.iload 5, 2) := dk_21 5 (dk_at dksX4_lookAndAdd_1 17 rfl rfl)
theorem dX4_lookAndAdd_42 : decode cX4_lookAndAdd 42 = .ok (.invokestatic 233, 3) := dk_184 0 233 (dk_at dksX4_lookAndAdd_1 19 rfl rfl)
theorem dX4_lookAndAdd_45 : decode cX4_lookAndAdd 45 = .ok (.imul, 1) := dk_104 (dk_at dksX4_lookAndAdd_1 22 rfl rfl)
theorem dX4_lookAndAdd_46 : decode cX4_lookAndAdd 46 = .ok (.iconst 0, 1) := dk_3 (dk_at dksX4_lookAndAdd_1 23 rfl rfl)
theorem dX4_lookAndAdd_47 : decode cX4_lookAndAdd 47 = .ok (.invokevirtual 229, 3) := dk_182 0 229 (dk_at dksX4_lookAndAdd_2 0 rfl rfl)
theorem dX4_lookAndAdd_50 : decode cX4_lookAndAdd 50 = .ok (.iload 4, 2) := dk_21 4 (dk_at dksX4_lookAndAdd_2 3 rfl rfl)
theorem dX4_lookAndAdd_52 : decode cX4_lookAndAdd 52 = .ok (.ifCond .ne 26, 3) := dk_154 0 26 (dk_at dksX4_lookAndAdd_2 5 rfl rfl)
theorem dX4_lookAndAdd_55 : decode cX4_lookAndAdd 55 = .ok (.aload_n 0, 1) := dk_42 (dk_at dksX4_lookAndAdd_2 8 rfl rfl)
theorem dX4_lookAndAdd_56 : decode cX4_lookAndAdd 56 = .ok (.dup, 1) := dk_89 (dk_at dksX4_lookAndAdd_2 9 rfl rfl)
theorem dX4_lookAndAdd_57 : decode cX4_lookAndAdd 57 = .ok (.getfield 226, 3) := dk_180 0 226 (dk_at dksX4_lookAndAdd_2 10 rfl rfl)
theorem dX4_lookAndAdd_60 : decode cX4_lookAndAdd 60 = .ok (.iload 6, 2) := dk_21 6 (dk_at dksX4_lookAndAdd_2 13 rfl rfl)
theorem dX4_lookAndAdd_62 : decode cX4_lookAndAdd 62 = .ok (.iadd, 1) := dk_96 (dk_at dksX4_lookAndAdd_2 15 rfl rfl)
theorem dX4_lookAndAdd_63 : decode cX4_lookAndAdd 63 = .ok (.putfield 226, 3) := dk_181 0 226 (dk_at dksX4_lookAndAdd_2 16 rfl rfl)
theorem dX4_lookAndAdd_66 : decode cX4_lookAndAdd 66 = .ok (.aload_n 0, 1) := dk_42 (dk_at dksX4_lookAndAdd_2 19 rfl rfl)
theorem dX4_lookAndAdd_67 : decode cX4_lookAndAdd 67 = .ok (.iconst 1, 1) := dk_4 (dk_at dksX4_lookAndAdd_2 20 rfl rfl)
theorem dX4_lookAndAdd_68 : decode cX4_lookAndAdd 68 = .ok (.aload_n 0, 1) := dk_42 (dk_at dksX4_lookAndAdd_2 21 rfl rfl)
theorem dX4_lookAndAdd_69 : decode cX4_lookAndAdd 69 = .ok (.getfield 226, 3) := dk_180 0 226 (dk_at dksX4_lookAndAdd_3 0 rfl rfl)
theorem dX4_lookAndAdd_72 : decode cX4_lookAndAdd 72 = .ok (.iconst 0, 1) := dk_3 (dk_at dksX4_lookAndAdd_3 3 rfl rfl)
theorem dX4_lookAndAdd_73 : decode cX4_lookAndAdd 73 = .ok (.iload 5, 2) := dk_21 5 (dk_at dksX4_lookAndAdd_3 4 rfl rfl)
theorem dX4_lookAndAdd_75 : decode cX4_lookAndAdd 75 = .ok (.invokevirtual 229, 3) := dk_182 0 229 (dk_at dksX4_lookAndAdd_3 6 rfl rfl)
theorem dX4_lookAndAdd_78 : decode cX4_lookAndAdd 78 = .ok (.iconst 0, 1) := dk_3 (dk_at dksX4_lookAndAdd_3 9 rfl rfl)
theorem dX4_lookAndAdd_79 : decode cX4_lookAndAdd 79 = .ok (.ireturn, 1) := dk_172 (dk_at dksX4_lookAndAdd_3 10 rfl rfl)
abbrev cX4_tens : ByteArray := prog_34_method_36_code
def yX4_tens : MethodName := ⟨RX4, "tens", "(I)I"⟩
def dkwX4_tens_0 : List UInt8 := [4, 60, 3, 61, 28, 26, 162, 0, 14, 27, 16, 10, 104, 60, 132, 2, 1, 167, 255, 243, 27, 172]
abbrev dktX4_tens_0 : List UInt8 := dkwX4_tens_0 ++ []
theorem dksX4_tens_0 : cX4_tens.data.toList.drop 0 = dktX4_tens_0 := by decide +kernel
theorem dX4_tens_0 : decode cX4_tens 0 = .ok (.iconst 1, 1) := dk_4 (dk_at dksX4_tens_0 0 rfl rfl)
theorem dX4_tens_1 : decode cX4_tens 1 = .ok (.istore_n 1, 1) := dk_60 (dk_at dksX4_tens_0 1 rfl rfl)
theorem dX4_tens_2 : decode cX4_tens 2 = .ok (.iconst 0, 1) := dk_3 (dk_at dksX4_tens_0 2 rfl rfl)
theorem dX4_tens_3 : decode cX4_tens 3 = .ok (.istore_n 2, 1) := dk_61 (dk_at dksX4_tens_0 3 rfl rfl)
theorem dX4_tens_4 : decode cX4_tens 4 = .ok (.iload_n 2, 1) := dk_28 (dk_at dksX4_tens_0 4 rfl rfl)
theorem dX4_tens_5 : decode cX4_tens 5 = .ok (.iload_n 0, 1) := dk_26 (dk_at dksX4_tens_0 5 rfl rfl)
theorem dX4_tens_6 : decode cX4_tens 6 = .ok (.if_icmp .ge 14, 3) := dk_162 0 14 (dk_at dksX4_tens_0 6 rfl rfl)
theorem dX4_tens_9 : decode cX4_tens 9 = .ok (.iload_n 1, 1) := dk_27 (dk_at dksX4_tens_0 9 rfl rfl)
theorem dX4_tens_10 : decode cX4_tens 10 = .ok (.bipush 10, 2) := dk_16 10 (dk_at dksX4_tens_0 10 rfl rfl)
theorem dX4_tens_12 : decode cX4_tens 12 = .ok (.imul, 1) := dk_104 (dk_at dksX4_tens_0 12 rfl rfl)
theorem dX4_tens_13 : decode cX4_tens 13 = .ok (.istore_n 1, 1) := dk_60 (dk_at dksX4_tens_0 13 rfl rfl)
theorem dX4_tens_14 : decode cX4_tens 14 = .ok (.iinc 2 1, 3) := dk_132 2 1 (dk_at dksX4_tens_0 14 rfl rfl)
theorem dX4_tens_17 : decode cX4_tens 17 = .ok (.goto (-13), 3) := dk_167 255 243 (dk_at dksX4_tens_0 17 rfl rfl)
theorem dX4_tens_20 : decode cX4_tens 20 = .ok (.iload_n 1, 1) := dk_27 (dk_at dksX4_tens_0 20 rfl rfl)
theorem dX4_tens_21 : decode cX4_tens 21 = .ok (.ireturn, 1) := dk_172 (dk_at dksX4_tens_0 21 rfl rfl)
abbrev cX4_goRight : ByteArray := prog_34_method_41_code
def yX4_goRight : MethodName := ⟨RX4, "goRight", "(II)V"⟩
def dkwX4_goRight_6 : List UInt8 := [4, 42, 180, 0, 226, 3, 3, 182, 0, 229, 132, 4, 1, 167, 255, 201, 177]
abbrev dktX4_goRight_6 : List UInt8 := dkwX4_goRight_6 ++ []
def dkwX4_goRight_5 : List UInt8 := [96, 181, 0, 226, 42, 89, 180, 0, 223, 42, 180, 0, 61, 21, 4, 46, 184, 0, 220, 100, 181, 0, 223, 42]
abbrev dktX4_goRight_5 : List UInt8 := dkwX4_goRight_5 ++ dktX4_goRight_6
def dkwX4_goRight_4 : List UInt8 := [181, 0, 223, 4, 54, 4, 21, 4, 29, 162, 0, 55, 42, 89, 180, 0, 226, 42, 180, 0, 61, 21, 4, 46]
abbrev dktX4_goRight_4 : List UInt8 := dkwX4_goRight_4 ++ dktX4_goRight_5
def dkwX4_goRight_3 : List UInt8 := [42, 180, 0, 61, 3, 46, 181, 0, 226, 42, 89, 180, 0, 223, 42, 180, 0, 226, 184, 0, 220, 100]
abbrev dktX4_goRight_3 : List UInt8 := dkwX4_goRight_3 ++ dktX4_goRight_4
def dkwX4_goRight_2 : List UInt8 := [180, 0, 226, 79, 132, 3, 1, 42, 182, 0, 247, 132, 4, 1, 167, 255, 201, 29, 5, 162, 0, 4, 177, 42]
abbrev dktX4_goRight_2 : List UInt8 := dkwX4_goRight_2 ++ dktX4_goRight_3
def dkwX4_goRight_1 : List UInt8 := [27, 28, 21, 4, 184, 0, 236, 21, 4, 184, 0, 233, 104, 182, 0, 243, 42, 180, 0, 61, 29, 42]
abbrev dktX4_goRight_1 : List UInt8 := dkwX4_goRight_1 ++ dktX4_goRight_2
def dkwX4_goRight_0 : List UInt8 := [3, 62, 3, 54, 4, 21, 4, 28, 184, 0, 220, 162, 0, 52, 28, 21, 4, 184, 0, 236, 158, 0, 37, 42]
abbrev dktX4_goRight_0 : List UInt8 := dkwX4_goRight_0 ++ dktX4_goRight_1
theorem dksX4_goRight_0 : cX4_goRight.data.toList.drop 0 = dktX4_goRight_0 := by decide +kernel
theorem dksX4_goRight_1 : cX4_goRight.data.toList.drop 24 = dktX4_goRight_1 := dk_seg dksX4_goRight_0 24 rfl rfl
theorem dksX4_goRight_2 : cX4_goRight.data.toList.drop 46 = dktX4_goRight_2 := dk_seg dksX4_goRight_1 22 rfl rfl
theorem dksX4_goRight_3 : cX4_goRight.data.toList.drop 70 = dktX4_goRight_3 := dk_seg dksX4_goRight_2 24 rfl rfl
theorem dksX4_goRight_4 : cX4_goRight.data.toList.drop 92 = dktX4_goRight_4 := dk_seg dksX4_goRight_3 22 rfl rfl
theorem dksX4_goRight_5 : cX4_goRight.data.toList.drop 116 = dktX4_goRight_5 := dk_seg dksX4_goRight_4 24 rfl rfl
theorem dksX4_goRight_6 : cX4_goRight.data.toList.drop 140 = dktX4_goRight_6 := dk_seg dksX4_goRight_5 24 rfl rfl
theorem dX4_goRight_0 : decode cX4_goRight 0 = .ok (.iconst 0, 1) := dk_3 (dk_at dksX4_goRight_0 0 rfl rfl)
theorem dX4_goRight_1 : decode cX4_goRight 1 = .ok (.istore_n 3, 1) := dk_62 (dk_at dksX4_goRight_0 1 rfl rfl)
theorem dX4_goRight_2 : decode cX4_goRight 2 = .ok (.iconst 0, 1) := dk_3 (dk_at dksX4_goRight_0 2 rfl rfl)
theorem dX4_goRight_3 : decode cX4_goRight 3 = .ok (.istore 4, 2) := dk_54 4 (dk_at dksX4_goRight_0 3 rfl rfl)
theorem dX4_goRight_5 : decode cX4_goRight 5 = .ok (.iload 4, 2) := dk_21 4 (dk_at dksX4_goRight_0 5 rfl rfl)
theorem dX4_goRight_7 : decode cX4_goRight 7 = .ok (.iload_n 2, 1) := dk_28 (dk_at dksX4_goRight_0 7 rfl rfl)
theorem dX4_goRight_8 : decode cX4_goRight 8 = .ok (.invokestatic 220, 3) := dk_184 0 220 (dk_at dksX4_goRight_0 8 rfl rfl)
theorem dX4_goRight_11 : decode cX4_goRight 11 = .ok (.if_icmp .ge 52, 3) := dk_162 0 52 (dk_at dksX4_goRight_0 11 rfl rfl)
theorem dX4_goRight_14 : decode cX4_goRight 14 = .ok (.iload_n 2, 1) := dk_28 (dk_at dksX4_goRight_0 14 rfl rfl)
theorem dX4_goRight_15 : decode cX4_goRight 15 = .ok (.iload 4, 2) := dk_21 4 (dk_at dksX4_goRight_0 15 rfl rfl)
theorem dX4_goRight_17 : decode cX4_goRight 17 = .ok (.invokestatic 236, 3) := dk_184 0 236 (dk_at dksX4_goRight_0 17 rfl rfl)
theorem dX4_goRight_20 : decode cX4_goRight 20 = .ok (.ifCond .le 37, 3) := dk_158 0 37 (dk_at dksX4_goRight_0 20 rfl rfl)
theorem dX4_goRight_23 : decode cX4_goRight 23 = .ok (.aload_n 0, 1) := dk_42 (dk_at dksX4_goRight_0 23 rfl rfl)
theorem dX4_goRight_24 : decode cX4_goRight 24 = .ok (.iload_n 1, 1) := dk_27 (dk_at dksX4_goRight_1 0 rfl rfl)
theorem dX4_goRight_25 : decode cX4_goRight 25 = .ok (.iload_n 2, 1) := dk_28 (dk_at dksX4_goRight_1 1 rfl rfl)
theorem dX4_goRight_26 : decode cX4_goRight 26 = .ok (.iload 4, 2) := dk_21 4 (dk_at dksX4_goRight_1 2 rfl rfl)
theorem dX4_goRight_28 : decode cX4_goRight 28 = .ok (.invokestatic 236, 3) := dk_184 0 236 (dk_at dksX4_goRight_1 4 rfl rfl)
theorem dX4_goRight_31 : decode cX4_goRight 31 = .ok (.iload 4, 2) := dk_21 4 (dk_at dksX4_goRight_1 7 rfl rfl)
theorem dX4_goRight_33 : decode cX4_goRight 33 = .ok (.invokestatic 233, 3) := dk_184 0 233 (dk_at dksX4_goRight_1 9 rfl rfl)
theorem dX4_goRight_36 : decode cX4_goRight 36 = .ok (.imul, 1) := dk_104 (dk_at dksX4_goRight_1 12 rfl rfl)
theorem dX4_goRight_37 : decode cX4_goRight 37 = .ok (.invokevirtual 243, 3) := dk_182 0 243 (dk_at dksX4_goRight_1 13 rfl rfl)
theorem dX4_goRight_40 : decode cX4_goRight 40 = .ok (.aload_n 0, 1) := dk_42 (dk_at dksX4_goRight_1 16 rfl rfl)
theorem dX4_goRight_41 : decode cX4_goRight 41 = .ok (.getfield 61, 3) := dk_180 0 61 (dk_at dksX4_goRight_1 17 rfl rfl)
theorem dX4_goRight_44 : decode cX4_goRight 44 = .ok (.iload_n 3, 1) := dk_29 (dk_at dksX4_goRight_1 20 rfl rfl)
theorem dX4_goRight_45 : decode cX4_goRight 45 = .ok (.aload_n 0, 1) := dk_42 (dk_at dksX4_goRight_1 21 rfl rfl)
theorem dX4_goRight_46 : decode cX4_goRight 46 = .ok (.getfield 226, 3) := dk_180 0 226 (dk_at dksX4_goRight_2 0 rfl rfl)
theorem dX4_goRight_49 : decode cX4_goRight 49 = .ok (.iastore, 1) := dk_79 (dk_at dksX4_goRight_2 3 rfl rfl)
theorem dX4_goRight_50 : decode cX4_goRight 50 = .ok (.iinc 3 1, 3) := dk_132 3 1 (dk_at dksX4_goRight_2 4 rfl rfl)
theorem dX4_goRight_53 : decode cX4_goRight 53 = .ok (.aload_n 0, 1) := dk_42 (dk_at dksX4_goRight_2 7 rfl rfl)
theorem dX4_goRight_54 : decode cX4_goRight 54 = .ok (.invokevirtual 247, 3) := dk_182 0 247 (dk_at dksX4_goRight_2 8 rfl rfl)
theorem dX4_goRight_57 : decode cX4_goRight 57 = .ok (.iinc 4 1, 3) := dk_132 4 1 (dk_at dksX4_goRight_2 11 rfl rfl)
theorem dX4_goRight_60 : decode cX4_goRight 60 = .ok (.goto (-55), 3) := dk_167 255 201 (dk_at dksX4_goRight_2 14 rfl rfl)
theorem dX4_goRight_63 : decode cX4_goRight 63 = .ok (.iload_n 3, 1) := dk_29 (dk_at dksX4_goRight_2 17 rfl rfl)
theorem dX4_goRight_64 : decode cX4_goRight 64 = .ok (.iconst 2, 1) := dk_5 (dk_at dksX4_goRight_2 18 rfl rfl)
theorem dX4_goRight_65 : decode cX4_goRight 65 = .ok (.if_icmp .ge 4, 3) := dk_162 0 4 (dk_at dksX4_goRight_2 19 rfl rfl)
theorem dX4_goRight_68 : decode cX4_goRight 68 = .ok (.return_, 1) := dk_177 (dk_at dksX4_goRight_2 22 rfl rfl)
theorem dX4_goRight_69 : decode cX4_goRight 69 = .ok (.aload_n 0, 1) := dk_42 (dk_at dksX4_goRight_2 23 rfl rfl)
theorem dX4_goRight_70 : decode cX4_goRight 70 = .ok (.aload_n 0, 1) := dk_42 (dk_at dksX4_goRight_3 0 rfl rfl)
theorem dX4_goRight_71 : decode cX4_goRight 71 = .ok (.getfield 61, 3) := dk_180 0 61 (dk_at dksX4_goRight_3 1 rfl rfl)
theorem dX4_goRight_74 : decode cX4_goRight 74 = .ok (.iconst 0, 1) := dk_3 (dk_at dksX4_goRight_3 4 rfl rfl)
theorem dX4_goRight_75 : decode cX4_goRight 75 = .ok (.iaload, 1) := dk_46 (dk_at dksX4_goRight_3 5 rfl rfl)
theorem dX4_goRight_76 : decode cX4_goRight 76 = .ok (.putfield 226, 3) := dk_181 0 226 (dk_at dksX4_goRight_3 6 rfl rfl)
theorem dX4_goRight_79 : decode cX4_goRight 79 = .ok (.aload_n 0, 1) := dk_42 (dk_at dksX4_goRight_3 9 rfl rfl)
theorem dX4_goRight_80 : decode cX4_goRight 80 = .ok (.dup, 1) := dk_89 (dk_at dksX4_goRight_3 10 rfl rfl)
theorem dX4_goRight_81 : decode cX4_goRight 81 = .ok (.getfield 223, 3) := dk_180 0 223 (dk_at dksX4_goRight_3 11 rfl rfl)
theorem dX4_goRight_84 : decode cX4_goRight 84 = .ok (.aload_n 0, 1) := dk_42 (dk_at dksX4_goRight_3 14 rfl rfl)
theorem dX4_goRight_85 : decode cX4_goRight 85 = .ok (.getfield 226, 3) := dk_180 0 226 (dk_at dksX4_goRight_3 15 rfl rfl)
theorem dX4_goRight_88 : decode cX4_goRight 88 = .ok (.invokestatic 220, 3) := dk_184 0 220 (dk_at dksX4_goRight_3 18 rfl rfl)
theorem dX4_goRight_91 : decode cX4_goRight 91 = .ok (.isub, 1) := dk_100 (dk_at dksX4_goRight_3 21 rfl rfl)
theorem dX4_goRight_92 : decode cX4_goRight 92 = .ok (.putfield 223, 3) := dk_181 0 223 (dk_at dksX4_goRight_4 0 rfl rfl)
theorem dX4_goRight_95 : decode cX4_goRight 95 = .ok (.iconst 1, 1) := dk_4 (dk_at dksX4_goRight_4 3 rfl rfl)
theorem dX4_goRight_96 : decode cX4_goRight 96 = .ok (.istore 4, 2) := dk_54 4 (dk_at dksX4_goRight_4 4 rfl rfl)
theorem dX4_goRight_98 : decode cX4_goRight 98 = .ok (.iload 4, 2) := dk_21 4 (dk_at dksX4_goRight_4 6 rfl rfl)
theorem dX4_goRight_100 : decode cX4_goRight 100 = .ok (.iload_n 3, 1) := dk_29 (dk_at dksX4_goRight_4 8 rfl rfl)
theorem dX4_goRight_101 : decode cX4_goRight 101 = .ok (.if_icmp .ge 55, 3) := dk_162 0 55 (dk_at dksX4_goRight_4 9 rfl rfl)
theorem dX4_goRight_104 : decode cX4_goRight 104 = .ok (.aload_n 0, 1) := dk_42 (dk_at dksX4_goRight_4 12 rfl rfl)
theorem dX4_goRight_105 : decode cX4_goRight 105 = .ok (.dup, 1) := dk_89 (dk_at dksX4_goRight_4 13 rfl rfl)
theorem dX4_goRight_106 : decode cX4_goRight 106 = .ok (.getfield 226, 3) := dk_180 0 226 (dk_at dksX4_goRight_4 14 rfl rfl)
theorem dX4_goRight_109 : decode cX4_goRight 109 = .ok (.aload_n 0, 1) := dk_42 (dk_at dksX4_goRight_4 17 rfl rfl)
theorem dX4_goRight_110 : decode cX4_goRight 110 = .ok (.getfield 61, 3) := dk_180 0 61 (dk_at dksX4_goRight_4 18 rfl rfl)
theorem dX4_goRight_113 : decode cX4_goRight 113 = .ok (.iload 4, 2) := dk_21 4 (dk_at dksX4_goRight_4 21 rfl rfl)
theorem dX4_goRight_115 : decode cX4_goRight 115 = .ok (.iaload, 1) := dk_46 (dk_at dksX4_goRight_4 23 rfl rfl)
theorem dX4_goRight_116 : decode cX4_goRight 116 = .ok (.iadd, 1) := dk_96 (dk_at dksX4_goRight_5 0 rfl rfl)
theorem dX4_goRight_117 : decode cX4_goRight 117 = .ok (.putfield 226, 3) := dk_181 0 226 (dk_at dksX4_goRight_5 1 rfl rfl)
theorem dX4_goRight_120 : decode cX4_goRight 120 = .ok (.aload_n 0, 1) := dk_42 (dk_at dksX4_goRight_5 4 rfl rfl)
theorem dX4_goRight_121 : decode cX4_goRight 121 = .ok (.dup, 1) := dk_89 (dk_at dksX4_goRight_5 5 rfl rfl)
theorem dX4_goRight_122 : decode cX4_goRight 122 = .ok (.getfield 223, 3) := dk_180 0 223 (dk_at dksX4_goRight_5 6 rfl rfl)
theorem dX4_goRight_125 : decode cX4_goRight 125 = .ok (.aload_n 0, 1) := dk_42 (dk_at dksX4_goRight_5 9 rfl rfl)
theorem dX4_goRight_126 : decode cX4_goRight 126 = .ok (.getfield 61, 3) := dk_180 0 61 (dk_at dksX4_goRight_5 10 rfl rfl)
theorem dX4_goRight_129 : decode cX4_goRight 129 = .ok (.iload 4, 2) := dk_21 4 (dk_at dksX4_goRight_5 13 rfl rfl)
theorem dX4_goRight_131 : decode cX4_goRight 131 = .ok (.iaload, 1) := dk_46 (dk_at dksX4_goRight_5 15 rfl rfl)
theorem dX4_goRight_132 : decode cX4_goRight 132 = .ok (.invokestatic 220, 3) := dk_184 0 220 (dk_at dksX4_goRight_5 16 rfl rfl)
theorem dX4_goRight_135 : decode cX4_goRight 135 = .ok (.isub, 1) := dk_100 (dk_at dksX4_goRight_5 19 rfl rfl)
theorem dX4_goRight_136 : decode cX4_goRight 136 = .ok (.putfield 223, 3) := dk_181 0 223 (dk_at dksX4_goRight_5 20 rfl rfl)
theorem dX4_goRight_139 : decode cX4_goRight 139 = .ok (.aload_n 0, 1) := dk_42 (dk_at dksX4_goRight_5 23 rfl rfl)
theorem dX4_goRight_140 : decode cX4_goRight 140 = .ok (.iconst 1, 1) := dk_4 (dk_at dksX4_goRight_6 0 rfl rfl)
theorem dX4_goRight_141 : decode cX4_goRight 141 = .ok (.aload_n 0, 1) := dk_42 (dk_at dksX4_goRight_6 1 rfl rfl)
theorem dX4_goRight_142 : decode cX4_goRight 142 = .ok (.getfield 226, 3) := dk_180 0 226 (dk_at dksX4_goRight_6 2 rfl rfl)
theorem dX4_goRight_145 : decode cX4_goRight 145 = .ok (.iconst 0, 1) := dk_3 (dk_at dksX4_goRight_6 5 rfl rfl)
theorem dX4_goRight_146 : decode cX4_goRight 146 = .ok (.iconst 0, 1) := dk_3 (dk_at dksX4_goRight_6 6 rfl rfl)
theorem dX4_goRight_147 : decode cX4_goRight 147 = .ok (.invokevirtual 229, 3) := dk_182 0 229 (dk_at dksX4_goRight_6 7 rfl rfl)
theorem dX4_goRight_150 : decode cX4_goRight 150 = .ok (.iinc 4 1, 3) := dk_132 4 1 (dk_at dksX4_goRight_6 10 rfl rfl)
theorem dX4_goRight_153 : decode cX4_goRight 153 = .ok (.goto (-55), 3) := dk_167 255 201 (dk_at dksX4_goRight_6 13 rfl rfl)
theorem dX4_goRight_156 : decode cX4_goRight 156 = .ok (.return_, 1) := dk_177 (dk_at dksX4_goRight_6 16 rfl rfl)
abbrev cX4_holds : ByteArray := prog_34_method_38_code
def yX4_holds : MethodName := ⟨RX4, "holds", "()V"⟩
def dkwX4_holds_1 : List UInt8 := [5, 27, 3, 3, 182, 0, 229, 177]
abbrev dktX4_holds_1 : List UInt8 := dkwX4_holds_1 ++ []
def dkwX4_holds_0 : List UInt8 := [42, 180, 0, 226, 60, 42, 89, 180, 0, 223, 27, 184, 0, 220, 96, 181, 0, 223, 42, 3, 181, 0, 226, 42]
abbrev dktX4_holds_0 : List UInt8 := dkwX4_holds_0 ++ dktX4_holds_1
theorem dksX4_holds_0 : cX4_holds.data.toList.drop 0 = dktX4_holds_0 := by decide +kernel
theorem dksX4_holds_1 : cX4_holds.data.toList.drop 24 = dktX4_holds_1 := dk_seg dksX4_holds_0 24 rfl rfl
theorem dX4_holds_0 : decode cX4_holds 0 = .ok (.aload_n 0, 1) := dk_42 (dk_at dksX4_holds_0 0 rfl rfl)
theorem dX4_holds_1 : decode cX4_holds 1 = .ok (.getfield 226, 3) := dk_180 0 226 (dk_at dksX4_holds_0 1 rfl rfl)
theorem dX4_holds_4 : decode cX4_holds 4 = .ok (.istore_n 1, 1) := dk_60 (dk_at dksX4_holds_0 4 rfl rfl)
theorem dX4_holds_5 : decode cX4_holds 5 = .ok (.aload_n 0, 1) := dk_42 (dk_at dksX4_holds_0 5 rfl rfl)
theorem dX4_holds_6 : decode cX4_holds 6 = .ok (.dup, 1) := dk_89 (dk_at dksX4_holds_0 6 rfl rfl)
theorem dX4_holds_7 : decode cX4_holds 7 = .ok (.getfield 223, 3) := dk_180 0 223 (dk_at dksX4_holds_0 7 rfl rfl)
theorem dX4_holds_10 : decode cX4_holds 10 = .ok (.iload_n 1, 1) := dk_27 (dk_at dksX4_holds_0 10 rfl rfl)
theorem dX4_holds_11 : decode cX4_holds 11 = .ok (.invokestatic 220, 3) := dk_184 0 220 (dk_at dksX4_holds_0 11 rfl rfl)
theorem dX4_holds_14 : decode cX4_holds 14 = .ok (.iadd, 1) := dk_96 (dk_at dksX4_holds_0 14 rfl rfl)
theorem dX4_holds_15 : decode cX4_holds 15 = .ok (.putfield 223, 3) := dk_181 0 223 (dk_at dksX4_holds_0 15 rfl rfl)
theorem dX4_holds_18 : decode cX4_holds 18 = .ok (.aload_n 0, 1) := dk_42 (dk_at dksX4_holds_0 18 rfl rfl)
theorem dX4_holds_19 : decode cX4_holds 19 = .ok (.iconst 0, 1) := dk_3 (dk_at dksX4_holds_0 19 rfl rfl)
theorem dX4_holds_20 : decode cX4_holds 20 = .ok (.putfield 226, 3) := dk_181 0 226 (dk_at dksX4_holds_0 20 rfl rfl)
theorem dX4_holds_23 : decode cX4_holds 23 = .ok (.aload_n 0, 1) := dk_42 (dk_at dksX4_holds_0 23 rfl rfl)
theorem dX4_holds_24 : decode cX4_holds 24 = .ok (.iconst 2, 1) := dk_5 (dk_at dksX4_holds_1 0 rfl rfl)
theorem dX4_holds_25 : decode cX4_holds 25 = .ok (.iload_n 1, 1) := dk_27 (dk_at dksX4_holds_1 1 rfl rfl)
theorem dX4_holds_26 : decode cX4_holds 26 = .ok (.iconst 0, 1) := dk_3 (dk_at dksX4_holds_1 2 rfl rfl)
theorem dX4_holds_27 : decode cX4_holds 27 = .ok (.iconst 0, 1) := dk_3 (dk_at dksX4_holds_1 3 rfl rfl)
theorem dX4_holds_28 : decode cX4_holds 28 = .ok (.invokevirtual 229, 3) := dk_182 0 229 (dk_at dksX4_holds_1 4 rfl rfl)
theorem dX4_holds_31 : decode cX4_holds 31 = .ok (.return_, 1) := dk_177 (dk_at dksX4_holds_1 7 rfl rfl)
abbrev cX4_goCrossed : ByteArray := prog_34_method_42_code
def yX4_goCrossed : MethodName := ⟨RX4, "goCrossed", "(II)V"⟩
def dkwX4_goCrossed_9 : List UInt8 := [132, 4, 1, 167, 255, 47, 177]
abbrev dktX4_goCrossed_9 : List UInt8 := dkwX4_goCrossed_9 ++ []
def dkwX4_goCrossed_8 : List UInt8 := [181, 0, 223, 42, 89, 180, 0, 226, 16, 10, 108, 181, 0, 226, 42, 5, 21, 5, 3, 3, 182, 0, 229]
abbrev dktX4_goCrossed_8 : List UInt8 := dkwX4_goCrossed_8 ++ dktX4_goCrossed_9
def dkwX4_goCrossed_7 : List UInt8 := [132, 5, 1, 167, 255, 111, 42, 180, 0, 226, 16, 10, 112, 54, 5, 42, 89, 180, 0, 223, 4, 96]
abbrev dktX4_goCrossed_7 : List UInt8 := dkwX4_goCrossed_7 ++ dktX4_goCrossed_8
def dkwX4_goCrossed_6 : List UInt8 := [89, 180, 0, 226, 21, 6, 96, 181, 0, 226, 42, 4, 42, 180, 0, 226, 3, 21, 4, 182, 0, 229, 3, 62]
abbrev dktX4_goCrossed_6 : List UInt8 := dkwX4_goCrossed_6 ++ dktX4_goCrossed_7
def dkwX4_goCrossed_5 : List UInt8 := [181, 0, 226, 42, 3, 21, 6, 21, 7, 21, 4, 184, 0, 233, 104, 3, 182, 0, 229, 29, 154, 0, 26, 42]
abbrev dktX4_goCrossed_5 : List UInt8 := dkwX4_goCrossed_5 ++ dktX4_goCrossed_6
def dkwX4_goCrossed_4 : List UInt8 := [184, 0, 236, 167, 0, 12, 28, 21, 4, 21, 5, 100, 184, 0, 236, 54, 7, 29, 153, 0, 9, 42, 21, 6]
abbrev dktX4_goCrossed_4 : List UInt8 := dkwX4_goCrossed_4 ++ dktX4_goCrossed_5
def dkwX4_goCrossed_3 : List UInt8 := [104, 54, 6, 27, 21, 5, 184, 0, 236, 28, 21, 4, 21, 5, 100, 184, 0, 236, 162, 0, 12, 27, 21, 5]
abbrev dktX4_goCrossed_3 : List UInt8 := dkwX4_goCrossed_3 ++ dktX4_goCrossed_4
def dkwX4_goCrossed_2 : List UInt8 := [184, 0, 236, 154, 0, 6, 167, 0, 114, 27, 21, 5, 184, 0, 236, 28, 21, 4, 21, 5, 100, 184, 0, 236]
abbrev dktX4_goCrossed_2 : List UInt8 := dkwX4_goCrossed_2 ++ dktX4_goCrossed_3
def dkwX4_goCrossed_1 : List UInt8 := [21, 5, 21, 4, 163, 0, 144, 27, 21, 5, 184, 0, 236, 153, 0, 129, 28, 21, 4, 21, 5, 100]
abbrev dktX4_goCrossed_1 : List UInt8 := dkwX4_goCrossed_1 ++ dktX4_goCrossed_2
def dkwX4_goCrossed_0 : List UInt8 := [4, 62, 3, 54, 4, 21, 4, 27, 184, 0, 220, 28, 184, 0, 220, 96, 5, 100, 163, 0, 199, 3, 54, 5]
abbrev dktX4_goCrossed_0 : List UInt8 := dkwX4_goCrossed_0 ++ dktX4_goCrossed_1
theorem dksX4_goCrossed_0 : cX4_goCrossed.data.toList.drop 0 = dktX4_goCrossed_0 := by decide +kernel
theorem dksX4_goCrossed_1 : cX4_goCrossed.data.toList.drop 24 = dktX4_goCrossed_1 := dk_seg dksX4_goCrossed_0 24 rfl rfl
theorem dksX4_goCrossed_2 : cX4_goCrossed.data.toList.drop 46 = dktX4_goCrossed_2 := dk_seg dksX4_goCrossed_1 22 rfl rfl
theorem dksX4_goCrossed_3 : cX4_goCrossed.data.toList.drop 70 = dktX4_goCrossed_3 := dk_seg dksX4_goCrossed_2 24 rfl rfl
theorem dksX4_goCrossed_4 : cX4_goCrossed.data.toList.drop 94 = dktX4_goCrossed_4 := dk_seg dksX4_goCrossed_3 24 rfl rfl
theorem dksX4_goCrossed_5 : cX4_goCrossed.data.toList.drop 118 = dktX4_goCrossed_5 := dk_seg dksX4_goCrossed_4 24 rfl rfl
theorem dksX4_goCrossed_6 : cX4_goCrossed.data.toList.drop 142 = dktX4_goCrossed_6 := dk_seg dksX4_goCrossed_5 24 rfl rfl
theorem dksX4_goCrossed_7 : cX4_goCrossed.data.toList.drop 166 = dktX4_goCrossed_7 := dk_seg dksX4_goCrossed_6 24 rfl rfl
theorem dksX4_goCrossed_8 : cX4_goCrossed.data.toList.drop 188 = dktX4_goCrossed_8 := dk_seg dksX4_goCrossed_7 22 rfl rfl
theorem dksX4_goCrossed_9 : cX4_goCrossed.data.toList.drop 211 = dktX4_goCrossed_9 := dk_seg dksX4_goCrossed_8 23 rfl rfl
theorem dX4_goCrossed_0 : decode cX4_goCrossed 0 = .ok (.iconst 1, 1) := dk_4 (dk_at dksX4_goCrossed_0 0 rfl rfl)
theorem dX4_goCrossed_1 : decode cX4_goCrossed 1 = .ok (.istore_n 3, 1) := dk_62 (dk_at dksX4_goCrossed_0 1 rfl rfl)
theorem dX4_goCrossed_2 : decode cX4_goCrossed 2 = .ok (.iconst 0, 1) := dk_3 (dk_at dksX4_goCrossed_0 2 rfl rfl)
theorem dX4_goCrossed_3 : decode cX4_goCrossed 3 = .ok (.istore 4, 2) := dk_54 4 (dk_at dksX4_goCrossed_0 3 rfl rfl)
theorem dX4_goCrossed_5 : decode cX4_goCrossed 5 = .ok (.iload 4, 2) := dk_21 4 (dk_at dksX4_goCrossed_0 5 rfl rfl)
theorem dX4_goCrossed_7 : decode cX4_goCrossed 7 = .ok (.iload_n 1, 1) := dk_27 (dk_at dksX4_goCrossed_0 7 rfl rfl)
theorem dX4_goCrossed_8 : decode cX4_goCrossed 8 = .ok (.invokestatic 220, 3) := dk_184 0 220 (dk_at dksX4_goCrossed_0 8 rfl rfl)
theorem dX4_goCrossed_11 : decode cX4_goCrossed 11 = .ok (.iload_n 2, 1) := dk_28 (dk_at dksX4_goCrossed_0 11 rfl rfl)
theorem dX4_goCrossed_12 : decode cX4_goCrossed 12 = .ok (.invokestatic 220, 3) := dk_184 0 220 (dk_at dksX4_goCrossed_0 12 rfl rfl)
theorem dX4_goCrossed_15 : decode cX4_goCrossed 15 = .ok (.iadd, 1) := dk_96 (dk_at dksX4_goCrossed_0 15 rfl rfl)
theorem dX4_goCrossed_16 : decode cX4_goCrossed 16 = .ok (.iconst 2, 1) := dk_5 (dk_at dksX4_goCrossed_0 16 rfl rfl)
theorem dX4_goCrossed_17 : decode cX4_goCrossed 17 = .ok (.isub, 1) := dk_100 (dk_at dksX4_goCrossed_0 17 rfl rfl)
theorem dX4_goCrossed_18 : decode cX4_goCrossed 18 = .ok (.if_icmp .gt 199, 3) := dk_163 0 199 (dk_at dksX4_goCrossed_0 18 rfl rfl)
theorem dX4_goCrossed_21 : decode cX4_goCrossed 21 = .ok (.iconst 0, 1) := dk_3 (dk_at dksX4_goCrossed_0 21 rfl rfl)
theorem dX4_goCrossed_22 : decode cX4_goCrossed 22 = .ok (.istore 5, 2) := dk_54 5 (dk_at dksX4_goCrossed_0 22 rfl rfl)
theorem dX4_goCrossed_24 : decode cX4_goCrossed 24 = .ok (.iload 5, 2) := dk_21 5 (dk_at dksX4_goCrossed_1 0 rfl rfl)
theorem dX4_goCrossed_26 : decode cX4_goCrossed 26 = .ok (.iload 4, 2) := dk_21 4 (dk_at dksX4_goCrossed_1 2 rfl rfl)
theorem dX4_goCrossed_28 : decode cX4_goCrossed 28 = .ok (.if_icmp .gt 144, 3) := dk_163 0 144 (dk_at dksX4_goCrossed_1 4 rfl rfl)
theorem dX4_goCrossed_31 : decode cX4_goCrossed 31 = .ok (.iload_n 1, 1) := dk_27 (dk_at dksX4_goCrossed_1 7 rfl rfl)
theorem dX4_goCrossed_32 : decode cX4_goCrossed 32 = .ok (.iload 5, 2) := dk_21 5 (dk_at dksX4_goCrossed_1 8 rfl rfl)
theorem dX4_goCrossed_34 : decode cX4_goCrossed 34 = .ok (.invokestatic 236, 3) := dk_184 0 236 (dk_at dksX4_goCrossed_1 10 rfl rfl)
theorem dX4_goCrossed_37 : decode cX4_goCrossed 37 = .ok (.ifCond .eq 129, 3) := dk_153 0 129 (dk_at dksX4_goCrossed_1 13 rfl rfl)
theorem dX4_goCrossed_40 : decode cX4_goCrossed 40 = .ok (.iload_n 2, 1) := dk_28 (dk_at dksX4_goCrossed_1 16 rfl rfl)
theorem dX4_goCrossed_41 : decode cX4_goCrossed 41 = .ok (.iload 4, 2) := dk_21 4 (dk_at dksX4_goCrossed_1 17 rfl rfl)
theorem dX4_goCrossed_43 : decode cX4_goCrossed 43 = .ok (.iload 5, 2) := dk_21 5 (dk_at dksX4_goCrossed_1 19 rfl rfl)
theorem dX4_goCrossed_45 : decode cX4_goCrossed 45 = .ok (.isub, 1) := dk_100 (dk_at dksX4_goCrossed_1 21 rfl rfl)
theorem dX4_goCrossed_46 : decode cX4_goCrossed 46 = .ok (.invokestatic 236, 3) := dk_184 0 236 (dk_at dksX4_goCrossed_2 0 rfl rfl)
theorem dX4_goCrossed_49 : decode cX4_goCrossed 49 = .ok (.ifCond .ne 6, 3) := dk_154 0 6 (dk_at dksX4_goCrossed_2 3 rfl rfl)
theorem dX4_goCrossed_52 : decode cX4_goCrossed 52 = .ok (.goto 114, 3) := dk_167 0 114 (dk_at dksX4_goCrossed_2 6 rfl rfl)
theorem dX4_goCrossed_55 : decode cX4_goCrossed 55 = .ok (.iload_n 1, 1) := dk_27 (dk_at dksX4_goCrossed_2 9 rfl rfl)
theorem dX4_goCrossed_56 : decode cX4_goCrossed 56 = .ok (.iload 5, 2) := dk_21 5 (dk_at dksX4_goCrossed_2 10 rfl rfl)
theorem dX4_goCrossed_58 : decode cX4_goCrossed 58 = .ok (.invokestatic 236, 3) := dk_184 0 236 (dk_at dksX4_goCrossed_2 12 rfl rfl)
theorem dX4_goCrossed_61 : decode cX4_goCrossed 61 = .ok (.iload_n 2, 1) := dk_28 (dk_at dksX4_goCrossed_2 15 rfl rfl)
theorem dX4_goCrossed_62 : decode cX4_goCrossed 62 = .ok (.iload 4, 2) := dk_21 4 (dk_at dksX4_goCrossed_2 16 rfl rfl)
theorem dX4_goCrossed_64 : decode cX4_goCrossed 64 = .ok (.iload 5, 2) := dk_21 5 (dk_at dksX4_goCrossed_2 18 rfl rfl)
theorem dX4_goCrossed_66 : decode cX4_goCrossed 66 = .ok (.isub, 1) := dk_100 (dk_at dksX4_goCrossed_2 20 rfl rfl)
theorem dX4_goCrossed_67 : decode cX4_goCrossed 67 = .ok (.invokestatic 236, 3) := dk_184 0 236 (dk_at dksX4_goCrossed_2 21 rfl rfl)
theorem dX4_goCrossed_70 : decode cX4_goCrossed 70 = .ok (.imul, 1) := dk_104 (dk_at dksX4_goCrossed_3 0 rfl rfl)
theorem dX4_goCrossed_71 : decode cX4_goCrossed 71 = .ok (.istore 6, 2) := dk_54 6 (dk_at dksX4_goCrossed_3 1 rfl rfl)
theorem dX4_goCrossed_73 : decode cX4_goCrossed 73 = .ok (.iload_n 1, 1) := dk_27 (dk_at dksX4_goCrossed_3 3 rfl rfl)
theorem dX4_goCrossed_74 : decode cX4_goCrossed 74 = .ok (.iload 5, 2) := dk_21 5 (dk_at dksX4_goCrossed_3 4 rfl rfl)
theorem dX4_goCrossed_76 : decode cX4_goCrossed 76 = .ok (.invokestatic 236, 3) := dk_184 0 236 (dk_at dksX4_goCrossed_3 6 rfl rfl)
theorem dX4_goCrossed_79 : decode cX4_goCrossed 79 = .ok (.iload_n 2, 1) := dk_28 (dk_at dksX4_goCrossed_3 9 rfl rfl)
theorem dX4_goCrossed_80 : decode cX4_goCrossed 80 = .ok (.iload 4, 2) := dk_21 4 (dk_at dksX4_goCrossed_3 10 rfl rfl)
theorem dX4_goCrossed_82 : decode cX4_goCrossed 82 = .ok (.iload 5, 2) := dk_21 5 (dk_at dksX4_goCrossed_3 12 rfl rfl)
theorem dX4_goCrossed_84 : decode cX4_goCrossed 84 = .ok (.isub, 1) := dk_100 (dk_at dksX4_goCrossed_3 14 rfl rfl)
theorem dX4_goCrossed_85 : decode cX4_goCrossed 85 = .ok (.invokestatic 236, 3) := dk_184 0 236 (dk_at dksX4_goCrossed_3 15 rfl rfl)
theorem dX4_goCrossed_88 : decode cX4_goCrossed 88 = .ok (.if_icmp .ge 12, 3) := dk_162 0 12 (dk_at dksX4_goCrossed_3 18 rfl rfl)
theorem dX4_goCrossed_91 : decode cX4_goCrossed 91 = .ok (.iload_n 1, 1) := dk_27 (dk_at dksX4_goCrossed_3 21 rfl rfl)
theorem dX4_goCrossed_92 : decode cX4_goCrossed 92 = .ok (.iload 5, 2) := dk_21 5 (dk_at dksX4_goCrossed_3 22 rfl rfl)
theorem dX4_goCrossed_94 : decode cX4_goCrossed 94 = .ok (.invokestatic 236, 3) := dk_184 0 236 (dk_at dksX4_goCrossed_4 0 rfl rfl)
theorem dX4_goCrossed_97 : decode cX4_goCrossed 97 = .ok (.goto 12, 3) := dk_167 0 12 (dk_at dksX4_goCrossed_4 3 rfl rfl)
theorem dX4_goCrossed_100 : decode cX4_goCrossed 100 = .ok (.iload_n 2, 1) := dk_28 (dk_at dksX4_goCrossed_4 6 rfl rfl)
theorem dX4_goCrossed_101 : decode cX4_goCrossed 101 = .ok (.iload 4, 2) := dk_21 4 (dk_at dksX4_goCrossed_4 7 rfl rfl)
theorem dX4_goCrossed_103 : decode cX4_goCrossed 103 = .ok (.iload 5, 2) := dk_21 5 (dk_at dksX4_goCrossed_4 9 rfl rfl)
theorem dX4_goCrossed_105 : decode cX4_goCrossed 105 = .ok (.isub, 1) := dk_100 (dk_at dksX4_goCrossed_4 11 rfl rfl)
theorem dX4_goCrossed_106 : decode cX4_goCrossed 106 = .ok (.invokestatic 236, 3) := dk_184 0 236 (dk_at dksX4_goCrossed_4 12 rfl rfl)
theorem dX4_goCrossed_109 : decode cX4_goCrossed 109 = .ok (.istore 7, 2) := dk_54 7 (dk_at dksX4_goCrossed_4 15 rfl rfl)
theorem dX4_goCrossed_111 : decode cX4_goCrossed 111 = .ok (.iload_n 3, 1) := dk_29 (dk_at dksX4_goCrossed_4 17 rfl rfl)
theorem dX4_goCrossed_112 : decode cX4_goCrossed 112 = .ok (.ifCond .eq 9, 3) := dk_153 0 9 (dk_at dksX4_goCrossed_4 18 rfl rfl)
theorem dX4_goCrossed_115 : decode cX4_goCrossed 115 = .ok (.aload_n 0, 1) := dk_42 (dk_at dksX4_goCrossed_4 21 rfl rfl)
theorem dX4_goCrossed_116 : decode cX4_goCrossed 116 = .ok (.iload 6, 2) := dk_21 6 (dk_at dksX4_goCrossed_4 22 rfl rfl)
theorem dX4_goCrossed_118 : decode cX4_goCrossed 118 = .ok (.putfield 226, 3) := dk_181 0 226 (dk_at dksX4_goCrossed_5 0 rfl rfl)
theorem dX4_goCrossed_121 : decode cX4_goCrossed 121 = .ok (.aload_n 0, 1) := dk_42 (dk_at dksX4_goCrossed_5 3 rfl rfl)
theorem dX4_goCrossed_122 : decode cX4_goCrossed 122 = .ok (.iconst 0, 1) := dk_3 (dk_at dksX4_goCrossed_5 4 rfl rfl)
theorem dX4_goCrossed_123 : decode cX4_goCrossed 123 = .ok (.iload 6, 2) := dk_21 6 (dk_at dksX4_goCrossed_5 5 rfl rfl)
theorem dX4_goCrossed_125 : decode cX4_goCrossed 125 = .ok (.iload 7, 2) := dk_21 7 (dk_at dksX4_goCrossed_5 7 rfl rfl)
theorem dX4_goCrossed_127 : decode cX4_goCrossed 127 = .ok (.iload 4, 2) := dk_21 4 (dk_at dksX4_goCrossed_5 9 rfl rfl)
theorem dX4_goCrossed_129 : decode cX4_goCrossed 129 = .ok (.invokestatic 233, 3) := dk_184 0 233 (dk_at dksX4_goCrossed_5 11 rfl rfl)
theorem dX4_goCrossed_132 : decode cX4_goCrossed 132 = .ok (.imul, 1) := dk_104 (dk_at dksX4_goCrossed_5 14 rfl rfl)
theorem dX4_goCrossed_133 : decode cX4_goCrossed 133 = .ok (.iconst 0, 1) := dk_3 (dk_at dksX4_goCrossed_5 15 rfl rfl)
theorem dX4_goCrossed_134 : decode cX4_goCrossed 134 = .ok (.invokevirtual 229, 3) := dk_182 0 229 (dk_at dksX4_goCrossed_5 16 rfl rfl)
theorem dX4_goCrossed_137 : decode cX4_goCrossed 137 = .ok (.iload_n 3, 1) := dk_29 (dk_at dksX4_goCrossed_5 19 rfl rfl)
theorem dX4_goCrossed_138 : decode cX4_goCrossed 138 = .ok (.ifCond .ne 26, 3) := dk_154 0 26 (dk_at dksX4_goCrossed_5 20 rfl rfl)
theorem dX4_goCrossed_141 : decode cX4_goCrossed 141 = .ok (.aload_n 0, 1) := dk_42 (dk_at dksX4_goCrossed_5 23 rfl rfl)
theorem dX4_goCrossed_142 : decode cX4_goCrossed 142 = .ok (.dup, 1) := dk_89 (dk_at dksX4_goCrossed_6 0 rfl rfl)
theorem dX4_goCrossed_143 : decode cX4_goCrossed 143 = .ok (.getfield 226, 3) := dk_180 0 226 (dk_at dksX4_goCrossed_6 1 rfl rfl)
theorem dX4_goCrossed_146 : decode cX4_goCrossed 146 = .ok (.iload 6, 2) := dk_21 6 (dk_at dksX4_goCrossed_6 4 rfl rfl)
theorem dX4_goCrossed_148 : decode cX4_goCrossed 148 = .ok (.iadd, 1) := dk_96 (dk_at dksX4_goCrossed_6 6 rfl rfl)
theorem dX4_goCrossed_149 : decode cX4_goCrossed 149 = .ok (.putfield 226, 3) := dk_181 0 226 (dk_at dksX4_goCrossed_6 7 rfl rfl)
theorem dX4_goCrossed_152 : decode cX4_goCrossed 152 = .ok (.aload_n 0, 1) := dk_42 (dk_at dksX4_goCrossed_6 10 rfl rfl)
theorem dX4_goCrossed_153 : decode cX4_goCrossed 153 = .ok (.iconst 1, 1) := dk_4 (dk_at dksX4_goCrossed_6 11 rfl rfl)
theorem dX4_goCrossed_154 : decode cX4_goCrossed 154 = .ok (.aload_n 0, 1) := dk_42 (dk_at dksX4_goCrossed_6 12 rfl rfl)
theorem dX4_goCrossed_155 : decode cX4_goCrossed 155 = .ok (.getfield 226, 3) := dk_180 0 226 (dk_at dksX4_goCrossed_6 13 rfl rfl)
theorem dX4_goCrossed_158 : decode cX4_goCrossed 158 = .ok (.iconst 0, 1) := dk_3 (dk_at dksX4_goCrossed_6 16 rfl rfl)
theorem dX4_goCrossed_159 : decode cX4_goCrossed 159 = .ok (.iload 4, 2) := dk_21 4 (dk_at dksX4_goCrossed_6 17 rfl rfl)
theorem dX4_goCrossed_161 : decode cX4_goCrossed 161 = .ok (.invokevirtual 229, 3) := dk_182 0 229 (dk_at dksX4_goCrossed_6 19 rfl rfl)
theorem dX4_goCrossed_164 : decode cX4_goCrossed 164 = .ok (.iconst 0, 1) := dk_3 (dk_at dksX4_goCrossed_6 22 rfl rfl)
theorem dX4_goCrossed_165 : decode cX4_goCrossed 165 = .ok (.istore_n 3, 1) := dk_62 (dk_at dksX4_goCrossed_6 23 rfl rfl)
theorem dX4_goCrossed_166 : decode cX4_goCrossed 166 = .ok (.iinc 5 1, 3) := dk_132 5 1 (dk_at dksX4_goCrossed_7 0 rfl rfl)
theorem dX4_goCrossed_169 : decode cX4_goCrossed 169 = .ok (.goto (-145), 3) := dk_167 255 111 (dk_at dksX4_goCrossed_7 3 rfl rfl)
theorem dX4_goCrossed_172 : decode cX4_goCrossed 172 = .ok (.aload_n 0, 1) := dk_42 (dk_at dksX4_goCrossed_7 6 rfl rfl)
theorem dX4_goCrossed_173 : decode cX4_goCrossed 173 = .ok (.getfield 226, 3) := dk_180 0 226 (dk_at dksX4_goCrossed_7 7 rfl rfl)
theorem dX4_goCrossed_176 : decode cX4_goCrossed 176 = .ok (.bipush 10, 2) := dk_16 10 (dk_at dksX4_goCrossed_7 10 rfl rfl)
theorem dX4_goCrossed_178 : decode cX4_goCrossed 178 = .ok (.irem, 1) := dk_112 (dk_at dksX4_goCrossed_7 12 rfl rfl)
theorem dX4_goCrossed_179 : decode cX4_goCrossed 179 = .ok (.istore 5, 2) := dk_54 5 (dk_at dksX4_goCrossed_7 13 rfl rfl)
theorem dX4_goCrossed_181 : decode cX4_goCrossed 181 = .ok (.aload_n 0, 1) := dk_42 (dk_at dksX4_goCrossed_7 15 rfl rfl)
theorem dX4_goCrossed_182 : decode cX4_goCrossed 182 = .ok (.dup, 1) := dk_89 (dk_at dksX4_goCrossed_7 16 rfl rfl)
theorem dX4_goCrossed_183 : decode cX4_goCrossed 183 = .ok (.getfield 223, 3) := dk_180 0 223 (dk_at dksX4_goCrossed_7 17 rfl rfl)
theorem dX4_goCrossed_186 : decode cX4_goCrossed 186 = .ok (.iconst 1, 1) := dk_4 (dk_at dksX4_goCrossed_7 20 rfl rfl)
theorem dX4_goCrossed_187 : decode cX4_goCrossed 187 = .ok (.iadd, 1) := dk_96 (dk_at dksX4_goCrossed_7 21 rfl rfl)
theorem dX4_goCrossed_188 : decode cX4_goCrossed 188 = .ok (.putfield 223, 3) := dk_181 0 223 (dk_at dksX4_goCrossed_8 0 rfl rfl)
theorem dX4_goCrossed_191 : decode cX4_goCrossed 191 = .ok (.aload_n 0, 1) := dk_42 (dk_at dksX4_goCrossed_8 3 rfl rfl)
theorem dX4_goCrossed_192 : decode cX4_goCrossed 192 = .ok (.dup, 1) := dk_89 (dk_at dksX4_goCrossed_8 4 rfl rfl)
theorem dX4_goCrossed_193 : decode cX4_goCrossed 193 = .ok (.getfield 226, 3) := dk_180 0 226 (dk_at dksX4_goCrossed_8 5 rfl rfl)
theorem dX4_goCrossed_196 : decode cX4_goCrossed 196 = .ok (.bipush 10, 2) := dk_16 10 (dk_at dksX4_goCrossed_8 8 rfl rfl)
theorem dX4_goCrossed_198 : decode cX4_goCrossed 198 = .ok (.idiv, 1) := dk_108 (dk_at dksX4_goCrossed_8 10 rfl rfl)
theorem dX4_goCrossed_199 : decode cX4_goCrossed 199 = .ok (.putfield 226, 3) := dk_181 0 226 (dk_at dksX4_goCrossed_8 11 rfl rfl)
theorem dX4_goCrossed_202 : decode cX4_goCrossed 202 = .ok (.aload_n 0, 1) := dk_42 (dk_at dksX4_goCrossed_8 14 rfl rfl)
theorem dX4_goCrossed_203 : decode cX4_goCrossed 203 = .ok (.iconst 2, 1) := dk_5 (dk_at dksX4_goCrossed_8 15 rfl rfl)
theorem dX4_goCrossed_204 : decode cX4_goCrossed 204 = .ok (.iload 5, 2) := dk_21 5 (dk_at dksX4_goCrossed_8 16 rfl rfl)
theorem dX4_goCrossed_206 : decode cX4_goCrossed 206 = .ok (.iconst 0, 1) := dk_3 (dk_at dksX4_goCrossed_8 18 rfl rfl)
theorem dX4_goCrossed_207 : decode cX4_goCrossed 207 = .ok (.iconst 0, 1) := dk_3 (dk_at dksX4_goCrossed_8 19 rfl rfl)
theorem dX4_goCrossed_208 : decode cX4_goCrossed 208 = .ok (.invokevirtual 229, 3) := dk_182 0 229 (dk_at dksX4_goCrossed_8 20 rfl rfl)
theorem dX4_goCrossed_211 : decode cX4_goCrossed 211 = .ok (.iinc 4 1, 3) := dk_132 4 1 (dk_at dksX4_goCrossed_9 0 rfl rfl)
theorem dX4_goCrossed_214 : decode cX4_goCrossed 214 = .ok (.goto (-209), 3) := dk_167 255 47 (dk_at dksX4_goCrossed_9 3 rfl rfl)
theorem dX4_goCrossed_217 : decode cX4_goCrossed 217 = .ok (.return_, 1) := dk_177 (dk_at dksX4_goCrossed_9 6 rfl rfl)
abbrev cX4_goSquared : ByteArray := prog_34_method_43_code
def yX4_goSquared : MethodName := ⟨RX4, "goSquared", "(II)Z"⟩
def dkwX4_goSquared_2 : List UInt8 := [181, 0, 223, 42, 27, 28, 104, 181, 0, 226, 42, 4, 42, 180, 0, 226, 3, 3, 182, 0, 229, 4, 172]
abbrev dktX4_goSquared_2 : List UInt8 := dkwX4_goSquared_2 ++ []
def dkwX4_goSquared_1 : List UInt8 := [108, 54, 4, 42, 29, 29, 182, 0, 243, 42, 182, 0, 247, 42, 21, 4, 21, 4, 182, 0, 243, 42, 3]
abbrev dktX4_goSquared_1 : List UInt8 := dkwX4_goSquared_1 ++ dktX4_goSquared_2
def dkwX4_goSquared_0 : List UInt8 := [27, 28, 96, 5, 112, 4, 160, 0, 5, 3, 172, 27, 28, 96, 5, 108, 62, 27, 28, 100, 184, 0, 250, 5]
abbrev dktX4_goSquared_0 : List UInt8 := dkwX4_goSquared_0 ++ dktX4_goSquared_1
theorem dksX4_goSquared_0 : cX4_goSquared.data.toList.drop 0 = dktX4_goSquared_0 := by decide +kernel
theorem dksX4_goSquared_1 : cX4_goSquared.data.toList.drop 24 = dktX4_goSquared_1 := dk_seg dksX4_goSquared_0 24 rfl rfl
theorem dksX4_goSquared_2 : cX4_goSquared.data.toList.drop 47 = dktX4_goSquared_2 := dk_seg dksX4_goSquared_1 23 rfl rfl
theorem dX4_goSquared_0 : decode cX4_goSquared 0 = .ok (.iload_n 1, 1) := dk_27 (dk_at dksX4_goSquared_0 0 rfl rfl)
theorem dX4_goSquared_1 : decode cX4_goSquared 1 = .ok (.iload_n 2, 1) := dk_28 (dk_at dksX4_goSquared_0 1 rfl rfl)
theorem dX4_goSquared_2 : decode cX4_goSquared 2 = .ok (.iadd, 1) := dk_96 (dk_at dksX4_goSquared_0 2 rfl rfl)
theorem dX4_goSquared_3 : decode cX4_goSquared 3 = .ok (.iconst 2, 1) := dk_5 (dk_at dksX4_goSquared_0 3 rfl rfl)
theorem dX4_goSquared_4 : decode cX4_goSquared 4 = .ok (.irem, 1) := dk_112 (dk_at dksX4_goSquared_0 4 rfl rfl)
theorem dX4_goSquared_5 : decode cX4_goSquared 5 = .ok (.iconst 1, 1) := dk_4 (dk_at dksX4_goSquared_0 5 rfl rfl)
theorem dX4_goSquared_6 : decode cX4_goSquared 6 = .ok (.if_icmp .ne 5, 3) := dk_160 0 5 (dk_at dksX4_goSquared_0 6 rfl rfl)
theorem dX4_goSquared_9 : decode cX4_goSquared 9 = .ok (.iconst 0, 1) := dk_3 (dk_at dksX4_goSquared_0 9 rfl rfl)
theorem dX4_goSquared_10 : decode cX4_goSquared 10 = .ok (.ireturn, 1) := dk_172 (dk_at dksX4_goSquared_0 10 rfl rfl)
theorem dX4_goSquared_11 : decode cX4_goSquared 11 = .ok (.iload_n 1, 1) := dk_27 (dk_at dksX4_goSquared_0 11 rfl rfl)
theorem dX4_goSquared_12 : decode cX4_goSquared 12 = .ok (.iload_n 2, 1) := dk_28 (dk_at dksX4_goSquared_0 12 rfl rfl)
theorem dX4_goSquared_13 : decode cX4_goSquared 13 = .ok (.iadd, 1) := dk_96 (dk_at dksX4_goSquared_0 13 rfl rfl)
theorem dX4_goSquared_14 : decode cX4_goSquared 14 = .ok (.iconst 2, 1) := dk_5 (dk_at dksX4_goSquared_0 14 rfl rfl)
theorem dX4_goSquared_15 : decode cX4_goSquared 15 = .ok (.idiv, 1) := dk_108 (dk_at dksX4_goSquared_0 15 rfl rfl)
theorem dX4_goSquared_16 : decode cX4_goSquared 16 = .ok (.istore_n 3, 1) := dk_62 (dk_at dksX4_goSquared_0 16 rfl rfl)
theorem dX4_goSquared_17 : decode cX4_goSquared 17 = .ok (.iload_n 1, 1) := dk_27 (dk_at dksX4_goSquared_0 17 rfl rfl)
theorem dX4_goSquared_18 : decode cX4_goSquared 18 = .ok (.iload_n 2, 1) := dk_28 (dk_at dksX4_goSquared_0 18 rfl rfl)
theorem dX4_goSquared_19 : decode cX4_goSquared 19 = .ok (.isub, 1) := dk_100 (dk_at dksX4_goSquared_0 19 rfl rfl)
theorem dX4_goSquared_20 : decode cX4_goSquared 20 = .ok (.invokestatic 250, 3) := dk_184 0 250 (dk_at dksX4_goSquared_0 20 rfl rfl)
theorem dX4_goSquared_23 : decode cX4_goSquared 23 = .ok (.iconst 2, 1) := dk_5 (dk_at dksX4_goSquared_0 23 rfl rfl)
theorem dX4_goSquared_24 : decode cX4_goSquared 24 = .ok (.idiv, 1) := dk_108 (dk_at dksX4_goSquared_1 0 rfl rfl)
theorem dX4_goSquared_25 : decode cX4_goSquared 25 = .ok (.istore 4, 2) := dk_54 4 (dk_at dksX4_goSquared_1 1 rfl rfl)
theorem dX4_goSquared_27 : decode cX4_goSquared 27 = .ok (.aload_n 0, 1) := dk_42 (dk_at dksX4_goSquared_1 3 rfl rfl)
theorem dX4_goSquared_28 : decode cX4_goSquared 28 = .ok (.iload_n 3, 1) := dk_29 (dk_at dksX4_goSquared_1 4 rfl rfl)
theorem dX4_goSquared_29 : decode cX4_goSquared 29 = .ok (.iload_n 3, 1) := dk_29 (dk_at dksX4_goSquared_1 5 rfl rfl)
theorem dX4_goSquared_30 : decode cX4_goSquared 30 = .ok (.invokevirtual 243, 3) := dk_182 0 243 (dk_at dksX4_goSquared_1 6 rfl rfl)
theorem dX4_goSquared_33 : decode cX4_goSquared 33 = .ok (.aload_n 0, 1) := dk_42 (dk_at dksX4_goSquared_1 9 rfl rfl)
theorem dX4_goSquared_34 : decode cX4_goSquared 34 = .ok (.invokevirtual 247, 3) := dk_182 0 247 (dk_at dksX4_goSquared_1 10 rfl rfl)
theorem dX4_goSquared_37 : decode cX4_goSquared 37 = .ok (.aload_n 0, 1) := dk_42 (dk_at dksX4_goSquared_1 13 rfl rfl)
theorem dX4_goSquared_38 : decode cX4_goSquared 38 = .ok (.iload 4, 2) := dk_21 4 (dk_at dksX4_goSquared_1 14 rfl rfl)
theorem dX4_goSquared_40 : decode cX4_goSquared 40 = .ok (.iload 4, 2) := dk_21 4 (dk_at dksX4_goSquared_1 16 rfl rfl)
theorem dX4_goSquared_42 : decode cX4_goSquared 42 = .ok (.invokevirtual 243, 3) := dk_182 0 243 (dk_at dksX4_goSquared_1 18 rfl rfl)
theorem dX4_goSquared_45 : decode cX4_goSquared 45 = .ok (.aload_n 0, 1) := dk_42 (dk_at dksX4_goSquared_1 21 rfl rfl)
theorem dX4_goSquared_46 : decode cX4_goSquared 46 = .ok (.iconst 0, 1) := dk_3 (dk_at dksX4_goSquared_1 22 rfl rfl)
theorem dX4_goSquared_47 : decode cX4_goSquared 47 = .ok (.putfield 223, 3) := dk_181 0 223 (dk_at dksX4_goSquared_2 0 rfl rfl)
theorem dX4_goSquared_50 : decode cX4_goSquared 50 = .ok (.aload_n 0, 1) := dk_42 (dk_at dksX4_goSquared_2 3 rfl rfl)
theorem dX4_goSquared_51 : decode cX4_goSquared 51 = .ok (.iload_n 1, 1) := dk_27 (dk_at dksX4_goSquared_2 4 rfl rfl)
theorem dX4_goSquared_52 : decode cX4_goSquared 52 = .ok (.iload_n 2, 1) := dk_28 (dk_at dksX4_goSquared_2 5 rfl rfl)
theorem dX4_goSquared_53 : decode cX4_goSquared 53 = .ok (.imul, 1) := dk_104 (dk_at dksX4_goSquared_2 6 rfl rfl)
theorem dX4_goSquared_54 : decode cX4_goSquared 54 = .ok (.putfield 226, 3) := dk_181 0 226 (dk_at dksX4_goSquared_2 7 rfl rfl)
theorem dX4_goSquared_57 : decode cX4_goSquared 57 = .ok (.aload_n 0, 1) := dk_42 (dk_at dksX4_goSquared_2 10 rfl rfl)
theorem dX4_goSquared_58 : decode cX4_goSquared 58 = .ok (.iconst 1, 1) := dk_4 (dk_at dksX4_goSquared_2 11 rfl rfl)
theorem dX4_goSquared_59 : decode cX4_goSquared 59 = .ok (.aload_n 0, 1) := dk_42 (dk_at dksX4_goSquared_2 12 rfl rfl)
theorem dX4_goSquared_60 : decode cX4_goSquared 60 = .ok (.getfield 226, 3) := dk_180 0 226 (dk_at dksX4_goSquared_2 13 rfl rfl)
theorem dX4_goSquared_63 : decode cX4_goSquared 63 = .ok (.iconst 0, 1) := dk_3 (dk_at dksX4_goSquared_2 16 rfl rfl)
theorem dX4_goSquared_64 : decode cX4_goSquared 64 = .ok (.iconst 0, 1) := dk_3 (dk_at dksX4_goSquared_2 17 rfl rfl)
theorem dX4_goSquared_65 : decode cX4_goSquared 65 = .ok (.invokevirtual 229, 3) := dk_182 0 229 (dk_at dksX4_goSquared_2 18 rfl rfl)
theorem dX4_goSquared_68 : decode cX4_goSquared 68 = .ok (.iconst 1, 1) := dk_4 (dk_at dksX4_goSquared_2 21 rfl rfl)
theorem dX4_goSquared_69 : decode cX4_goSquared 69 = .ok (.ireturn, 1) := dk_172 (dk_at dksX4_goSquared_2 22 rfl rfl)
abbrev cX4_size : ByteArray := prog_34_method_2_code
def yX4_size : MethodName := ⟨RX4, "size", "(I)I"⟩
def dkwX4_size_0 : List UInt8 := [26, 156, 0, 8, 26, 116, 167, 0, 4, 26, 172]
abbrev dktX4_size_0 : List UInt8 := dkwX4_size_0 ++ []
theorem dksX4_size_0 : cX4_size.data.toList.drop 0 = dktX4_size_0 := by decide +kernel
theorem dX4_size_0 : decode cX4_size 0 = .ok (.iload_n 0, 1) := dk_26 (dk_at dksX4_size_0 0 rfl rfl)
theorem dX4_size_1 : decode cX4_size 1 = .ok (.ifCond .ge 8, 3) := dk_156 0 8 (dk_at dksX4_size_0 1 rfl rfl)
theorem dX4_size_4 : decode cX4_size 4 = .ok (.iload_n 0, 1) := dk_26 (dk_at dksX4_size_0 4 rfl rfl)
theorem dX4_size_5 : decode cX4_size 5 = .ok (.ineg, 1) := dk_116 (dk_at dksX4_size_0 5 rfl rfl)
theorem dX4_size_6 : decode cX4_size 6 = .ok (.goto 4, 3) := dk_167 0 4 (dk_at dksX4_size_0 6 rfl rfl)
theorem dX4_size_9 : decode cX4_size 9 = .ok (.iload_n 0, 1) := dk_26 (dk_at dksX4_size_0 9 rfl rfl)
theorem dX4_size_10 : decode cX4_size 10 = .ok (.ireturn, 1) := dk_172 (dk_at dksX4_size_0 10 rfl rfl)
abbrev cX4_goSplit : ByteArray := prog_34_method_44_code
def yX4_goSplit : MethodName := ⟨RX4, "goSplit", "(II)Z"⟩
def dkwX4_goSplit_2 : List UInt8 := [167, 255, 213, 3, 172]
abbrev dktX4_goSplit_2 : List UInt8 := dkwX4_goSplit_2 ++ []
def dkwX4_goSplit_1 : List UInt8 := [27, 29, 182, 0, 243, 42, 182, 0, 247, 42, 27, 29, 104, 28, 29, 108, 182, 0, 243, 4, 172, 132, 3, 255]
abbrev dktX4_goSplit_1 : List UInt8 := dkwX4_goSplit_1 ++ dktX4_goSplit_2
def dkwX4_goSplit_0 : List UInt8 := [42, 180, 0, 253, 62, 29, 5, 161, 0, 44, 28, 29, 112, 154, 0, 32, 28, 29, 108, 4, 164, 0, 25, 42]
abbrev dktX4_goSplit_0 : List UInt8 := dkwX4_goSplit_0 ++ dktX4_goSplit_1
theorem dksX4_goSplit_0 : cX4_goSplit.data.toList.drop 0 = dktX4_goSplit_0 := by decide +kernel
theorem dksX4_goSplit_1 : cX4_goSplit.data.toList.drop 24 = dktX4_goSplit_1 := dk_seg dksX4_goSplit_0 24 rfl rfl
theorem dksX4_goSplit_2 : cX4_goSplit.data.toList.drop 48 = dktX4_goSplit_2 := dk_seg dksX4_goSplit_1 24 rfl rfl
theorem dX4_goSplit_0 : decode cX4_goSplit 0 = .ok (.aload_n 0, 1) := dk_42 (dk_at dksX4_goSplit_0 0 rfl rfl)
theorem dX4_goSplit_1 : decode cX4_goSplit 1 = .ok (.getfield 253, 3) := dk_180 0 253 (dk_at dksX4_goSplit_0 1 rfl rfl)
theorem dX4_goSplit_4 : decode cX4_goSplit 4 = .ok (.istore_n 3, 1) := dk_62 (dk_at dksX4_goSplit_0 4 rfl rfl)
theorem dX4_goSplit_5 : decode cX4_goSplit 5 = .ok (.iload_n 3, 1) := dk_29 (dk_at dksX4_goSplit_0 5 rfl rfl)
theorem dX4_goSplit_6 : decode cX4_goSplit 6 = .ok (.iconst 2, 1) := dk_5 (dk_at dksX4_goSplit_0 6 rfl rfl)
theorem dX4_goSplit_7 : decode cX4_goSplit 7 = .ok (.if_icmp .lt 44, 3) := dk_161 0 44 (dk_at dksX4_goSplit_0 7 rfl rfl)
theorem dX4_goSplit_10 : decode cX4_goSplit 10 = .ok (.iload_n 2, 1) := dk_28 (dk_at dksX4_goSplit_0 10 rfl rfl)
theorem dX4_goSplit_11 : decode cX4_goSplit 11 = .ok (.iload_n 3, 1) := dk_29 (dk_at dksX4_goSplit_0 11 rfl rfl)
theorem dX4_goSplit_12 : decode cX4_goSplit 12 = .ok (.irem, 1) := dk_112 (dk_at dksX4_goSplit_0 12 rfl rfl)
theorem dX4_goSplit_13 : decode cX4_goSplit 13 = .ok (.ifCond .ne 32, 3) := dk_154 0 32 (dk_at dksX4_goSplit_0 13 rfl rfl)
theorem dX4_goSplit_16 : decode cX4_goSplit 16 = .ok (.iload_n 2, 1) := dk_28 (dk_at dksX4_goSplit_0 16 rfl rfl)
theorem dX4_goSplit_17 : decode cX4_goSplit 17 = .ok (.iload_n 3, 1) := dk_29 (dk_at dksX4_goSplit_0 17 rfl rfl)
theorem dX4_goSplit_18 : decode cX4_goSplit 18 = .ok (.idiv, 1) := dk_108 (dk_at dksX4_goSplit_0 18 rfl rfl)
theorem dX4_goSplit_19 : decode cX4_goSplit 19 = .ok (.iconst 1, 1) := dk_4 (dk_at dksX4_goSplit_0 19 rfl rfl)
theorem dX4_goSplit_20 : decode cX4_goSplit 20 = .ok (.if_icmp .le 25, 3) := dk_164 0 25 (dk_at dksX4_goSplit_0 20 rfl rfl)
theorem dX4_goSplit_23 : decode cX4_goSplit 23 = .ok (.aload_n 0, 1) := dk_42 (dk_at dksX4_goSplit_0 23 rfl rfl)
theorem dX4_goSplit_24 : decode cX4_goSplit 24 = .ok (.iload_n 1, 1) := dk_27 (dk_at dksX4_goSplit_1 0 rfl rfl)
theorem dX4_goSplit_25 : decode cX4_goSplit 25 = .ok (.iload_n 3, 1) := dk_29 (dk_at dksX4_goSplit_1 1 rfl rfl)
theorem dX4_goSplit_26 : decode cX4_goSplit 26 = .ok (.invokevirtual 243, 3) := dk_182 0 243 (dk_at dksX4_goSplit_1 2 rfl rfl)
theorem dX4_goSplit_29 : decode cX4_goSplit 29 = .ok (.aload_n 0, 1) := dk_42 (dk_at dksX4_goSplit_1 5 rfl rfl)
theorem dX4_goSplit_30 : decode cX4_goSplit 30 = .ok (.invokevirtual 247, 3) := dk_182 0 247 (dk_at dksX4_goSplit_1 6 rfl rfl)
theorem dX4_goSplit_33 : decode cX4_goSplit 33 = .ok (.aload_n 0, 1) := dk_42 (dk_at dksX4_goSplit_1 9 rfl rfl)
theorem dX4_goSplit_34 : decode cX4_goSplit 34 = .ok (.iload_n 1, 1) := dk_27 (dk_at dksX4_goSplit_1 10 rfl rfl)
theorem dX4_goSplit_35 : decode cX4_goSplit 35 = .ok (.iload_n 3, 1) := dk_29 (dk_at dksX4_goSplit_1 11 rfl rfl)
theorem dX4_goSplit_36 : decode cX4_goSplit 36 = .ok (.imul, 1) := dk_104 (dk_at dksX4_goSplit_1 12 rfl rfl)
theorem dX4_goSplit_37 : decode cX4_goSplit 37 = .ok (.iload_n 2, 1) := dk_28 (dk_at dksX4_goSplit_1 13 rfl rfl)
theorem dX4_goSplit_38 : decode cX4_goSplit 38 = .ok (.iload_n 3, 1) := dk_29 (dk_at dksX4_goSplit_1 14 rfl rfl)
theorem dX4_goSplit_39 : decode cX4_goSplit 39 = .ok (.idiv, 1) := dk_108 (dk_at dksX4_goSplit_1 15 rfl rfl)
theorem dX4_goSplit_40 : decode cX4_goSplit 40 = .ok (.invokevirtual 243, 3) := dk_182 0 243 (dk_at dksX4_goSplit_1 16 rfl rfl)
theorem dX4_goSplit_43 : decode cX4_goSplit 43 = .ok (.iconst 1, 1) := dk_4 (dk_at dksX4_goSplit_1 19 rfl rfl)
theorem dX4_goSplit_44 : decode cX4_goSplit 44 = .ok (.ireturn, 1) := dk_172 (dk_at dksX4_goSplit_1 20 rfl rfl)
theorem dX4_goSplit_45 : decode cX4_goSplit 45 = .ok (.iinc 3 (-1), 3) := dk_132 3 255 (dk_at dksX4_goSplit_1 21 rfl rfl)
theorem dX4_goSplit_48 : decode cX4_goSplit 48 = .ok (.goto (-43), 3) := dk_167 255 213 (dk_at dksX4_goSplit_2 0 rfl rfl)
theorem dX4_goSplit_51 : decode cX4_goSplit 51 = .ok (.iconst 0, 1) := dk_3 (dk_at dksX4_goSplit_2 3 rfl rfl)
theorem dX4_goSplit_52 : decode cX4_goSplit 52 = .ok (.ireturn, 1) := dk_172 (dk_at dksX4_goSplit_2 4 rfl rfl)
abbrev cX4_seconds : ByteArray := prog_34_method_47_code
def yX4_seconds : MethodName := ⟨RX4, "seconds", "()I"⟩
def dkwX4_seconds_1 : List UInt8 := [167, 255, 236, 27, 172]
abbrev dktX4_seconds_1 : List UInt8 := dkwX4_seconds_1 ++ []
def dkwX4_seconds_0 : List UInt8 := [3, 60, 3, 61, 28, 42, 180, 0, 214, 162, 0, 18, 27, 42, 180, 0, 49, 28, 46, 96, 60, 132, 2, 1]
abbrev dktX4_seconds_0 : List UInt8 := dkwX4_seconds_0 ++ dktX4_seconds_1
theorem dksX4_seconds_0 : cX4_seconds.data.toList.drop 0 = dktX4_seconds_0 := by decide +kernel
theorem dksX4_seconds_1 : cX4_seconds.data.toList.drop 24 = dktX4_seconds_1 := dk_seg dksX4_seconds_0 24 rfl rfl
theorem dX4_seconds_0 : decode cX4_seconds 0 = .ok (.iconst 0, 1) := dk_3 (dk_at dksX4_seconds_0 0 rfl rfl)
theorem dX4_seconds_1 : decode cX4_seconds 1 = .ok (.istore_n 1, 1) := dk_60 (dk_at dksX4_seconds_0 1 rfl rfl)
theorem dX4_seconds_2 : decode cX4_seconds 2 = .ok (.iconst 0, 1) := dk_3 (dk_at dksX4_seconds_0 2 rfl rfl)
theorem dX4_seconds_3 : decode cX4_seconds 3 = .ok (.istore_n 2, 1) := dk_61 (dk_at dksX4_seconds_0 3 rfl rfl)
theorem dX4_seconds_4 : decode cX4_seconds 4 = .ok (.iload_n 2, 1) := dk_28 (dk_at dksX4_seconds_0 4 rfl rfl)
theorem dX4_seconds_5 : decode cX4_seconds 5 = .ok (.aload_n 0, 1) := dk_42 (dk_at dksX4_seconds_0 5 rfl rfl)
theorem dX4_seconds_6 : decode cX4_seconds 6 = .ok (.getfield 214, 3) := dk_180 0 214 (dk_at dksX4_seconds_0 6 rfl rfl)
theorem dX4_seconds_9 : decode cX4_seconds 9 = .ok (.if_icmp .ge 18, 3) := dk_162 0 18 (dk_at dksX4_seconds_0 9 rfl rfl)
theorem dX4_seconds_12 : decode cX4_seconds 12 = .ok (.iload_n 1, 1) := dk_27 (dk_at dksX4_seconds_0 12 rfl rfl)
theorem dX4_seconds_13 : decode cX4_seconds 13 = .ok (.aload_n 0, 1) := dk_42 (dk_at dksX4_seconds_0 13 rfl rfl)
theorem dX4_seconds_14 : decode cX4_seconds 14 = .ok (.getfield 49, 3) := dk_180 0 49 (dk_at dksX4_seconds_0 14 rfl rfl)
theorem dX4_seconds_17 : decode cX4_seconds 17 = .ok (.iload_n 2, 1) := dk_28 (dk_at dksX4_seconds_0 17 rfl rfl)
theorem dX4_seconds_18 : decode cX4_seconds 18 = .ok (.iaload, 1) := dk_46 (dk_at dksX4_seconds_0 18 rfl rfl)
theorem dX4_seconds_19 : decode cX4_seconds 19 = .ok (.iadd, 1) := dk_96 (dk_at dksX4_seconds_0 19 rfl rfl)
theorem dX4_seconds_20 : decode cX4_seconds 20 = .ok (.istore_n 1, 1) := dk_60 (dk_at dksX4_seconds_0 20 rfl rfl)
theorem dX4_seconds_21 : decode cX4_seconds 21 = .ok (.iinc 2 1, 3) := dk_132 2 1 (dk_at dksX4_seconds_0 21 rfl rfl)
theorem dX4_seconds_24 : decode cX4_seconds 24 = .ok (.goto (-20), 3) := dk_167 255 236 (dk_at dksX4_seconds_1 0 rfl rfl)
theorem dX4_seconds_27 : decode cX4_seconds 27 = .ok (.iload_n 1, 1) := dk_27 (dk_at dksX4_seconds_1 3 rfl rfl)
theorem dX4_seconds_28 : decode cX4_seconds 28 = .ok (.ireturn, 1) := dk_172 (dk_at dksX4_seconds_1 4 rfl rfl)
abbrev cX4_mostHeld : ByteArray := prog_34_method_48_code
def yX4_mostHeld : MethodName := ⟨RX4, "mostHeld", "()I"⟩
def dkwX4_mostHeld_1 : List UInt8 := [180, 0, 52, 28, 46, 167, 0, 4, 27, 60, 132, 2, 1, 167, 255, 224, 27, 172]
abbrev dktX4_mostHeld_1 : List UInt8 := dkwX4_mostHeld_1 ++ []
def dkwX4_mostHeld_0 : List UInt8 := [3, 60, 3, 61, 28, 42, 180, 0, 214, 162, 0, 30, 42, 180, 0, 52, 28, 46, 27, 164, 0, 12, 42]
abbrev dktX4_mostHeld_0 : List UInt8 := dkwX4_mostHeld_0 ++ dktX4_mostHeld_1
theorem dksX4_mostHeld_0 : cX4_mostHeld.data.toList.drop 0 = dktX4_mostHeld_0 := by decide +kernel
theorem dksX4_mostHeld_1 : cX4_mostHeld.data.toList.drop 23 = dktX4_mostHeld_1 := dk_seg dksX4_mostHeld_0 23 rfl rfl
theorem dX4_mostHeld_0 : decode cX4_mostHeld 0 = .ok (.iconst 0, 1) := dk_3 (dk_at dksX4_mostHeld_0 0 rfl rfl)
theorem dX4_mostHeld_1 : decode cX4_mostHeld 1 = .ok (.istore_n 1, 1) := dk_60 (dk_at dksX4_mostHeld_0 1 rfl rfl)
theorem dX4_mostHeld_2 : decode cX4_mostHeld 2 = .ok (.iconst 0, 1) := dk_3 (dk_at dksX4_mostHeld_0 2 rfl rfl)
theorem dX4_mostHeld_3 : decode cX4_mostHeld 3 = .ok (.istore_n 2, 1) := dk_61 (dk_at dksX4_mostHeld_0 3 rfl rfl)
theorem dX4_mostHeld_4 : decode cX4_mostHeld 4 = .ok (.iload_n 2, 1) := dk_28 (dk_at dksX4_mostHeld_0 4 rfl rfl)
theorem dX4_mostHeld_5 : decode cX4_mostHeld 5 = .ok (.aload_n 0, 1) := dk_42 (dk_at dksX4_mostHeld_0 5 rfl rfl)
theorem dX4_mostHeld_6 : decode cX4_mostHeld 6 = .ok (.getfield 214, 3) := dk_180 0 214 (dk_at dksX4_mostHeld_0 6 rfl rfl)
theorem dX4_mostHeld_9 : decode cX4_mostHeld 9 = .ok (.if_icmp .ge 30, 3) := dk_162 0 30 (dk_at dksX4_mostHeld_0 9 rfl rfl)
theorem dX4_mostHeld_12 : decode cX4_mostHeld 12 = .ok (.aload_n 0, 1) := dk_42 (dk_at dksX4_mostHeld_0 12 rfl rfl)
theorem dX4_mostHeld_13 : decode cX4_mostHeld 13 = .ok (.getfield 52, 3) := dk_180 0 52 (dk_at dksX4_mostHeld_0 13 rfl rfl)
theorem dX4_mostHeld_16 : decode cX4_mostHeld 16 = .ok (.iload_n 2, 1) := dk_28 (dk_at dksX4_mostHeld_0 16 rfl rfl)
theorem dX4_mostHeld_17 : decode cX4_mostHeld 17 = .ok (.iaload, 1) := dk_46 (dk_at dksX4_mostHeld_0 17 rfl rfl)
theorem dX4_mostHeld_18 : decode cX4_mostHeld 18 = .ok (.iload_n 1, 1) := dk_27 (dk_at dksX4_mostHeld_0 18 rfl rfl)
theorem dX4_mostHeld_19 : decode cX4_mostHeld 19 = .ok (.if_icmp .le 12, 3) := dk_164 0 12 (dk_at dksX4_mostHeld_0 19 rfl rfl)
theorem dX4_mostHeld_22 : decode cX4_mostHeld 22 = .ok (.aload_n 0, 1) := dk_42 (dk_at dksX4_mostHeld_0 22 rfl rfl)
theorem dX4_mostHeld_23 : decode cX4_mostHeld 23 = .ok (.getfield 52, 3) := dk_180 0 52 (dk_at dksX4_mostHeld_1 0 rfl rfl)
theorem dX4_mostHeld_26 : decode cX4_mostHeld 26 = .ok (.iload_n 2, 1) := dk_28 (dk_at dksX4_mostHeld_1 3 rfl rfl)
theorem dX4_mostHeld_27 : decode cX4_mostHeld 27 = .ok (.iaload, 1) := dk_46 (dk_at dksX4_mostHeld_1 4 rfl rfl)
theorem dX4_mostHeld_28 : decode cX4_mostHeld 28 = .ok (.goto 4, 3) := dk_167 0 4 (dk_at dksX4_mostHeld_1 5 rfl rfl)
theorem dX4_mostHeld_31 : decode cX4_mostHeld 31 = .ok (.iload_n 1, 1) := dk_27 (dk_at dksX4_mostHeld_1 8 rfl rfl)
theorem dX4_mostHeld_32 : decode cX4_mostHeld 32 = .ok (.istore_n 1, 1) := dk_60 (dk_at dksX4_mostHeld_1 9 rfl rfl)
theorem dX4_mostHeld_33 : decode cX4_mostHeld 33 = .ok (.iinc 2 1, 3) := dk_132 2 1 (dk_at dksX4_mostHeld_1 10 rfl rfl)
theorem dX4_mostHeld_36 : decode cX4_mostHeld 36 = .ok (.goto (-32), 3) := dk_167 255 224 (dk_at dksX4_mostHeld_1 13 rfl rfl)
theorem dX4_mostHeld_39 : decode cX4_mostHeld 39 = .ok (.iload_n 1, 1) := dk_27 (dk_at dksX4_mostHeld_1 16 rfl rfl)
theorem dX4_mostHeld_40 : decode cX4_mostHeld 40 = .ok (.ireturn, 1) := dk_172 (dk_at dksX4_mostHeld_1 17 rfl rfl)
abbrev cX4_step : ByteArray := prog_34_method_51_code
def yX4_step : MethodName := ⟨RX4, "step", "(IIII)I"⟩
def dkwX4_step_4 : List UInt8 := [21, 4, 5, 160, 0, 12, 42, 180, 0, 49, 29, 46, 167, 0, 9, 42, 180, 0, 52, 29, 46, 172]
abbrev dktX4_step_4 : List UInt8 := dkwX4_step_4 ++ []
def dkwX4_step_3 : List UInt8 := [42, 180, 0, 43, 29, 46, 167, 0, 39, 21, 4, 4, 160, 0, 12, 42, 180, 0, 46, 29, 46, 167, 0, 24]
abbrev dktX4_step_3 : List UInt8 := dkwX4_step_3 ++ dktX4_step_4
def dkwX4_step_2 : List UInt8 := [133, 9, 42, 180, 0, 214, 4, 100, 133, 184, 0, 113, 154, 0, 7, 19, 1, 35, 172, 21, 4, 154, 0, 12]
abbrev dktX4_step_2 : List UInt8 := dkwX4_step_2 ++ dktX4_step_3
def dkwX4_step_1 : List UInt8 := [184, 0, 113, 153, 0, 36, 42, 27, 16, 10, 108, 27, 16, 10, 112, 28, 3, 182, 1, 23, 153, 0, 19, 29]
abbrev dktX4_step_1 : List UInt8 := dkwX4_step_1 ++ dktX4_step_2
def dkwX4_step_0 : List UInt8 := [42, 27, 182, 1, 18, 153, 0, 56, 28, 184, 0, 208, 153, 0, 49, 21, 4, 133, 9, 20, 1, 33]
abbrev dktX4_step_0 : List UInt8 := dkwX4_step_0 ++ dktX4_step_1
theorem dksX4_step_0 : cX4_step.data.toList.drop 0 = dktX4_step_0 := by decide +kernel
theorem dksX4_step_1 : cX4_step.data.toList.drop 22 = dktX4_step_1 := dk_seg dksX4_step_0 22 rfl rfl
theorem dksX4_step_2 : cX4_step.data.toList.drop 46 = dktX4_step_2 := dk_seg dksX4_step_1 24 rfl rfl
theorem dksX4_step_3 : cX4_step.data.toList.drop 70 = dktX4_step_3 := dk_seg dksX4_step_2 24 rfl rfl
theorem dksX4_step_4 : cX4_step.data.toList.drop 94 = dktX4_step_4 := dk_seg dksX4_step_3 24 rfl rfl
theorem dX4_step_0 : decode cX4_step 0 = .ok (.aload_n 0, 1) := dk_42 (dk_at dksX4_step_0 0 rfl rfl)
theorem dX4_step_1 : decode cX4_step 1 = .ok (.iload_n 1, 1) := dk_27 (dk_at dksX4_step_0 1 rfl rfl)
theorem dX4_step_2 : decode cX4_step 2 = .ok (.invokevirtual 274, 3) := dk_182 1 18 (dk_at dksX4_step_0 2 rfl rfl)
theorem dX4_step_5 : decode cX4_step 5 = .ok (.ifCond .eq 56, 3) := dk_153 0 56 (dk_at dksX4_step_0 5 rfl rfl)
theorem dX4_step_8 : decode cX4_step 8 = .ok (.iload_n 2, 1) := dk_28 (dk_at dksX4_step_0 8 rfl rfl)
theorem dX4_step_9 : decode cX4_step 9 = .ok (.invokestatic 208, 3) := dk_184 0 208 (dk_at dksX4_step_0 9 rfl rfl)
theorem dX4_step_12 : decode cX4_step 12 = .ok (.ifCond .eq 49, 3) := dk_153 0 49 (dk_at dksX4_step_0 12 rfl rfl)
theorem dX4_step_15 : decode cX4_step 15 = .ok (.iload 4, 2) := dk_21 4 (dk_at dksX4_step_0 15 rfl rfl)
theorem dX4_step_17 : decode cX4_step 17 = .ok (.i2l, 1) := dk_133 (dk_at dksX4_step_0 17 rfl rfl)
theorem dX4_step_18 : decode cX4_step 18 = .ok (.lconst 0, 1) := dk_9 (dk_at dksX4_step_0 18 rfl rfl)
theorem dX4_step_19 : decode cX4_step 19 = .ok (.ldc2_w 289, 3) := dk_20 1 33 (dk_at dksX4_step_0 19 rfl rfl)
theorem dX4_step_22 : decode cX4_step 22 = .ok (.invokestatic 113, 3) := dk_184 0 113 (dk_at dksX4_step_1 0 rfl rfl)
theorem dX4_step_25 : decode cX4_step 25 = .ok (.ifCond .eq 36, 3) := dk_153 0 36 (dk_at dksX4_step_1 3 rfl rfl)
theorem dX4_step_28 : decode cX4_step 28 = .ok (.aload_n 0, 1) := dk_42 (dk_at dksX4_step_1 6 rfl rfl)
theorem dX4_step_29 : decode cX4_step 29 = .ok (.iload_n 1, 1) := dk_27 (dk_at dksX4_step_1 7 rfl rfl)
theorem dX4_step_30 : decode cX4_step 30 = .ok (.bipush 10, 2) := dk_16 10 (dk_at dksX4_step_1 8 rfl rfl)
theorem dX4_step_32 : decode cX4_step 32 = .ok (.idiv, 1) := dk_108 (dk_at dksX4_step_1 10 rfl rfl)
theorem dX4_step_33 : decode cX4_step 33 = .ok (.iload_n 1, 1) := dk_27 (dk_at dksX4_step_1 11 rfl rfl)
theorem dX4_step_34 : decode cX4_step 34 = .ok (.bipush 10, 2) := dk_16 10 (dk_at dksX4_step_1 12 rfl rfl)
theorem dX4_step_36 : decode cX4_step 36 = .ok (.irem, 1) := dk_112 (dk_at dksX4_step_1 14 rfl rfl)
theorem dX4_step_37 : decode cX4_step 37 = .ok (.iload_n 2, 1) := dk_28 (dk_at dksX4_step_1 15 rfl rfl)
theorem dX4_step_38 : decode cX4_step 38 = .ok (.iconst 0, 1) := dk_3 (dk_at dksX4_step_1 16 rfl rfl)
theorem dX4_step_39 : decode cX4_step 39 = .ok (.invokevirtual 279, 3) := dk_182 1 23 (dk_at dksX4_step_1 17 rfl rfl)
theorem dX4_step_42 : decode cX4_step 42 = .ok (.ifCond .eq 19, 3) := dk_153 0 19 (dk_at dksX4_step_1 20 rfl rfl)
theorem dX4_step_45 : decode cX4_step 45 = .ok (.iload_n 3, 1) := dk_29 (dk_at dksX4_step_1 23 rfl rfl)
theorem dX4_step_46 : decode cX4_step 46 = .ok (.i2l, 1) := dk_133 (dk_at dksX4_step_2 0 rfl rfl)
theorem dX4_step_47 : decode cX4_step 47 = .ok (.lconst 0, 1) := dk_9 (dk_at dksX4_step_2 1 rfl rfl)
theorem dX4_step_48 : decode cX4_step 48 = .ok (.aload_n 0, 1) := dk_42 (dk_at dksX4_step_2 2 rfl rfl)
theorem dX4_step_49 : decode cX4_step 49 = .ok (.getfield 214, 3) := dk_180 0 214 (dk_at dksX4_step_2 3 rfl rfl)
theorem dX4_step_52 : decode cX4_step 52 = .ok (.iconst 1, 1) := dk_4 (dk_at dksX4_step_2 6 rfl rfl)
theorem dX4_step_53 : decode cX4_step 53 = .ok (.isub, 1) := dk_100 (dk_at dksX4_step_2 7 rfl rfl)
theorem dX4_step_54 : decode cX4_step 54 = .ok (.i2l, 1) := dk_133 (dk_at dksX4_step_2 8 rfl rfl)
theorem dX4_step_55 : decode cX4_step 55 = .ok (.invokestatic 113, 3) := dk_184 0 113 (dk_at dksX4_step_2 9 rfl rfl)
theorem dX4_step_58 : decode cX4_step 58 = .ok (.ifCond .ne 7, 3) := dk_154 0 7 (dk_at dksX4_step_2 12 rfl rfl)
theorem dX4_step_61 : decode cX4_step 61 = .ok (.ldc_w 291, 3) := dk_19 1 35 (dk_at dksX4_step_2 15 rfl rfl)
theorem dX4_step_64 : decode cX4_step 64 = .ok (.ireturn, 1) := dk_172 (dk_at dksX4_step_2 18 rfl rfl)
theorem dX4_step_65 : decode cX4_step 65 = .ok (.iload 4, 2) := dk_21 4 (dk_at dksX4_step_2 19 rfl rfl)
theorem dX4_step_67 : decode cX4_step 67 = .ok (.ifCond .ne 12, 3) := dk_154 0 12 (dk_at dksX4_step_2 21 rfl rfl)
theorem dX4_step_70 : decode cX4_step 70 = .ok (.aload_n 0, 1) := dk_42 (dk_at dksX4_step_3 0 rfl rfl)
theorem dX4_step_71 : decode cX4_step 71 = .ok (.getfield 43, 3) := dk_180 0 43 (dk_at dksX4_step_3 1 rfl rfl)
theorem dX4_step_74 : decode cX4_step 74 = .ok (.iload_n 3, 1) := dk_29 (dk_at dksX4_step_3 4 rfl rfl)
theorem dX4_step_75 : decode cX4_step 75 = .ok (.iaload, 1) := dk_46 (dk_at dksX4_step_3 5 rfl rfl)
theorem dX4_step_76 : decode cX4_step 76 = .ok (.goto 39, 3) := dk_167 0 39 (dk_at dksX4_step_3 6 rfl rfl)
theorem dX4_step_79 : decode cX4_step 79 = .ok (.iload 4, 2) := dk_21 4 (dk_at dksX4_step_3 9 rfl rfl)
theorem dX4_step_81 : decode cX4_step 81 = .ok (.iconst 1, 1) := dk_4 (dk_at dksX4_step_3 11 rfl rfl)
theorem dX4_step_82 : decode cX4_step 82 = .ok (.if_icmp .ne 12, 3) := dk_160 0 12 (dk_at dksX4_step_3 12 rfl rfl)
theorem dX4_step_85 : decode cX4_step 85 = .ok (.aload_n 0, 1) := dk_42 (dk_at dksX4_step_3 15 rfl rfl)
theorem dX4_step_86 : decode cX4_step 86 = .ok (.getfield 46, 3) := dk_180 0 46 (dk_at dksX4_step_3 16 rfl rfl)
theorem dX4_step_89 : decode cX4_step 89 = .ok (.iload_n 3, 1) := dk_29 (dk_at dksX4_step_3 19 rfl rfl)
theorem dX4_step_90 : decode cX4_step 90 = .ok (.iaload, 1) := dk_46 (dk_at dksX4_step_3 20 rfl rfl)
theorem dX4_step_91 : decode cX4_step 91 = .ok (.goto 24, 3) := dk_167 0 24 (dk_at dksX4_step_3 21 rfl rfl)
theorem dX4_step_94 : decode cX4_step 94 = .ok (.iload 4, 2) := dk_21 4 (dk_at dksX4_step_4 0 rfl rfl)
theorem dX4_step_96 : decode cX4_step 96 = .ok (.iconst 2, 1) := dk_5 (dk_at dksX4_step_4 2 rfl rfl)
theorem dX4_step_97 : decode cX4_step 97 = .ok (.if_icmp .ne 12, 3) := dk_160 0 12 (dk_at dksX4_step_4 3 rfl rfl)
theorem dX4_step_100 : decode cX4_step 100 = .ok (.aload_n 0, 1) := dk_42 (dk_at dksX4_step_4 6 rfl rfl)
theorem dX4_step_101 : decode cX4_step 101 = .ok (.getfield 49, 3) := dk_180 0 49 (dk_at dksX4_step_4 7 rfl rfl)
theorem dX4_step_104 : decode cX4_step 104 = .ok (.iload_n 3, 1) := dk_29 (dk_at dksX4_step_4 10 rfl rfl)
theorem dX4_step_105 : decode cX4_step 105 = .ok (.iaload, 1) := dk_46 (dk_at dksX4_step_4 11 rfl rfl)
theorem dX4_step_106 : decode cX4_step 106 = .ok (.goto 9, 3) := dk_167 0 9 (dk_at dksX4_step_4 12 rfl rfl)
theorem dX4_step_109 : decode cX4_step 109 = .ok (.aload_n 0, 1) := dk_42 (dk_at dksX4_step_4 15 rfl rfl)
theorem dX4_step_110 : decode cX4_step 110 = .ok (.getfield 52, 3) := dk_180 0 52 (dk_at dksX4_step_4 16 rfl rfl)
theorem dX4_step_113 : decode cX4_step 113 = .ok (.iload_n 3, 1) := dk_29 (dk_at dksX4_step_4 19 rfl rfl)
theorem dX4_step_114 : decode cX4_step 114 = .ok (.iaload, 1) := dk_46 (dk_at dksX4_step_4 20 rfl rfl)
theorem dX4_step_115 : decode cX4_step 115 = .ok (.ireturn, 1) := dk_172 (dk_at dksX4_step_4 21 rfl rfl)
abbrev cX4_chosen : ByteArray := prog_34_method_54_code
def yX4_chosen : MethodName := ⟨RX4, "chosen", "(II)I"⟩
def dkwX4_chosen_1 : List UInt8 := [167, 0, 4, 2, 172]
abbrev dktX4_chosen_1 : List UInt8 := dkwX4_chosen_1 ++ []
def dkwX4_chosen_0 : List UInt8 := [42, 27, 182, 0, 188, 153, 0, 20, 28, 184, 0, 208, 153, 0, 13, 42, 27, 28, 3, 182, 1, 41]
abbrev dktX4_chosen_0 : List UInt8 := dkwX4_chosen_0 ++ dktX4_chosen_1
theorem dksX4_chosen_0 : cX4_chosen.data.toList.drop 0 = dktX4_chosen_0 := by decide +kernel
theorem dksX4_chosen_1 : cX4_chosen.data.toList.drop 22 = dktX4_chosen_1 := dk_seg dksX4_chosen_0 22 rfl rfl
theorem dX4_chosen_0 : decode cX4_chosen 0 = .ok (.aload_n 0, 1) := dk_42 (dk_at dksX4_chosen_0 0 rfl rfl)
theorem dX4_chosen_1 : decode cX4_chosen 1 = .ok (.iload_n 1, 1) := dk_27 (dk_at dksX4_chosen_0 1 rfl rfl)
theorem dX4_chosen_2 : decode cX4_chosen 2 = .ok (.invokevirtual 188, 3) := dk_182 0 188 (dk_at dksX4_chosen_0 2 rfl rfl)
theorem dX4_chosen_5 : decode cX4_chosen 5 = .ok (.ifCond .eq 20, 3) := dk_153 0 20 (dk_at dksX4_chosen_0 5 rfl rfl)
theorem dX4_chosen_8 : decode cX4_chosen 8 = .ok (.iload_n 2, 1) := dk_28 (dk_at dksX4_chosen_0 8 rfl rfl)
theorem dX4_chosen_9 : decode cX4_chosen 9 = .ok (.invokestatic 208, 3) := dk_184 0 208 (dk_at dksX4_chosen_0 9 rfl rfl)
theorem dX4_chosen_12 : decode cX4_chosen 12 = .ok (.ifCond .eq 13, 3) := dk_153 0 13 (dk_at dksX4_chosen_0 12 rfl rfl)
theorem dX4_chosen_15 : decode cX4_chosen 15 = .ok (.aload_n 0, 1) := dk_42 (dk_at dksX4_chosen_0 15 rfl rfl)
theorem dX4_chosen_16 : decode cX4_chosen 16 = .ok (.iload_n 1, 1) := dk_27 (dk_at dksX4_chosen_0 16 rfl rfl)
theorem dX4_chosen_17 : decode cX4_chosen 17 = .ok (.iload_n 2, 1) := dk_28 (dk_at dksX4_chosen_0 17 rfl rfl)
theorem dX4_chosen_18 : decode cX4_chosen 18 = .ok (.iconst 0, 1) := dk_3 (dk_at dksX4_chosen_0 18 rfl rfl)
theorem dX4_chosen_19 : decode cX4_chosen 19 = .ok (.invokevirtual 297, 3) := dk_182 1 41 (dk_at dksX4_chosen_0 19 rfl rfl)
theorem dX4_chosen_22 : decode cX4_chosen 22 = .ok (.goto 4, 3) := dk_167 0 4 (dk_at dksX4_chosen_1 0 rfl rfl)
theorem dX4_chosen_25 : decode cX4_chosen 25 = .ok (.iconst (-1), 1) := dk_2 (dk_at dksX4_chosen_1 3 rfl rfl)
theorem dX4_chosen_26 : decode cX4_chosen 26 = .ok (.ireturn, 1) := dk_172 (dk_at dksX4_chosen_1 4 rfl rfl)
abbrev cX4_chosenBy : ByteArray := prog_34_method_53_code
def yX4_chosenBy : MethodName := ⟨RX4, "chosenBy", "(III)I"⟩
def dkwX4_chosenBy_8 : List UInt8 := [182, 1, 23, 54, 5, 21, 4, 172]
abbrev dktX4_chosenBy_8 : List UInt8 := dkwX4_chosenBy_8 ++ []
def dkwX4_chosenBy_7 : List UInt8 := [153, 0, 15, 42, 27, 21, 4, 28, 29, 182, 1, 23, 154, 0, 17, 4, 54, 4, 42, 27, 21, 4, 28, 29]
abbrev dktX4_chosenBy_7 : List UInt8 := dkwX4_chosenBy_7 ++ dktX4_chosenBy_8
def dkwX4_chosenBy_6 : List UInt8 := [96, 46, 79, 42, 3, 42, 180, 0, 101, 182, 0, 168, 54, 4, 21, 4, 133, 9, 20, 1, 39, 184, 0, 113]
abbrev dktX4_chosenBy_6 : List UInt8 := dkwX4_chosenBy_6 ++ dktX4_chosenBy_7
def dkwX4_chosenBy_5 : List UInt8 := [180, 0, 9, 8, 27, 104, 6, 96, 46, 79, 42, 180, 0, 28, 16, 7, 42, 180, 0, 9, 8, 27, 104, 7]
abbrev dktX4_chosenBy_5 : List UInt8 := dkwX4_chosenBy_5 ++ dktX4_chosenBy_6
def dkwX4_chosenBy_4 : List UInt8 := [21, 6, 184, 1, 36, 96, 79, 42, 180, 0, 28, 16, 6, 29, 158, 0, 7, 29, 167, 0, 13, 42]
abbrev dktX4_chosenBy_4 : List UInt8 := dkwX4_chosenBy_4 ++ dktX4_chosenBy_5
def dkwX4_chosenBy_3 : List UInt8 := [180, 0, 28, 7, 21, 5, 21, 6, 100, 184, 0, 250, 79, 42, 180, 0, 28, 8, 21, 5, 184, 1, 36]
abbrev dktX4_chosenBy_3 : List UInt8 := dkwX4_chosenBy_3 ++ dktX4_chosenBy_4
def dkwX4_chosenBy_2 : List UInt8 := [180, 0, 28, 5, 21, 5, 16, 10, 112, 79, 42, 180, 0, 28, 6, 21, 6, 16, 10, 112, 79, 42]
abbrev dktX4_chosenBy_2 : List UInt8 := dkwX4_chosenBy_2 ++ dktX4_chosenBy_3
def dkwX4_chosenBy_1 : List UInt8 := [42, 180, 0, 28, 3, 21, 5, 184, 0, 220, 79, 42, 180, 0, 28, 4, 21, 6, 184, 0, 220, 79, 42]
abbrev dktX4_chosenBy_1 : List UInt8 := dkwX4_chosenBy_1 ++ dktX4_chosenBy_2
def dkwX4_chosenBy_0 : List UInt8 := [4, 54, 4, 42, 180, 0, 101, 155, 0, 145, 28, 17, 39, 16, 108, 54, 5, 28, 17, 39, 16, 112, 54, 6]
abbrev dktX4_chosenBy_0 : List UInt8 := dkwX4_chosenBy_0 ++ dktX4_chosenBy_1
theorem dksX4_chosenBy_0 : cX4_chosenBy.data.toList.drop 0 = dktX4_chosenBy_0 := by decide +kernel
theorem dksX4_chosenBy_1 : cX4_chosenBy.data.toList.drop 24 = dktX4_chosenBy_1 := dk_seg dksX4_chosenBy_0 24 rfl rfl
theorem dksX4_chosenBy_2 : cX4_chosenBy.data.toList.drop 47 = dktX4_chosenBy_2 := dk_seg dksX4_chosenBy_1 23 rfl rfl
theorem dksX4_chosenBy_3 : cX4_chosenBy.data.toList.drop 69 = dktX4_chosenBy_3 := dk_seg dksX4_chosenBy_2 22 rfl rfl
theorem dksX4_chosenBy_4 : cX4_chosenBy.data.toList.drop 92 = dktX4_chosenBy_4 := dk_seg dksX4_chosenBy_3 23 rfl rfl
theorem dksX4_chosenBy_5 : cX4_chosenBy.data.toList.drop 114 = dktX4_chosenBy_5 := dk_seg dksX4_chosenBy_4 22 rfl rfl
theorem dksX4_chosenBy_6 : cX4_chosenBy.data.toList.drop 138 = dktX4_chosenBy_6 := dk_seg dksX4_chosenBy_5 24 rfl rfl
theorem dksX4_chosenBy_7 : cX4_chosenBy.data.toList.drop 162 = dktX4_chosenBy_7 := dk_seg dksX4_chosenBy_6 24 rfl rfl
theorem dksX4_chosenBy_8 : cX4_chosenBy.data.toList.drop 186 = dktX4_chosenBy_8 := dk_seg dksX4_chosenBy_7 24 rfl rfl
theorem dX4_chosenBy_0 : decode cX4_chosenBy 0 = .ok (.iconst 1, 1) := dk_4 (dk_at dksX4_chosenBy_0 0 rfl rfl)
theorem dX4_chosenBy_1 : decode cX4_chosenBy 1 = .ok (.istore 4, 2) := dk_54 4 (dk_at dksX4_chosenBy_0 1 rfl rfl)
theorem dX4_chosenBy_3 : decode cX4_chosenBy 3 = .ok (.aload_n 0, 1) := dk_42 (dk_at dksX4_chosenBy_0 3 rfl rfl)
theorem dX4_chosenBy_4 : decode cX4_chosenBy 4 = .ok (.getfield 101, 3) := dk_180 0 101 (dk_at dksX4_chosenBy_0 4 rfl rfl)
theorem dX4_chosenBy_7 : decode cX4_chosenBy 7 = .ok (.ifCond .lt 145, 3) := dk_155 0 145 (dk_at dksX4_chosenBy_0 7 rfl rfl)
theorem dX4_chosenBy_10 : decode cX4_chosenBy 10 = .ok (.iload_n 2, 1) := dk_28 (dk_at dksX4_chosenBy_0 10 rfl rfl)
theorem dX4_chosenBy_11 : decode cX4_chosenBy 11 = .ok (.sipush 10000, 3) := dk_17 39 16 (dk_at dksX4_chosenBy_0 11 rfl rfl)
theorem dX4_chosenBy_14 : decode cX4_chosenBy 14 = .ok (.idiv, 1) := dk_108 (dk_at dksX4_chosenBy_0 14 rfl rfl)
theorem dX4_chosenBy_15 : decode cX4_chosenBy 15 = .ok (.istore 5, 2) := dk_54 5 (dk_at dksX4_chosenBy_0 15 rfl rfl)
theorem dX4_chosenBy_17 : decode cX4_chosenBy 17 = .ok (.iload_n 2, 1) := dk_28 (dk_at dksX4_chosenBy_0 17 rfl rfl)
theorem dX4_chosenBy_18 : decode cX4_chosenBy 18 = .ok (.sipush 10000, 3) := dk_17 39 16 (dk_at dksX4_chosenBy_0 18 rfl rfl)
theorem dX4_chosenBy_21 : decode cX4_chosenBy 21 = .ok (.irem, 1) := dk_112 (dk_at dksX4_chosenBy_0 21 rfl rfl)
theorem dX4_chosenBy_22 : decode cX4_chosenBy 22 = .ok (.istore 6, 2) := dk_54 6 (dk_at dksX4_chosenBy_0 22 rfl rfl)
theorem dX4_chosenBy_24 : decode cX4_chosenBy 24 = .ok (.aload_n 0, 1) := dk_42 (dk_at dksX4_chosenBy_1 0 rfl rfl)
theorem dX4_chosenBy_25 : decode cX4_chosenBy 25 = .ok (.getfield 28, 3) := dk_180 0 28 (dk_at dksX4_chosenBy_1 1 rfl rfl)
theorem dX4_chosenBy_28 : decode cX4_chosenBy 28 = .ok (.iconst 0, 1) := dk_3 (dk_at dksX4_chosenBy_1 4 rfl rfl)
theorem dX4_chosenBy_29 : decode cX4_chosenBy 29 = .ok (.iload 5, 2) := dk_21 5 (dk_at dksX4_chosenBy_1 5 rfl rfl)
theorem dX4_chosenBy_31 : decode cX4_chosenBy 31 = .ok (.invokestatic 220, 3) := dk_184 0 220 (dk_at dksX4_chosenBy_1 7 rfl rfl)
theorem dX4_chosenBy_34 : decode cX4_chosenBy 34 = .ok (.iastore, 1) := dk_79 (dk_at dksX4_chosenBy_1 10 rfl rfl)
theorem dX4_chosenBy_35 : decode cX4_chosenBy 35 = .ok (.aload_n 0, 1) := dk_42 (dk_at dksX4_chosenBy_1 11 rfl rfl)
theorem dX4_chosenBy_36 : decode cX4_chosenBy 36 = .ok (.getfield 28, 3) := dk_180 0 28 (dk_at dksX4_chosenBy_1 12 rfl rfl)
theorem dX4_chosenBy_39 : decode cX4_chosenBy 39 = .ok (.iconst 1, 1) := dk_4 (dk_at dksX4_chosenBy_1 15 rfl rfl)
theorem dX4_chosenBy_40 : decode cX4_chosenBy 40 = .ok (.iload 6, 2) := dk_21 6 (dk_at dksX4_chosenBy_1 16 rfl rfl)
theorem dX4_chosenBy_42 : decode cX4_chosenBy 42 = .ok (.invokestatic 220, 3) := dk_184 0 220 (dk_at dksX4_chosenBy_1 18 rfl rfl)
theorem dX4_chosenBy_45 : decode cX4_chosenBy 45 = .ok (.iastore, 1) := dk_79 (dk_at dksX4_chosenBy_1 21 rfl rfl)
theorem dX4_chosenBy_46 : decode cX4_chosenBy 46 = .ok (.aload_n 0, 1) := dk_42 (dk_at dksX4_chosenBy_1 22 rfl rfl)
theorem dX4_chosenBy_47 : decode cX4_chosenBy 47 = .ok (.getfield 28, 3) := dk_180 0 28 (dk_at dksX4_chosenBy_2 0 rfl rfl)
theorem dX4_chosenBy_50 : decode cX4_chosenBy 50 = .ok (.iconst 2, 1) := dk_5 (dk_at dksX4_chosenBy_2 3 rfl rfl)
theorem dX4_chosenBy_51 : decode cX4_chosenBy 51 = .ok (.iload 5, 2) := dk_21 5 (dk_at dksX4_chosenBy_2 4 rfl rfl)
theorem dX4_chosenBy_53 : decode cX4_chosenBy 53 = .ok (.bipush 10, 2) := dk_16 10 (dk_at dksX4_chosenBy_2 6 rfl rfl)
theorem dX4_chosenBy_55 : decode cX4_chosenBy 55 = .ok (.irem, 1) := dk_112 (dk_at dksX4_chosenBy_2 8 rfl rfl)
theorem dX4_chosenBy_56 : decode cX4_chosenBy 56 = .ok (.iastore, 1) := dk_79 (dk_at dksX4_chosenBy_2 9 rfl rfl)
theorem dX4_chosenBy_57 : decode cX4_chosenBy 57 = .ok (.aload_n 0, 1) := dk_42 (dk_at dksX4_chosenBy_2 10 rfl rfl)
theorem dX4_chosenBy_58 : decode cX4_chosenBy 58 = .ok (.getfield 28, 3) := dk_180 0 28 (dk_at dksX4_chosenBy_2 11 rfl rfl)
theorem dX4_chosenBy_61 : decode cX4_chosenBy 61 = .ok (.iconst 3, 1) := dk_6 (dk_at dksX4_chosenBy_2 14 rfl rfl)
theorem dX4_chosenBy_62 : decode cX4_chosenBy 62 = .ok (.iload 6, 2) := dk_21 6 (dk_at dksX4_chosenBy_2 15 rfl rfl)
theorem dX4_chosenBy_64 : decode cX4_chosenBy 64 = .ok (.bipush 10, 2) := dk_16 10 (dk_at dksX4_chosenBy_2 17 rfl rfl)
theorem dX4_chosenBy_66 : decode cX4_chosenBy 66 = .ok (.irem, 1) := dk_112 (dk_at dksX4_chosenBy_2 19 rfl rfl)
theorem dX4_chosenBy_67 : decode cX4_chosenBy 67 = .ok (.iastore, 1) := dk_79 (dk_at dksX4_chosenBy_2 20 rfl rfl)
theorem dX4_chosenBy_68 : decode cX4_chosenBy 68 = .ok (.aload_n 0, 1) := dk_42 (dk_at dksX4_chosenBy_2 21 rfl rfl)
theorem dX4_chosenBy_69 : decode cX4_chosenBy 69 = .ok (.getfield 28, 3) := dk_180 0 28 (dk_at dksX4_chosenBy_3 0 rfl rfl)
theorem dX4_chosenBy_72 : decode cX4_chosenBy 72 = .ok (.iconst 4, 1) := dk_7 (dk_at dksX4_chosenBy_3 3 rfl rfl)
theorem dX4_chosenBy_73 : decode cX4_chosenBy 73 = .ok (.iload 5, 2) := dk_21 5 (dk_at dksX4_chosenBy_3 4 rfl rfl)
theorem dX4_chosenBy_75 : decode cX4_chosenBy 75 = .ok (.iload 6, 2) := dk_21 6 (dk_at dksX4_chosenBy_3 6 rfl rfl)
theorem dX4_chosenBy_77 : decode cX4_chosenBy 77 = .ok (.isub, 1) := dk_100 (dk_at dksX4_chosenBy_3 8 rfl rfl)
theorem dX4_chosenBy_78 : decode cX4_chosenBy 78 = .ok (.invokestatic 250, 3) := dk_184 0 250 (dk_at dksX4_chosenBy_3 9 rfl rfl)
theorem dX4_chosenBy_81 : decode cX4_chosenBy 81 = .ok (.iastore, 1) := dk_79 (dk_at dksX4_chosenBy_3 12 rfl rfl)
theorem dX4_chosenBy_82 : decode cX4_chosenBy 82 = .ok (.aload_n 0, 1) := dk_42 (dk_at dksX4_chosenBy_3 13 rfl rfl)
theorem dX4_chosenBy_83 : decode cX4_chosenBy 83 = .ok (.getfield 28, 3) := dk_180 0 28 (dk_at dksX4_chosenBy_3 14 rfl rfl)
theorem dX4_chosenBy_86 : decode cX4_chosenBy 86 = .ok (.iconst 5, 1) := dk_8 (dk_at dksX4_chosenBy_3 17 rfl rfl)
theorem dX4_chosenBy_87 : decode cX4_chosenBy 87 = .ok (.iload 5, 2) := dk_21 5 (dk_at dksX4_chosenBy_3 18 rfl rfl)
theorem dX4_chosenBy_89 : decode cX4_chosenBy 89 = .ok (.invokestatic 292, 3) := dk_184 1 36 (dk_at dksX4_chosenBy_3 20 rfl rfl)
theorem dX4_chosenBy_92 : decode cX4_chosenBy 92 = .ok (.iload 6, 2) := dk_21 6 (dk_at dksX4_chosenBy_4 0 rfl rfl)
theorem dX4_chosenBy_94 : decode cX4_chosenBy 94 = .ok (.invokestatic 292, 3) := dk_184 1 36 (dk_at dksX4_chosenBy_4 2 rfl rfl)
theorem dX4_chosenBy_97 : decode cX4_chosenBy 97 = .ok (.iadd, 1) := dk_96 (dk_at dksX4_chosenBy_4 5 rfl rfl)
theorem dX4_chosenBy_98 : decode cX4_chosenBy 98 = .ok (.iastore, 1) := dk_79 (dk_at dksX4_chosenBy_4 6 rfl rfl)
theorem dX4_chosenBy_99 : decode cX4_chosenBy 99 = .ok (.aload_n 0, 1) := dk_42 (dk_at dksX4_chosenBy_4 7 rfl rfl)
theorem dX4_chosenBy_100 : decode cX4_chosenBy 100 = .ok (.getfield 28, 3) := dk_180 0 28 (dk_at dksX4_chosenBy_4 8 rfl rfl)
theorem dX4_chosenBy_103 : decode cX4_chosenBy 103 = .ok (.bipush 6, 2) := dk_16 6 (dk_at dksX4_chosenBy_4 11 rfl rfl)
theorem dX4_chosenBy_105 : decode cX4_chosenBy 105 = .ok (.iload_n 3, 1) := dk_29 (dk_at dksX4_chosenBy_4 13 rfl rfl)
theorem dX4_chosenBy_106 : decode cX4_chosenBy 106 = .ok (.ifCond .le 7, 3) := dk_158 0 7 (dk_at dksX4_chosenBy_4 14 rfl rfl)
theorem dX4_chosenBy_109 : decode cX4_chosenBy 109 = .ok (.iload_n 3, 1) := dk_29 (dk_at dksX4_chosenBy_4 17 rfl rfl)
theorem dX4_chosenBy_110 : decode cX4_chosenBy 110 = .ok (.goto 13, 3) := dk_167 0 13 (dk_at dksX4_chosenBy_4 18 rfl rfl)
theorem dX4_chosenBy_113 : decode cX4_chosenBy 113 = .ok (.aload_n 0, 1) := dk_42 (dk_at dksX4_chosenBy_4 21 rfl rfl)
theorem dX4_chosenBy_114 : decode cX4_chosenBy 114 = .ok (.getfield 9, 3) := dk_180 0 9 (dk_at dksX4_chosenBy_5 0 rfl rfl)
theorem dX4_chosenBy_117 : decode cX4_chosenBy 117 = .ok (.iconst 5, 1) := dk_8 (dk_at dksX4_chosenBy_5 3 rfl rfl)
theorem dX4_chosenBy_118 : decode cX4_chosenBy 118 = .ok (.iload_n 1, 1) := dk_27 (dk_at dksX4_chosenBy_5 4 rfl rfl)
theorem dX4_chosenBy_119 : decode cX4_chosenBy 119 = .ok (.imul, 1) := dk_104 (dk_at dksX4_chosenBy_5 5 rfl rfl)
theorem dX4_chosenBy_120 : decode cX4_chosenBy 120 = .ok (.iconst 3, 1) := dk_6 (dk_at dksX4_chosenBy_5 6 rfl rfl)
theorem dX4_chosenBy_121 : decode cX4_chosenBy 121 = .ok (.iadd, 1) := dk_96 (dk_at dksX4_chosenBy_5 7 rfl rfl)
theorem dX4_chosenBy_122 : decode cX4_chosenBy 122 = .ok (.iaload, 1) := dk_46 (dk_at dksX4_chosenBy_5 8 rfl rfl)
theorem dX4_chosenBy_123 : decode cX4_chosenBy 123 = .ok (.iastore, 1) := dk_79 (dk_at dksX4_chosenBy_5 9 rfl rfl)
theorem dX4_chosenBy_124 : decode cX4_chosenBy 124 = .ok (.aload_n 0, 1) := dk_42 (dk_at dksX4_chosenBy_5 10 rfl rfl)
theorem dX4_chosenBy_125 : decode cX4_chosenBy 125 = .ok (.getfield 28, 3) := dk_180 0 28 (dk_at dksX4_chosenBy_5 11 rfl rfl)
theorem dX4_chosenBy_128 : decode cX4_chosenBy 128 = .ok (.bipush 7, 2) := dk_16 7 (dk_at dksX4_chosenBy_5 14 rfl rfl)
theorem dX4_chosenBy_130 : decode cX4_chosenBy 130 = .ok (.aload_n 0, 1) := dk_42 (dk_at dksX4_chosenBy_5 16 rfl rfl)
theorem dX4_chosenBy_131 : decode cX4_chosenBy 131 = .ok (.getfield 9, 3) := dk_180 0 9 (dk_at dksX4_chosenBy_5 17 rfl rfl)
theorem dX4_chosenBy_134 : decode cX4_chosenBy 134 = .ok (.iconst 5, 1) := dk_8 (dk_at dksX4_chosenBy_5 20 rfl rfl)
theorem dX4_chosenBy_135 : decode cX4_chosenBy 135 = .ok (.iload_n 1, 1) := dk_27 (dk_at dksX4_chosenBy_5 21 rfl rfl)
theorem dX4_chosenBy_136 : decode cX4_chosenBy 136 = .ok (.imul, 1) := dk_104 (dk_at dksX4_chosenBy_5 22 rfl rfl)
theorem dX4_chosenBy_137 : decode cX4_chosenBy 137 = .ok (.iconst 4, 1) := dk_7 (dk_at dksX4_chosenBy_5 23 rfl rfl)
theorem dX4_chosenBy_138 : decode cX4_chosenBy 138 = .ok (.iadd, 1) := dk_96 (dk_at dksX4_chosenBy_6 0 rfl rfl)
theorem dX4_chosenBy_139 : decode cX4_chosenBy 139 = .ok (.iaload, 1) := dk_46 (dk_at dksX4_chosenBy_6 1 rfl rfl)
theorem dX4_chosenBy_140 : decode cX4_chosenBy 140 = .ok (.iastore, 1) := dk_79 (dk_at dksX4_chosenBy_6 2 rfl rfl)
theorem dX4_chosenBy_141 : decode cX4_chosenBy 141 = .ok (.aload_n 0, 1) := dk_42 (dk_at dksX4_chosenBy_6 3 rfl rfl)
theorem dX4_chosenBy_142 : decode cX4_chosenBy 142 = .ok (.iconst 0, 1) := dk_3 (dk_at dksX4_chosenBy_6 4 rfl rfl)
theorem dX4_chosenBy_143 : decode cX4_chosenBy 143 = .ok (.aload_n 0, 1) := dk_42 (dk_at dksX4_chosenBy_6 5 rfl rfl)
theorem dX4_chosenBy_144 : decode cX4_chosenBy 144 = .ok (.getfield 101, 3) := dk_180 0 101 (dk_at dksX4_chosenBy_6 6 rfl rfl)
theorem dX4_chosenBy_147 : decode cX4_chosenBy 147 = .ok (.invokevirtual 168, 3) := dk_182 0 168 (dk_at dksX4_chosenBy_6 9 rfl rfl)
theorem dX4_chosenBy_150 : decode cX4_chosenBy 150 = .ok (.istore 4, 2) := dk_54 4 (dk_at dksX4_chosenBy_6 12 rfl rfl)
theorem dX4_chosenBy_152 : decode cX4_chosenBy 152 = .ok (.iload 4, 2) := dk_21 4 (dk_at dksX4_chosenBy_6 14 rfl rfl)
theorem dX4_chosenBy_154 : decode cX4_chosenBy 154 = .ok (.i2l, 1) := dk_133 (dk_at dksX4_chosenBy_6 16 rfl rfl)
theorem dX4_chosenBy_155 : decode cX4_chosenBy 155 = .ok (.lconst 0, 1) := dk_9 (dk_at dksX4_chosenBy_6 17 rfl rfl)
theorem dX4_chosenBy_156 : decode cX4_chosenBy 156 = .ok (.ldc2_w 295, 3) := dk_20 1 39 (dk_at dksX4_chosenBy_6 18 rfl rfl)
theorem dX4_chosenBy_159 : decode cX4_chosenBy 159 = .ok (.invokestatic 113, 3) := dk_184 0 113 (dk_at dksX4_chosenBy_6 21 rfl rfl)
theorem dX4_chosenBy_162 : decode cX4_chosenBy 162 = .ok (.ifCond .eq 15, 3) := dk_153 0 15 (dk_at dksX4_chosenBy_7 0 rfl rfl)
theorem dX4_chosenBy_165 : decode cX4_chosenBy 165 = .ok (.aload_n 0, 1) := dk_42 (dk_at dksX4_chosenBy_7 3 rfl rfl)
theorem dX4_chosenBy_166 : decode cX4_chosenBy 166 = .ok (.iload_n 1, 1) := dk_27 (dk_at dksX4_chosenBy_7 4 rfl rfl)
theorem dX4_chosenBy_167 : decode cX4_chosenBy 167 = .ok (.iload 4, 2) := dk_21 4 (dk_at dksX4_chosenBy_7 5 rfl rfl)
theorem dX4_chosenBy_169 : decode cX4_chosenBy 169 = .ok (.iload_n 2, 1) := dk_28 (dk_at dksX4_chosenBy_7 7 rfl rfl)
theorem dX4_chosenBy_170 : decode cX4_chosenBy 170 = .ok (.iload_n 3, 1) := dk_29 (dk_at dksX4_chosenBy_7 8 rfl rfl)
theorem dX4_chosenBy_171 : decode cX4_chosenBy 171 = .ok (.invokevirtual 279, 3) := dk_182 1 23 (dk_at dksX4_chosenBy_7 9 rfl rfl)
theorem dX4_chosenBy_174 : decode cX4_chosenBy 174 = .ok (.ifCond .ne 17, 3) := dk_154 0 17 (dk_at dksX4_chosenBy_7 12 rfl rfl)
theorem dX4_chosenBy_177 : decode cX4_chosenBy 177 = .ok (.iconst 1, 1) := dk_4 (dk_at dksX4_chosenBy_7 15 rfl rfl)
theorem dX4_chosenBy_178 : decode cX4_chosenBy 178 = .ok (.istore 4, 2) := dk_54 4 (dk_at dksX4_chosenBy_7 16 rfl rfl)
theorem dX4_chosenBy_180 : decode cX4_chosenBy 180 = .ok (.aload_n 0, 1) := dk_42 (dk_at dksX4_chosenBy_7 18 rfl rfl)
theorem dX4_chosenBy_181 : decode cX4_chosenBy 181 = .ok (.iload_n 1, 1) := dk_27 (dk_at dksX4_chosenBy_7 19 rfl rfl)
theorem dX4_chosenBy_182 : decode cX4_chosenBy 182 = .ok (.iload 4, 2) := dk_21 4 (dk_at dksX4_chosenBy_7 20 rfl rfl)
theorem dX4_chosenBy_184 : decode cX4_chosenBy 184 = .ok (.iload_n 2, 1) := dk_28 (dk_at dksX4_chosenBy_7 22 rfl rfl)
theorem dX4_chosenBy_185 : decode cX4_chosenBy 185 = .ok (.iload_n 3, 1) := dk_29 (dk_at dksX4_chosenBy_7 23 rfl rfl)
theorem dX4_chosenBy_186 : decode cX4_chosenBy 186 = .ok (.invokevirtual 279, 3) := dk_182 1 23 (dk_at dksX4_chosenBy_8 0 rfl rfl)
theorem dX4_chosenBy_189 : decode cX4_chosenBy 189 = .ok (.istore 5, 2) := dk_54 5 (dk_at dksX4_chosenBy_8 3 rfl rfl)
theorem dX4_chosenBy_191 : decode cX4_chosenBy 191 = .ok (.iload 4, 2) := dk_21 4 (dk_at dksX4_chosenBy_8 5 rfl rfl)
theorem dX4_chosenBy_193 : decode cX4_chosenBy 193 = .ok (.ireturn, 1) := dk_172 (dk_at dksX4_chosenBy_8 7 rfl rfl)
abbrev cX4_noughtsOf : ByteArray := prog_34_method_52_code
def yX4_noughtsOf : MethodName := ⟨RX4, "noughtsOf", "(I)I"⟩
def dkwX4_noughtsOf_1 : List UInt8 := [16, 10, 108, 61, 167, 255, 232, 27, 172]
abbrev dktX4_noughtsOf_1 : List UInt8 := dkwX4_noughtsOf_1 ++ []
def dkwX4_noughtsOf_0 : List UInt8 := [3, 60, 26, 61, 28, 158, 0, 26, 27, 28, 16, 10, 112, 154, 0, 7, 4, 167, 0, 4, 3, 96, 60, 28]
abbrev dktX4_noughtsOf_0 : List UInt8 := dkwX4_noughtsOf_0 ++ dktX4_noughtsOf_1
theorem dksX4_noughtsOf_0 : cX4_noughtsOf.data.toList.drop 0 = dktX4_noughtsOf_0 := by decide +kernel
theorem dksX4_noughtsOf_1 : cX4_noughtsOf.data.toList.drop 24 = dktX4_noughtsOf_1 := dk_seg dksX4_noughtsOf_0 24 rfl rfl
theorem dX4_noughtsOf_0 : decode cX4_noughtsOf 0 = .ok (.iconst 0, 1) := dk_3 (dk_at dksX4_noughtsOf_0 0 rfl rfl)
theorem dX4_noughtsOf_1 : decode cX4_noughtsOf 1 = .ok (.istore_n 1, 1) := dk_60 (dk_at dksX4_noughtsOf_0 1 rfl rfl)
theorem dX4_noughtsOf_2 : decode cX4_noughtsOf 2 = .ok (.iload_n 0, 1) := dk_26 (dk_at dksX4_noughtsOf_0 2 rfl rfl)
theorem dX4_noughtsOf_3 : decode cX4_noughtsOf 3 = .ok (.istore_n 2, 1) := dk_61 (dk_at dksX4_noughtsOf_0 3 rfl rfl)
theorem dX4_noughtsOf_4 : decode cX4_noughtsOf 4 = .ok (.iload_n 2, 1) := dk_28 (dk_at dksX4_noughtsOf_0 4 rfl rfl)
theorem dX4_noughtsOf_5 : decode cX4_noughtsOf 5 = .ok (.ifCond .le 26, 3) := dk_158 0 26 (dk_at dksX4_noughtsOf_0 5 rfl rfl)
theorem dX4_noughtsOf_8 : decode cX4_noughtsOf 8 = .ok (.iload_n 1, 1) := dk_27 (dk_at dksX4_noughtsOf_0 8 rfl rfl)
theorem dX4_noughtsOf_9 : decode cX4_noughtsOf 9 = .ok (.iload_n 2, 1) := dk_28 (dk_at dksX4_noughtsOf_0 9 rfl rfl)
theorem dX4_noughtsOf_10 : decode cX4_noughtsOf 10 = .ok (.bipush 10, 2) := dk_16 10 (dk_at dksX4_noughtsOf_0 10 rfl rfl)
theorem dX4_noughtsOf_12 : decode cX4_noughtsOf 12 = .ok (.irem, 1) := dk_112 (dk_at dksX4_noughtsOf_0 12 rfl rfl)
theorem dX4_noughtsOf_13 : decode cX4_noughtsOf 13 = .ok (.ifCond .ne 7, 3) := dk_154 0 7 (dk_at dksX4_noughtsOf_0 13 rfl rfl)
theorem dX4_noughtsOf_16 : decode cX4_noughtsOf 16 = .ok (.iconst 1, 1) := dk_4 (dk_at dksX4_noughtsOf_0 16 rfl rfl)
theorem dX4_noughtsOf_17 : decode cX4_noughtsOf 17 = .ok (.goto 4, 3) := dk_167 0 4 (dk_at dksX4_noughtsOf_0 17 rfl rfl)
theorem dX4_noughtsOf_20 : decode cX4_noughtsOf 20 = .ok (.iconst 0, 1) := dk_3 (dk_at dksX4_noughtsOf_0 20 rfl rfl)
theorem dX4_noughtsOf_21 : decode cX4_noughtsOf 21 = .ok (.iadd, 1) := dk_96 (dk_at dksX4_noughtsOf_0 21 rfl rfl)
theorem dX4_noughtsOf_22 : decode cX4_noughtsOf 22 = .ok (.istore_n 1, 1) := dk_60 (dk_at dksX4_noughtsOf_0 22 rfl rfl)
theorem dX4_noughtsOf_23 : decode cX4_noughtsOf 23 = .ok (.iload_n 2, 1) := dk_28 (dk_at dksX4_noughtsOf_0 23 rfl rfl)
theorem dX4_noughtsOf_24 : decode cX4_noughtsOf 24 = .ok (.bipush 10, 2) := dk_16 10 (dk_at dksX4_noughtsOf_1 0 rfl rfl)
theorem dX4_noughtsOf_26 : decode cX4_noughtsOf 26 = .ok (.idiv, 1) := dk_108 (dk_at dksX4_noughtsOf_1 2 rfl rfl)
theorem dX4_noughtsOf_27 : decode cX4_noughtsOf 27 = .ok (.istore_n 2, 1) := dk_61 (dk_at dksX4_noughtsOf_1 3 rfl rfl)
theorem dX4_noughtsOf_28 : decode cX4_noughtsOf 28 = .ok (.goto (-24), 3) := dk_167 255 232 (dk_at dksX4_noughtsOf_1 4 rfl rfl)
theorem dX4_noughtsOf_31 : decode cX4_noughtsOf 31 = .ok (.iload_n 1, 1) := dk_27 (dk_at dksX4_noughtsOf_1 7 rfl rfl)
theorem dX4_noughtsOf_32 : decode cX4_noughtsOf 32 = .ok (.ireturn, 1) := dk_172 (dk_at dksX4_noughtsOf_1 8 rfl rfl)
abbrev cX4_answer : ByteArray := prog_34_method_55_code
def yX4_answer : MethodName := ⟨RX4, "answer", "(III)I"⟩
def dkwX4_answer_10 : List UInt8 := [167, 255, 87, 21, 6, 172]
abbrev dktX4_answer_10 : List UInt8 := dkwX4_answer_10 ++ []
def dkwX4_answer_9 : List UInt8 := [184, 0, 220, 112, 184, 0, 233, 42, 180, 0, 58, 21, 7, 46, 184, 0, 233, 104, 100, 54, 6, 132, 7, 1]
abbrev dktX4_answer_9 : List UInt8 := dkwX4_answer_9 ++ dktX4_answer_10
def dkwX4_answer_8 : List UInt8 := [180, 0, 43, 21, 7, 46, 4, 160, 0, 38, 21, 6, 21, 5, 16, 20, 124, 42, 180, 0, 46, 21, 7, 46]
abbrev dktX4_answer_8 : List UInt8 := dkwX4_answer_8 ++ dktX4_answer_9
def dkwX4_answer_7 : List UInt8 := [180, 0, 55, 21, 7, 46, 167, 0, 11, 42, 180, 0, 55, 21, 7, 46, 116, 96, 54, 6, 167, 0, 49, 42]
abbrev dktX4_answer_7 : List UInt8 := dkwX4_answer_7 ++ dktX4_answer_8
def dkwX4_answer_6 : List UInt8 := [180, 0, 43, 21, 7, 46, 154, 0, 40, 21, 6, 21, 5, 16, 20, 124, 5, 112, 4, 160, 0, 13, 42]
abbrev dktX4_answer_6 : List UInt8 := dkwX4_answer_6 ++ dktX4_answer_7
def dkwX4_answer_5 : List UInt8 := [21, 8, 104, 16, 95, 164, 0, 8, 16, 95, 167, 0, 7, 8, 21, 8, 104, 161, 0, 6, 167, 0, 96, 42]
abbrev dktX4_answer_5 : List UInt8 := dkwX4_answer_5 ++ dktX4_answer_6
def dkwX4_answer_4 : List UInt8 := [167, 0, 140, 21, 5, 19, 1, 45, 104, 17, 48, 57, 96, 54, 5, 21, 5, 16, 8, 124, 16, 100, 112, 8]
abbrev dktX4_answer_4 : List UInt8 := dkwX4_answer_4 ++ dktX4_answer_5
def dkwX4_answer_3 : List UInt8 := [42, 180, 0, 214, 162, 0, 166, 42, 180, 0, 52, 21, 7, 46, 21, 4, 100, 54, 8, 21, 8, 157, 0, 6]
abbrev dktX4_answer_3 : List UInt8 := dkwX4_answer_3 ++ dktX4_answer_4
def dkwX4_answer_2 : List UInt8 := [46, 54, 4, 29, 54, 5, 28, 17, 39, 16, 108, 28, 17, 39, 16, 112, 104, 54, 6, 3, 54, 7, 21, 7]
abbrev dktX4_answer_2 : List UInt8 := dkwX4_answer_2 ++ dktX4_answer_3
def dkwX4_answer_1 : List UInt8 := [28, 3, 182, 1, 23, 154, 0, 7, 19, 1, 35, 172, 42, 180, 0, 9, 8, 27, 16, 10, 108, 104, 7, 96]
abbrev dktX4_answer_1 : List UInt8 := dkwX4_answer_1 ++ dktX4_answer_2
def dkwX4_answer_0 : List UInt8 := [42, 27, 182, 1, 18, 153, 0, 27, 28, 184, 0, 208, 153, 0, 20, 42, 27, 16, 10, 108, 27, 16, 10, 112]
abbrev dktX4_answer_0 : List UInt8 := dkwX4_answer_0 ++ dktX4_answer_1
theorem dksX4_answer_0 : cX4_answer.data.toList.drop 0 = dktX4_answer_0 := by decide +kernel
theorem dksX4_answer_1 : cX4_answer.data.toList.drop 24 = dktX4_answer_1 := dk_seg dksX4_answer_0 24 rfl rfl
theorem dksX4_answer_2 : cX4_answer.data.toList.drop 48 = dktX4_answer_2 := dk_seg dksX4_answer_1 24 rfl rfl
theorem dksX4_answer_3 : cX4_answer.data.toList.drop 72 = dktX4_answer_3 := dk_seg dksX4_answer_2 24 rfl rfl
theorem dksX4_answer_4 : cX4_answer.data.toList.drop 96 = dktX4_answer_4 := dk_seg dksX4_answer_3 24 rfl rfl
theorem dksX4_answer_5 : cX4_answer.data.toList.drop 120 = dktX4_answer_5 := dk_seg dksX4_answer_4 24 rfl rfl
theorem dksX4_answer_6 : cX4_answer.data.toList.drop 144 = dktX4_answer_6 := dk_seg dksX4_answer_5 24 rfl rfl
theorem dksX4_answer_7 : cX4_answer.data.toList.drop 167 = dktX4_answer_7 := dk_seg dksX4_answer_6 23 rfl rfl
theorem dksX4_answer_8 : cX4_answer.data.toList.drop 191 = dktX4_answer_8 := dk_seg dksX4_answer_7 24 rfl rfl
theorem dksX4_answer_9 : cX4_answer.data.toList.drop 215 = dktX4_answer_9 := dk_seg dksX4_answer_8 24 rfl rfl
theorem dksX4_answer_10 : cX4_answer.data.toList.drop 239 = dktX4_answer_10 := dk_seg dksX4_answer_9 24 rfl rfl
theorem dX4_answer_0 : decode cX4_answer 0 = .ok (.aload_n 0, 1) := dk_42 (dk_at dksX4_answer_0 0 rfl rfl)
theorem dX4_answer_1 : decode cX4_answer 1 = .ok (.iload_n 1, 1) := dk_27 (dk_at dksX4_answer_0 1 rfl rfl)
theorem dX4_answer_2 : decode cX4_answer 2 = .ok (.invokevirtual 274, 3) := dk_182 1 18 (dk_at dksX4_answer_0 2 rfl rfl)
theorem dX4_answer_5 : decode cX4_answer 5 = .ok (.ifCond .eq 27, 3) := dk_153 0 27 (dk_at dksX4_answer_0 5 rfl rfl)
theorem dX4_answer_8 : decode cX4_answer 8 = .ok (.iload_n 2, 1) := dk_28 (dk_at dksX4_answer_0 8 rfl rfl)
theorem dX4_answer_9 : decode cX4_answer 9 = .ok (.invokestatic 208, 3) := dk_184 0 208 (dk_at dksX4_answer_0 9 rfl rfl)
theorem dX4_answer_12 : decode cX4_answer 12 = .ok (.ifCond .eq 20, 3) := dk_153 0 20 (dk_at dksX4_answer_0 12 rfl rfl)
theorem dX4_answer_15 : decode cX4_answer 15 = .ok (.aload_n 0, 1) := dk_42 (dk_at dksX4_answer_0 15 rfl rfl)
theorem dX4_answer_16 : decode cX4_answer 16 = .ok (.iload_n 1, 1) := dk_27 (dk_at dksX4_answer_0 16 rfl rfl)
theorem dX4_answer_17 : decode cX4_answer 17 = .ok (.bipush 10, 2) := dk_16 10 (dk_at dksX4_answer_0 17 rfl rfl)
theorem dX4_answer_19 : decode cX4_answer 19 = .ok (.idiv, 1) := dk_108 (dk_at dksX4_answer_0 19 rfl rfl)
theorem dX4_answer_20 : decode cX4_answer 20 = .ok (.iload_n 1, 1) := dk_27 (dk_at dksX4_answer_0 20 rfl rfl)
theorem dX4_answer_21 : decode cX4_answer 21 = .ok (.bipush 10, 2) := dk_16 10 (dk_at dksX4_answer_0 21 rfl rfl)
theorem dX4_answer_23 : decode cX4_answer 23 = .ok (.irem, 1) := dk_112 (dk_at dksX4_answer_0 23 rfl rfl)
theorem dX4_answer_24 : decode cX4_answer 24 = .ok (.iload_n 2, 1) := dk_28 (dk_at dksX4_answer_1 0 rfl rfl)
theorem dX4_answer_25 : decode cX4_answer 25 = .ok (.iconst 0, 1) := dk_3 (dk_at dksX4_answer_1 1 rfl rfl)
theorem dX4_answer_26 : decode cX4_answer 26 = .ok (.invokevirtual 279, 3) := dk_182 1 23 (dk_at dksX4_answer_1 2 rfl rfl)
theorem dX4_answer_29 : decode cX4_answer 29 = .ok (.ifCond .ne 7, 3) := dk_154 0 7 (dk_at dksX4_answer_1 5 rfl rfl)
theorem dX4_answer_32 : decode cX4_answer 32 = .ok (.ldc_w 291, 3) := dk_19 1 35 (dk_at dksX4_answer_1 8 rfl rfl)
theorem dX4_answer_35 : decode cX4_answer 35 = .ok (.ireturn, 1) := dk_172 (dk_at dksX4_answer_1 11 rfl rfl)
theorem dX4_answer_36 : decode cX4_answer 36 = .ok (.aload_n 0, 1) := dk_42 (dk_at dksX4_answer_1 12 rfl rfl)
theorem dX4_answer_37 : decode cX4_answer 37 = .ok (.getfield 9, 3) := dk_180 0 9 (dk_at dksX4_answer_1 13 rfl rfl)
theorem dX4_answer_40 : decode cX4_answer 40 = .ok (.iconst 5, 1) := dk_8 (dk_at dksX4_answer_1 16 rfl rfl)
theorem dX4_answer_41 : decode cX4_answer 41 = .ok (.iload_n 1, 1) := dk_27 (dk_at dksX4_answer_1 17 rfl rfl)
theorem dX4_answer_42 : decode cX4_answer 42 = .ok (.bipush 10, 2) := dk_16 10 (dk_at dksX4_answer_1 18 rfl rfl)
theorem dX4_answer_44 : decode cX4_answer 44 = .ok (.idiv, 1) := dk_108 (dk_at dksX4_answer_1 20 rfl rfl)
theorem dX4_answer_45 : decode cX4_answer 45 = .ok (.imul, 1) := dk_104 (dk_at dksX4_answer_1 21 rfl rfl)
theorem dX4_answer_46 : decode cX4_answer 46 = .ok (.iconst 4, 1) := dk_7 (dk_at dksX4_answer_1 22 rfl rfl)
theorem dX4_answer_47 : decode cX4_answer 47 = .ok (.iadd, 1) := dk_96 (dk_at dksX4_answer_1 23 rfl rfl)
theorem dX4_answer_48 : decode cX4_answer 48 = .ok (.iaload, 1) := dk_46 (dk_at dksX4_answer_2 0 rfl rfl)
theorem dX4_answer_49 : decode cX4_answer 49 = .ok (.istore 4, 2) := dk_54 4 (dk_at dksX4_answer_2 1 rfl rfl)
theorem dX4_answer_51 : decode cX4_answer 51 = .ok (.iload_n 3, 1) := dk_29 (dk_at dksX4_answer_2 3 rfl rfl)
theorem dX4_answer_52 : decode cX4_answer 52 = .ok (.istore 5, 2) := dk_54 5 (dk_at dksX4_answer_2 4 rfl rfl)
theorem dX4_answer_54 : decode cX4_answer 54 = .ok (.iload_n 2, 1) := dk_28 (dk_at dksX4_answer_2 6 rfl rfl)
theorem dX4_answer_55 : decode cX4_answer 55 = .ok (.sipush 10000, 3) := dk_17 39 16 (dk_at dksX4_answer_2 7 rfl rfl)
theorem dX4_answer_58 : decode cX4_answer 58 = .ok (.idiv, 1) := dk_108 (dk_at dksX4_answer_2 10 rfl rfl)
theorem dX4_answer_59 : decode cX4_answer 59 = .ok (.iload_n 2, 1) := dk_28 (dk_at dksX4_answer_2 11 rfl rfl)
theorem dX4_answer_60 : decode cX4_answer 60 = .ok (.sipush 10000, 3) := dk_17 39 16 (dk_at dksX4_answer_2 12 rfl rfl)
theorem dX4_answer_63 : decode cX4_answer 63 = .ok (.irem, 1) := dk_112 (dk_at dksX4_answer_2 15 rfl rfl)
theorem dX4_answer_64 : decode cX4_answer 64 = .ok (.imul, 1) := dk_104 (dk_at dksX4_answer_2 16 rfl rfl)
theorem dX4_answer_65 : decode cX4_answer 65 = .ok (.istore 6, 2) := dk_54 6 (dk_at dksX4_answer_2 17 rfl rfl)
theorem dX4_answer_67 : decode cX4_answer 67 = .ok (.iconst 0, 1) := dk_3 (dk_at dksX4_answer_2 19 rfl rfl)
theorem dX4_answer_68 : decode cX4_answer 68 = .ok (.istore 7, 2) := dk_54 7 (dk_at dksX4_answer_2 20 rfl rfl)
theorem dX4_answer_70 : decode cX4_answer 70 = .ok (.iload 7, 2) := dk_21 7 (dk_at dksX4_answer_2 22 rfl rfl)
theorem dX4_answer_72 : decode cX4_answer 72 = .ok (.aload_n 0, 1) := dk_42 (dk_at dksX4_answer_3 0 rfl rfl)
theorem dX4_answer_73 : decode cX4_answer 73 = .ok (.getfield 214, 3) := dk_180 0 214 (dk_at dksX4_answer_3 1 rfl rfl)
theorem dX4_answer_76 : decode cX4_answer 76 = .ok (.if_icmp .ge 166, 3) := dk_162 0 166 (dk_at dksX4_answer_3 4 rfl rfl)
theorem dX4_answer_79 : decode cX4_answer 79 = .ok (.aload_n 0, 1) := dk_42 (dk_at dksX4_answer_3 7 rfl rfl)
theorem dX4_answer_80 : decode cX4_answer 80 = .ok (.getfield 52, 3) := dk_180 0 52 (dk_at dksX4_answer_3 8 rfl rfl)
theorem dX4_answer_83 : decode cX4_answer 83 = .ok (.iload 7, 2) := dk_21 7 (dk_at dksX4_answer_3 11 rfl rfl)
theorem dX4_answer_85 : decode cX4_answer 85 = .ok (.iaload, 1) := dk_46 (dk_at dksX4_answer_3 13 rfl rfl)
theorem dX4_answer_86 : decode cX4_answer 86 = .ok (.iload 4, 2) := dk_21 4 (dk_at dksX4_answer_3 14 rfl rfl)
theorem dX4_answer_88 : decode cX4_answer 88 = .ok (.isub, 1) := dk_100 (dk_at dksX4_answer_3 16 rfl rfl)
theorem dX4_answer_89 : decode cX4_answer 89 = .ok (.istore 8, 2) := dk_54 8 (dk_at dksX4_answer_3 17 rfl rfl)
theorem dX4_answer_91 : decode cX4_answer 91 = .ok (.iload 8, 2) := dk_21 8 (dk_at dksX4_answer_3 19 rfl rfl)
theorem dX4_answer_93 : decode cX4_answer 93 = .ok (.ifCond .gt 6, 3) := dk_157 0 6 (dk_at dksX4_answer_3 21 rfl rfl)
theorem dX4_answer_96 : decode cX4_answer 96 = .ok (.goto 140, 3) := dk_167 0 140 (dk_at dksX4_answer_4 0 rfl rfl)
theorem dX4_answer_99 : decode cX4_answer 99 = .ok (.iload 5, 2) := dk_21 5 (dk_at dksX4_answer_4 3 rfl rfl)
theorem dX4_answer_101 : decode cX4_answer 101 = .ok (.ldc_w 301, 3) := dk_19 1 45 (dk_at dksX4_answer_4 5 rfl rfl)
theorem dX4_answer_104 : decode cX4_answer 104 = .ok (.imul, 1) := dk_104 (dk_at dksX4_answer_4 8 rfl rfl)
theorem dX4_answer_105 : decode cX4_answer 105 = .ok (.sipush 12345, 3) := dk_17 48 57 (dk_at dksX4_answer_4 9 rfl rfl)
theorem dX4_answer_108 : decode cX4_answer 108 = .ok (.iadd, 1) := dk_96 (dk_at dksX4_answer_4 12 rfl rfl)
theorem dX4_answer_109 : decode cX4_answer 109 = .ok (.istore 5, 2) := dk_54 5 (dk_at dksX4_answer_4 13 rfl rfl)
theorem dX4_answer_111 : decode cX4_answer 111 = .ok (.iload 5, 2) := dk_21 5 (dk_at dksX4_answer_4 15 rfl rfl)
theorem dX4_answer_113 : decode cX4_answer 113 = .ok (.bipush 8, 2) := dk_16 8 (dk_at dksX4_answer_4 17 rfl rfl)
theorem dX4_answer_115 : decode cX4_answer 115 = .ok (.iushr, 1) := dk_124 (dk_at dksX4_answer_4 19 rfl rfl)
theorem dX4_answer_116 : decode cX4_answer 116 = .ok (.bipush 100, 2) := dk_16 100 (dk_at dksX4_answer_4 20 rfl rfl)
theorem dX4_answer_118 : decode cX4_answer 118 = .ok (.irem, 1) := dk_112 (dk_at dksX4_answer_4 22 rfl rfl)
theorem dX4_answer_119 : decode cX4_answer 119 = .ok (.iconst 5, 1) := dk_8 (dk_at dksX4_answer_4 23 rfl rfl)
theorem dX4_answer_120 : decode cX4_answer 120 = .ok (.iload 8, 2) := dk_21 8 (dk_at dksX4_answer_5 0 rfl rfl)
theorem dX4_answer_122 : decode cX4_answer 122 = .ok (.imul, 1) := dk_104 (dk_at dksX4_answer_5 2 rfl rfl)
theorem dX4_answer_123 : decode cX4_answer 123 = .ok (.bipush 95, 2) := dk_16 95 (dk_at dksX4_answer_5 3 rfl rfl)
theorem dX4_answer_125 : decode cX4_answer 125 = .ok (.if_icmp .le 8, 3) := dk_164 0 8 (dk_at dksX4_answer_5 5 rfl rfl)
theorem dX4_answer_128 : decode cX4_answer 128 = .ok (.bipush 95, 2) := dk_16 95 (dk_at dksX4_answer_5 8 rfl rfl)
theorem dX4_answer_130 : decode cX4_answer 130 = .ok (.goto 7, 3) := dk_167 0 7 (dk_at dksX4_answer_5 10 rfl rfl)
theorem dX4_answer_133 : decode cX4_answer 133 = .ok (.iconst 5, 1) := dk_8 (dk_at dksX4_answer_5 13 rfl rfl)
theorem dX4_answer_134 : decode cX4_answer 134 = .ok (.iload 8, 2) := dk_21 8 (dk_at dksX4_answer_5 14 rfl rfl)
theorem dX4_answer_136 : decode cX4_answer 136 = .ok (.imul, 1) := dk_104 (dk_at dksX4_answer_5 16 rfl rfl)
theorem dX4_answer_137 : decode cX4_answer 137 = .ok (.if_icmp .lt 6, 3) := dk_161 0 6 (dk_at dksX4_answer_5 17 rfl rfl)
theorem dX4_answer_140 : decode cX4_answer 140 = .ok (.goto 96, 3) := dk_167 0 96 (dk_at dksX4_answer_5 20 rfl rfl)
theorem dX4_answer_143 : decode cX4_answer 143 = .ok (.aload_n 0, 1) := dk_42 (dk_at dksX4_answer_5 23 rfl rfl)
theorem dX4_answer_144 : decode cX4_answer 144 = .ok (.getfield 43, 3) := dk_180 0 43 (dk_at dksX4_answer_6 0 rfl rfl)
theorem dX4_answer_147 : decode cX4_answer 147 = .ok (.iload 7, 2) := dk_21 7 (dk_at dksX4_answer_6 3 rfl rfl)
theorem dX4_answer_149 : decode cX4_answer 149 = .ok (.iaload, 1) := dk_46 (dk_at dksX4_answer_6 5 rfl rfl)
theorem dX4_answer_150 : decode cX4_answer 150 = .ok (.ifCond .ne 40, 3) := dk_154 0 40 (dk_at dksX4_answer_6 6 rfl rfl)
theorem dX4_answer_153 : decode cX4_answer 153 = .ok (.iload 6, 2) := dk_21 6 (dk_at dksX4_answer_6 9 rfl rfl)
theorem dX4_answer_155 : decode cX4_answer 155 = .ok (.iload 5, 2) := dk_21 5 (dk_at dksX4_answer_6 11 rfl rfl)
theorem dX4_answer_157 : decode cX4_answer 157 = .ok (.bipush 20, 2) := dk_16 20 (dk_at dksX4_answer_6 13 rfl rfl)
theorem dX4_answer_159 : decode cX4_answer 159 = .ok (.iushr, 1) := dk_124 (dk_at dksX4_answer_6 15 rfl rfl)
theorem dX4_answer_160 : decode cX4_answer 160 = .ok (.iconst 2, 1) := dk_5 (dk_at dksX4_answer_6 16 rfl rfl)
theorem dX4_answer_161 : decode cX4_answer 161 = .ok (.irem, 1) := dk_112 (dk_at dksX4_answer_6 17 rfl rfl)
theorem dX4_answer_162 : decode cX4_answer 162 = .ok (.iconst 1, 1) := dk_4 (dk_at dksX4_answer_6 18 rfl rfl)
theorem dX4_answer_163 : decode cX4_answer 163 = .ok (.if_icmp .ne 13, 3) := dk_160 0 13 (dk_at dksX4_answer_6 19 rfl rfl)
theorem dX4_answer_166 : decode cX4_answer 166 = .ok (.aload_n 0, 1) := dk_42 (dk_at dksX4_answer_6 22 rfl rfl)
theorem dX4_answer_167 : decode cX4_answer 167 = .ok (.getfield 55, 3) := dk_180 0 55 (dk_at dksX4_answer_7 0 rfl rfl)
theorem dX4_answer_170 : decode cX4_answer 170 = .ok (.iload 7, 2) := dk_21 7 (dk_at dksX4_answer_7 3 rfl rfl)
theorem dX4_answer_172 : decode cX4_answer 172 = .ok (.iaload, 1) := dk_46 (dk_at dksX4_answer_7 5 rfl rfl)
theorem dX4_answer_173 : decode cX4_answer 173 = .ok (.goto 11, 3) := dk_167 0 11 (dk_at dksX4_answer_7 6 rfl rfl)
theorem dX4_answer_176 : decode cX4_answer 176 = .ok (.aload_n 0, 1) := dk_42 (dk_at dksX4_answer_7 9 rfl rfl)
theorem dX4_answer_177 : decode cX4_answer 177 = .ok (.getfield 55, 3) := dk_180 0 55 (dk_at dksX4_answer_7 10 rfl rfl)
theorem dX4_answer_180 : decode cX4_answer 180 = .ok (.iload 7, 2) := dk_21 7 (dk_at dksX4_answer_7 13 rfl rfl)
theorem dX4_answer_182 : decode cX4_answer 182 = .ok (.iaload, 1) := dk_46 (dk_at dksX4_answer_7 15 rfl rfl)
theorem dX4_answer_183 : decode cX4_answer 183 = .ok (.ineg, 1) := dk_116 (dk_at dksX4_answer_7 16 rfl rfl)
theorem dX4_answer_184 : decode cX4_answer 184 = .ok (.iadd, 1) := dk_96 (dk_at dksX4_answer_7 17 rfl rfl)
theorem dX4_answer_185 : decode cX4_answer 185 = .ok (.istore 6, 2) := dk_54 6 (dk_at dksX4_answer_7 18 rfl rfl)
theorem dX4_answer_187 : decode cX4_answer 187 = .ok (.goto 49, 3) := dk_167 0 49 (dk_at dksX4_answer_7 20 rfl rfl)
theorem dX4_answer_190 : decode cX4_answer 190 = .ok (.aload_n 0, 1) := dk_42 (dk_at dksX4_answer_7 23 rfl rfl)
theorem dX4_answer_191 : decode cX4_answer 191 = .ok (.getfield 43, 3) := dk_180 0 43 (dk_at dksX4_answer_8 0 rfl rfl)
theorem dX4_answer_194 : decode cX4_answer 194 = .ok (.iload 7, 2) := dk_21 7 (dk_at dksX4_answer_8 3 rfl rfl)
theorem dX4_answer_196 : decode cX4_answer 196 = .ok (.iaload, 1) := dk_46 (dk_at dksX4_answer_8 5 rfl rfl)
theorem dX4_answer_197 : decode cX4_answer 197 = .ok (.iconst 1, 1) := dk_4 (dk_at dksX4_answer_8 6 rfl rfl)
theorem dX4_answer_198 : decode cX4_answer 198 = .ok (.if_icmp .ne 38, 3) := dk_160 0 38 (dk_at dksX4_answer_8 7 rfl rfl)
theorem dX4_answer_201 : decode cX4_answer 201 = .ok (.iload 6, 2) := dk_21 6 (dk_at dksX4_answer_8 10 rfl rfl)
theorem dX4_answer_203 : decode cX4_answer 203 = .ok (.iload 5, 2) := dk_21 5 (dk_at dksX4_answer_8 12 rfl rfl)
theorem dX4_answer_205 : decode cX4_answer 205 = .ok (.bipush 20, 2) := dk_16 20 (dk_at dksX4_answer_8 14 rfl rfl)
theorem dX4_answer_207 : decode cX4_answer 207 = .ok (.iushr, 1) := dk_124 (dk_at dksX4_answer_8 16 rfl rfl)
theorem dX4_answer_208 : decode cX4_answer 208 = .ok (.aload_n 0, 1) := dk_42 (dk_at dksX4_answer_8 17 rfl rfl)
theorem dX4_answer_209 : decode cX4_answer 209 = .ok (.getfield 46, 3) := dk_180 0 46 (dk_at dksX4_answer_8 18 rfl rfl)
theorem dX4_answer_212 : decode cX4_answer 212 = .ok (.iload 7, 2) := dk_21 7 (dk_at dksX4_answer_8 21 rfl rfl)
theorem dX4_answer_214 : decode cX4_answer 214 = .ok (.iaload, 1) := dk_46 (dk_at dksX4_answer_8 23 rfl rfl)
theorem dX4_answer_215 : decode cX4_answer 215 = .ok (.invokestatic 220, 3) := dk_184 0 220 (dk_at dksX4_answer_9 0 rfl rfl)
theorem dX4_answer_218 : decode cX4_answer 218 = .ok (.irem, 1) := dk_112 (dk_at dksX4_answer_9 3 rfl rfl)
theorem dX4_answer_219 : decode cX4_answer 219 = .ok (.invokestatic 233, 3) := dk_184 0 233 (dk_at dksX4_answer_9 4 rfl rfl)
theorem dX4_answer_222 : decode cX4_answer 222 = .ok (.aload_n 0, 1) := dk_42 (dk_at dksX4_answer_9 7 rfl rfl)
theorem dX4_answer_223 : decode cX4_answer 223 = .ok (.getfield 58, 3) := dk_180 0 58 (dk_at dksX4_answer_9 8 rfl rfl)
theorem dX4_answer_226 : decode cX4_answer 226 = .ok (.iload 7, 2) := dk_21 7 (dk_at dksX4_answer_9 11 rfl rfl)
theorem dX4_answer_228 : decode cX4_answer 228 = .ok (.iaload, 1) := dk_46 (dk_at dksX4_answer_9 13 rfl rfl)
theorem dX4_answer_229 : decode cX4_answer 229 = .ok (.invokestatic 233, 3) := dk_184 0 233 (dk_at dksX4_answer_9 14 rfl rfl)
theorem dX4_answer_232 : decode cX4_answer 232 = .ok (.imul, 1) := dk_104 (dk_at dksX4_answer_9 17 rfl rfl)
theorem dX4_answer_233 : decode cX4_answer 233 = .ok (.isub, 1) := dk_100 (dk_at dksX4_answer_9 18 rfl rfl)
theorem dX4_answer_234 : decode cX4_answer 234 = .ok (.istore 6, 2) := dk_54 6 (dk_at dksX4_answer_9 19 rfl rfl)
theorem dX4_answer_236 : decode cX4_answer 236 = .ok (.iinc 7 1, 3) := dk_132 7 1 (dk_at dksX4_answer_9 21 rfl rfl)
theorem dX4_answer_239 : decode cX4_answer 239 = .ok (.goto (-169), 3) := dk_167 255 87 (dk_at dksX4_answer_10 0 rfl rfl)
theorem dX4_answer_242 : decode cX4_answer 242 = .ok (.iload 6, 2) := dk_21 6 (dk_at dksX4_answer_10 3 rfl rfl)
theorem dX4_answer_244 : decode cX4_answer 244 = .ok (.ireturn, 1) := dk_172 (dk_at dksX4_answer_10 5 rfl rfl)
abbrev cX4_quickest : ByteArray := prog_34_method_56_code
def yX4_quickest : MethodName := ⟨RX4, "quickest", "(III)I"⟩
def dkwX4_quickest_4 : List UInt8 := [21, 4, 172]
abbrev dktX4_quickest_4 : List UInt8 := dkwX4_quickest_4 ++ []
def dkwX4_quickest_3 : List UInt8 := [182, 1, 27, 21, 5, 162, 0, 13, 21, 6, 54, 4, 42, 182, 1, 27, 54, 5, 132, 6, 1, 167, 255, 202]
abbrev dktX4_quickest_3 : List UInt8 := dkwX4_quickest_3 ++ dktX4_quickest_4
def dkwX4_quickest_2 : List UInt8 := [21, 6, 28, 3, 182, 1, 23, 153, 0, 35, 42, 182, 1, 30, 29, 163, 0, 27, 21, 4, 155, 0, 12, 42]
abbrev dktX4_quickest_2 : List UInt8 := dkwX4_quickest_2 ++ dktX4_quickest_3
def dkwX4_quickest_1 : List UInt8 := [154, 0, 5, 2, 172, 16, 254, 54, 4, 3, 54, 5, 3, 54, 6, 21, 6, 16, 7, 162, 0, 53, 42, 27]
abbrev dktX4_quickest_1 : List UInt8 := dkwX4_quickest_1 ++ dktX4_quickest_2
def dkwX4_quickest_0 : List UInt8 := [42, 27, 182, 0, 188, 153, 0, 22, 28, 184, 0, 208, 153, 0, 15, 29, 133, 10, 20, 0, 175, 184, 0, 113]
abbrev dktX4_quickest_0 : List UInt8 := dkwX4_quickest_0 ++ dktX4_quickest_1
theorem dksX4_quickest_0 : cX4_quickest.data.toList.drop 0 = dktX4_quickest_0 := by decide +kernel
theorem dksX4_quickest_1 : cX4_quickest.data.toList.drop 24 = dktX4_quickest_1 := dk_seg dksX4_quickest_0 24 rfl rfl
theorem dksX4_quickest_2 : cX4_quickest.data.toList.drop 48 = dktX4_quickest_2 := dk_seg dksX4_quickest_1 24 rfl rfl
theorem dksX4_quickest_3 : cX4_quickest.data.toList.drop 72 = dktX4_quickest_3 := dk_seg dksX4_quickest_2 24 rfl rfl
theorem dksX4_quickest_4 : cX4_quickest.data.toList.drop 96 = dktX4_quickest_4 := dk_seg dksX4_quickest_3 24 rfl rfl
theorem dX4_quickest_0 : decode cX4_quickest 0 = .ok (.aload_n 0, 1) := dk_42 (dk_at dksX4_quickest_0 0 rfl rfl)
theorem dX4_quickest_1 : decode cX4_quickest 1 = .ok (.iload_n 1, 1) := dk_27 (dk_at dksX4_quickest_0 1 rfl rfl)
theorem dX4_quickest_2 : decode cX4_quickest 2 = .ok (.invokevirtual 188, 3) := dk_182 0 188 (dk_at dksX4_quickest_0 2 rfl rfl)
theorem dX4_quickest_5 : decode cX4_quickest 5 = .ok (.ifCond .eq 22, 3) := dk_153 0 22 (dk_at dksX4_quickest_0 5 rfl rfl)
theorem dX4_quickest_8 : decode cX4_quickest 8 = .ok (.iload_n 2, 1) := dk_28 (dk_at dksX4_quickest_0 8 rfl rfl)
theorem dX4_quickest_9 : decode cX4_quickest 9 = .ok (.invokestatic 208, 3) := dk_184 0 208 (dk_at dksX4_quickest_0 9 rfl rfl)
theorem dX4_quickest_12 : decode cX4_quickest 12 = .ok (.ifCond .eq 15, 3) := dk_153 0 15 (dk_at dksX4_quickest_0 12 rfl rfl)
theorem dX4_quickest_15 : decode cX4_quickest 15 = .ok (.iload_n 3, 1) := dk_29 (dk_at dksX4_quickest_0 15 rfl rfl)
theorem dX4_quickest_16 : decode cX4_quickest 16 = .ok (.i2l, 1) := dk_133 (dk_at dksX4_quickest_0 16 rfl rfl)
theorem dX4_quickest_17 : decode cX4_quickest 17 = .ok (.lconst 1, 1) := dk_10 (dk_at dksX4_quickest_0 17 rfl rfl)
theorem dX4_quickest_18 : decode cX4_quickest 18 = .ok (.ldc2_w 175, 3) := dk_20 0 175 (dk_at dksX4_quickest_0 18 rfl rfl)
theorem dX4_quickest_21 : decode cX4_quickest 21 = .ok (.invokestatic 113, 3) := dk_184 0 113 (dk_at dksX4_quickest_0 21 rfl rfl)
theorem dX4_quickest_24 : decode cX4_quickest 24 = .ok (.ifCond .ne 5, 3) := dk_154 0 5 (dk_at dksX4_quickest_1 0 rfl rfl)
theorem dX4_quickest_27 : decode cX4_quickest 27 = .ok (.iconst (-1), 1) := dk_2 (dk_at dksX4_quickest_1 3 rfl rfl)
theorem dX4_quickest_28 : decode cX4_quickest 28 = .ok (.ireturn, 1) := dk_172 (dk_at dksX4_quickest_1 4 rfl rfl)
theorem dX4_quickest_29 : decode cX4_quickest 29 = .ok (.bipush (-2), 2) := dk_16 254 (dk_at dksX4_quickest_1 5 rfl rfl)
theorem dX4_quickest_31 : decode cX4_quickest 31 = .ok (.istore 4, 2) := dk_54 4 (dk_at dksX4_quickest_1 7 rfl rfl)
theorem dX4_quickest_33 : decode cX4_quickest 33 = .ok (.iconst 0, 1) := dk_3 (dk_at dksX4_quickest_1 9 rfl rfl)
theorem dX4_quickest_34 : decode cX4_quickest 34 = .ok (.istore 5, 2) := dk_54 5 (dk_at dksX4_quickest_1 10 rfl rfl)
theorem dX4_quickest_36 : decode cX4_quickest 36 = .ok (.iconst 0, 1) := dk_3 (dk_at dksX4_quickest_1 12 rfl rfl)
theorem dX4_quickest_37 : decode cX4_quickest 37 = .ok (.istore 6, 2) := dk_54 6 (dk_at dksX4_quickest_1 13 rfl rfl)
theorem dX4_quickest_39 : decode cX4_quickest 39 = .ok (.iload 6, 2) := dk_21 6 (dk_at dksX4_quickest_1 15 rfl rfl)
theorem dX4_quickest_41 : decode cX4_quickest 41 = .ok (.bipush 7, 2) := dk_16 7 (dk_at dksX4_quickest_1 17 rfl rfl)
theorem dX4_quickest_43 : decode cX4_quickest 43 = .ok (.if_icmp .ge 53, 3) := dk_162 0 53 (dk_at dksX4_quickest_1 19 rfl rfl)
theorem dX4_quickest_46 : decode cX4_quickest 46 = .ok (.aload_n 0, 1) := dk_42 (dk_at dksX4_quickest_1 22 rfl rfl)
theorem dX4_quickest_47 : decode cX4_quickest 47 = .ok (.iload_n 1, 1) := dk_27 (dk_at dksX4_quickest_1 23 rfl rfl)
theorem dX4_quickest_48 : decode cX4_quickest 48 = .ok (.iload 6, 2) := dk_21 6 (dk_at dksX4_quickest_2 0 rfl rfl)
theorem dX4_quickest_50 : decode cX4_quickest 50 = .ok (.iload_n 2, 1) := dk_28 (dk_at dksX4_quickest_2 2 rfl rfl)
theorem dX4_quickest_51 : decode cX4_quickest 51 = .ok (.iconst 0, 1) := dk_3 (dk_at dksX4_quickest_2 3 rfl rfl)
theorem dX4_quickest_52 : decode cX4_quickest 52 = .ok (.invokevirtual 279, 3) := dk_182 1 23 (dk_at dksX4_quickest_2 4 rfl rfl)
theorem dX4_quickest_55 : decode cX4_quickest 55 = .ok (.ifCond .eq 35, 3) := dk_153 0 35 (dk_at dksX4_quickest_2 7 rfl rfl)
theorem dX4_quickest_58 : decode cX4_quickest 58 = .ok (.aload_n 0, 1) := dk_42 (dk_at dksX4_quickest_2 10 rfl rfl)
theorem dX4_quickest_59 : decode cX4_quickest 59 = .ok (.invokevirtual 286, 3) := dk_182 1 30 (dk_at dksX4_quickest_2 11 rfl rfl)
theorem dX4_quickest_62 : decode cX4_quickest 62 = .ok (.iload_n 3, 1) := dk_29 (dk_at dksX4_quickest_2 14 rfl rfl)
theorem dX4_quickest_63 : decode cX4_quickest 63 = .ok (.if_icmp .gt 27, 3) := dk_163 0 27 (dk_at dksX4_quickest_2 15 rfl rfl)
theorem dX4_quickest_66 : decode cX4_quickest 66 = .ok (.iload 4, 2) := dk_21 4 (dk_at dksX4_quickest_2 18 rfl rfl)
theorem dX4_quickest_68 : decode cX4_quickest 68 = .ok (.ifCond .lt 12, 3) := dk_155 0 12 (dk_at dksX4_quickest_2 20 rfl rfl)
theorem dX4_quickest_71 : decode cX4_quickest 71 = .ok (.aload_n 0, 1) := dk_42 (dk_at dksX4_quickest_2 23 rfl rfl)
theorem dX4_quickest_72 : decode cX4_quickest 72 = .ok (.invokevirtual 283, 3) := dk_182 1 27 (dk_at dksX4_quickest_3 0 rfl rfl)
theorem dX4_quickest_75 : decode cX4_quickest 75 = .ok (.iload 5, 2) := dk_21 5 (dk_at dksX4_quickest_3 3 rfl rfl)
theorem dX4_quickest_77 : decode cX4_quickest 77 = .ok (.if_icmp .ge 13, 3) := dk_162 0 13 (dk_at dksX4_quickest_3 5 rfl rfl)
theorem dX4_quickest_80 : decode cX4_quickest 80 = .ok (.iload 6, 2) := dk_21 6 (dk_at dksX4_quickest_3 8 rfl rfl)
theorem dX4_quickest_82 : decode cX4_quickest 82 = .ok (.istore 4, 2) := dk_54 4 (dk_at dksX4_quickest_3 10 rfl rfl)
theorem dX4_quickest_84 : decode cX4_quickest 84 = .ok (.aload_n 0, 1) := dk_42 (dk_at dksX4_quickest_3 12 rfl rfl)
theorem dX4_quickest_85 : decode cX4_quickest 85 = .ok (.invokevirtual 283, 3) := dk_182 1 27 (dk_at dksX4_quickest_3 13 rfl rfl)
theorem dX4_quickest_88 : decode cX4_quickest 88 = .ok (.istore 5, 2) := dk_54 5 (dk_at dksX4_quickest_3 16 rfl rfl)
theorem dX4_quickest_90 : decode cX4_quickest 90 = .ok (.iinc 6 1, 3) := dk_132 6 1 (dk_at dksX4_quickest_3 18 rfl rfl)
theorem dX4_quickest_93 : decode cX4_quickest 93 = .ok (.goto (-54), 3) := dk_167 255 202 (dk_at dksX4_quickest_3 21 rfl rfl)
theorem dX4_quickest_96 : decode cX4_quickest 96 = .ok (.iload 4, 2) := dk_21 4 (dk_at dksX4_quickest_4 0 rfl rfl)
theorem dX4_quickest_98 : decode cX4_quickest 98 = .ok (.ireturn, 1) := dk_172 (dk_at dksX4_quickest_4 2 rfl rfl)
abbrev cX4_table : ByteArray := prog_34_method_57_code
def yX4_table : MethodName := ⟨RX4, "table", "(III)I"⟩
def dkwX4_table_2 : List UInt8 := [21, 4, 172, 132, 4, 1, 167, 255, 225, 16, 254, 172]
abbrev dktX4_table_2 : List UInt8 := dkwX4_table_2 ++ []
def dkwX4_table_1 : List UInt8 := [16, 99, 163, 0, 30, 42, 27, 28, 21, 4, 182, 1, 41, 54, 5, 42, 182, 1, 27, 29, 163, 0, 6]
abbrev dktX4_table_1 : List UInt8 := dkwX4_table_1 ++ dktX4_table_2
def dkwX4_table_0 : List UInt8 := [42, 27, 182, 0, 188, 153, 0, 10, 28, 184, 0, 208, 154, 0, 5, 2, 172, 16, 9, 54, 4, 21, 4]
abbrev dktX4_table_0 : List UInt8 := dkwX4_table_0 ++ dktX4_table_1
theorem dksX4_table_0 : cX4_table.data.toList.drop 0 = dktX4_table_0 := by decide +kernel
theorem dksX4_table_1 : cX4_table.data.toList.drop 23 = dktX4_table_1 := dk_seg dksX4_table_0 23 rfl rfl
theorem dksX4_table_2 : cX4_table.data.toList.drop 46 = dktX4_table_2 := dk_seg dksX4_table_1 23 rfl rfl
theorem dX4_table_0 : decode cX4_table 0 = .ok (.aload_n 0, 1) := dk_42 (dk_at dksX4_table_0 0 rfl rfl)
theorem dX4_table_1 : decode cX4_table 1 = .ok (.iload_n 1, 1) := dk_27 (dk_at dksX4_table_0 1 rfl rfl)
theorem dX4_table_2 : decode cX4_table 2 = .ok (.invokevirtual 188, 3) := dk_182 0 188 (dk_at dksX4_table_0 2 rfl rfl)
theorem dX4_table_5 : decode cX4_table 5 = .ok (.ifCond .eq 10, 3) := dk_153 0 10 (dk_at dksX4_table_0 5 rfl rfl)
theorem dX4_table_8 : decode cX4_table 8 = .ok (.iload_n 2, 1) := dk_28 (dk_at dksX4_table_0 8 rfl rfl)
theorem dX4_table_9 : decode cX4_table 9 = .ok (.invokestatic 208, 3) := dk_184 0 208 (dk_at dksX4_table_0 9 rfl rfl)
theorem dX4_table_12 : decode cX4_table 12 = .ok (.ifCond .ne 5, 3) := dk_154 0 5 (dk_at dksX4_table_0 12 rfl rfl)
theorem dX4_table_15 : decode cX4_table 15 = .ok (.iconst (-1), 1) := dk_2 (dk_at dksX4_table_0 15 rfl rfl)
theorem dX4_table_16 : decode cX4_table 16 = .ok (.ireturn, 1) := dk_172 (dk_at dksX4_table_0 16 rfl rfl)
theorem dX4_table_17 : decode cX4_table 17 = .ok (.bipush 9, 2) := dk_16 9 (dk_at dksX4_table_0 17 rfl rfl)
theorem dX4_table_19 : decode cX4_table 19 = .ok (.istore 4, 2) := dk_54 4 (dk_at dksX4_table_0 19 rfl rfl)
theorem dX4_table_21 : decode cX4_table 21 = .ok (.iload 4, 2) := dk_21 4 (dk_at dksX4_table_0 21 rfl rfl)
theorem dX4_table_23 : decode cX4_table 23 = .ok (.bipush 99, 2) := dk_16 99 (dk_at dksX4_table_1 0 rfl rfl)
theorem dX4_table_25 : decode cX4_table 25 = .ok (.if_icmp .gt 30, 3) := dk_163 0 30 (dk_at dksX4_table_1 2 rfl rfl)
theorem dX4_table_28 : decode cX4_table 28 = .ok (.aload_n 0, 1) := dk_42 (dk_at dksX4_table_1 5 rfl rfl)
theorem dX4_table_29 : decode cX4_table 29 = .ok (.iload_n 1, 1) := dk_27 (dk_at dksX4_table_1 6 rfl rfl)
theorem dX4_table_30 : decode cX4_table 30 = .ok (.iload_n 2, 1) := dk_28 (dk_at dksX4_table_1 7 rfl rfl)
theorem dX4_table_31 : decode cX4_table 31 = .ok (.iload 4, 2) := dk_21 4 (dk_at dksX4_table_1 8 rfl rfl)
theorem dX4_table_33 : decode cX4_table 33 = .ok (.invokevirtual 297, 3) := dk_182 1 41 (dk_at dksX4_table_1 10 rfl rfl)
theorem dX4_table_36 : decode cX4_table 36 = .ok (.istore 5, 2) := dk_54 5 (dk_at dksX4_table_1 13 rfl rfl)
theorem dX4_table_38 : decode cX4_table 38 = .ok (.aload_n 0, 1) := dk_42 (dk_at dksX4_table_1 15 rfl rfl)
theorem dX4_table_39 : decode cX4_table 39 = .ok (.invokevirtual 283, 3) := dk_182 1 27 (dk_at dksX4_table_1 16 rfl rfl)
theorem dX4_table_42 : decode cX4_table 42 = .ok (.iload_n 3, 1) := dk_29 (dk_at dksX4_table_1 19 rfl rfl)
theorem dX4_table_43 : decode cX4_table 43 = .ok (.if_icmp .gt 6, 3) := dk_163 0 6 (dk_at dksX4_table_1 20 rfl rfl)
theorem dX4_table_46 : decode cX4_table 46 = .ok (.iload 4, 2) := dk_21 4 (dk_at dksX4_table_2 0 rfl rfl)
theorem dX4_table_48 : decode cX4_table 48 = .ok (.ireturn, 1) := dk_172 (dk_at dksX4_table_2 2 rfl rfl)
theorem dX4_table_49 : decode cX4_table 49 = .ok (.iinc 4 1, 3) := dk_132 4 1 (dk_at dksX4_table_2 3 rfl rfl)
theorem dX4_table_52 : decode cX4_table 52 = .ok (.goto (-31), 3) := dk_167 255 225 (dk_at dksX4_table_2 6 rfl rfl)
theorem dX4_table_55 : decode cX4_table 55 = .ok (.bipush (-2), 2) := dk_16 254 (dk_at dksX4_table_2 9 rfl rfl)
theorem dX4_table_57 : decode cX4_table 57 = .ok (.ireturn, 1) := dk_172 (dk_at dksX4_table_2 11 rfl rfl)
abbrev cX4_see : ByteArray := prog_34_method_58_code
def yX4_see : MethodName := ⟨RX4, "see", "(III)I"⟩
def dkwX4_see_3 : List UInt8 := [180, 1, 50, 29, 79, 42, 89, 180, 1, 50, 4, 96, 181, 1, 50, 42, 180, 1, 50, 4, 100, 172]
abbrev dktX4_see_3 : List UInt8 := dkwX4_see_3 ++ []
def dkwX4_see_2 : List UInt8 := [180, 0, 64, 42, 180, 1, 50, 27, 79, 42, 180, 0, 67, 42, 180, 1, 50, 28, 79, 42, 180, 0, 70, 42]
abbrev dktX4_see_2 : List UInt8 := dkwX4_see_2 ++ dktX4_see_3
def dkwX4_see_1 : List UInt8 := [20, 1, 48, 184, 0, 113, 154, 0, 5, 2, 172, 42, 180, 1, 50, 16, 40, 160, 0, 6, 16, 253, 172, 42]
abbrev dktX4_see_1 : List UInt8 := dkwX4_see_1 ++ dktX4_see_2
def dkwX4_see_0 : List UInt8 := [27, 184, 0, 208, 153, 0, 29, 28, 133, 9, 20, 0, 197, 184, 0, 113, 153, 0, 17, 29, 133, 20, 1, 46]
abbrev dktX4_see_0 : List UInt8 := dkwX4_see_0 ++ dktX4_see_1
theorem dksX4_see_0 : cX4_see.data.toList.drop 0 = dktX4_see_0 := by decide +kernel
theorem dksX4_see_1 : cX4_see.data.toList.drop 24 = dktX4_see_1 := dk_seg dksX4_see_0 24 rfl rfl
theorem dksX4_see_2 : cX4_see.data.toList.drop 48 = dktX4_see_2 := dk_seg dksX4_see_1 24 rfl rfl
theorem dksX4_see_3 : cX4_see.data.toList.drop 72 = dktX4_see_3 := dk_seg dksX4_see_2 24 rfl rfl
theorem dX4_see_0 : decode cX4_see 0 = .ok (.iload_n 1, 1) := dk_27 (dk_at dksX4_see_0 0 rfl rfl)
theorem dX4_see_1 : decode cX4_see 1 = .ok (.invokestatic 208, 3) := dk_184 0 208 (dk_at dksX4_see_0 1 rfl rfl)
theorem dX4_see_4 : decode cX4_see 4 = .ok (.ifCond .eq 29, 3) := dk_153 0 29 (dk_at dksX4_see_0 4 rfl rfl)
theorem dX4_see_7 : decode cX4_see 7 = .ok (.iload_n 2, 1) := dk_28 (dk_at dksX4_see_0 7 rfl rfl)
theorem dX4_see_8 : decode cX4_see 8 = .ok (.i2l, 1) := dk_133 (dk_at dksX4_see_0 8 rfl rfl)
theorem dX4_see_9 : decode cX4_see 9 = .ok (.lconst 0, 1) := dk_9 (dk_at dksX4_see_0 9 rfl rfl)
theorem dX4_see_10 : decode cX4_see 10 = .ok (.ldc2_w 197, 3) := dk_20 0 197 (dk_at dksX4_see_0 10 rfl rfl)
theorem dX4_see_13 : decode cX4_see 13 = .ok (.invokestatic 113, 3) := dk_184 0 113 (dk_at dksX4_see_0 13 rfl rfl)
theorem dX4_see_16 : decode cX4_see 16 = .ok (.ifCond .eq 17, 3) := dk_153 0 17 (dk_at dksX4_see_0 16 rfl rfl)
theorem dX4_see_19 : decode cX4_see 19 = .ok (.iload_n 3, 1) := dk_29 (dk_at dksX4_see_0 19 rfl rfl)
theorem dX4_see_20 : decode cX4_see 20 = .ok (.i2l, 1) := dk_133 (dk_at dksX4_see_0 20 rfl rfl)
theorem dX4_see_21 : decode cX4_see 21 = .ok (.ldc2_w 302, 3) := dk_20 1 46 (dk_at dksX4_see_0 21 rfl rfl)
theorem dX4_see_24 : decode cX4_see 24 = .ok (.ldc2_w 304, 3) := dk_20 1 48 (dk_at dksX4_see_1 0 rfl rfl)
theorem dX4_see_27 : decode cX4_see 27 = .ok (.invokestatic 113, 3) := dk_184 0 113 (dk_at dksX4_see_1 3 rfl rfl)
theorem dX4_see_30 : decode cX4_see 30 = .ok (.ifCond .ne 5, 3) := dk_154 0 5 (dk_at dksX4_see_1 6 rfl rfl)
theorem dX4_see_33 : decode cX4_see 33 = .ok (.iconst (-1), 1) := dk_2 (dk_at dksX4_see_1 9 rfl rfl)
theorem dX4_see_34 : decode cX4_see 34 = .ok (.ireturn, 1) := dk_172 (dk_at dksX4_see_1 10 rfl rfl)
theorem dX4_see_35 : decode cX4_see 35 = .ok (.aload_n 0, 1) := dk_42 (dk_at dksX4_see_1 11 rfl rfl)
theorem dX4_see_36 : decode cX4_see 36 = .ok (.getfield 306, 3) := dk_180 1 50 (dk_at dksX4_see_1 12 rfl rfl)
theorem dX4_see_39 : decode cX4_see 39 = .ok (.bipush 40, 2) := dk_16 40 (dk_at dksX4_see_1 15 rfl rfl)
theorem dX4_see_41 : decode cX4_see 41 = .ok (.if_icmp .ne 6, 3) := dk_160 0 6 (dk_at dksX4_see_1 17 rfl rfl)
theorem dX4_see_44 : decode cX4_see 44 = .ok (.bipush (-3), 2) := dk_16 253 (dk_at dksX4_see_1 20 rfl rfl)
theorem dX4_see_46 : decode cX4_see 46 = .ok (.ireturn, 1) := dk_172 (dk_at dksX4_see_1 22 rfl rfl)
theorem dX4_see_47 : decode cX4_see 47 = .ok (.aload_n 0, 1) := dk_42 (dk_at dksX4_see_1 23 rfl rfl)
theorem dX4_see_48 : decode cX4_see 48 = .ok (.getfield 64, 3) := dk_180 0 64 (dk_at dksX4_see_2 0 rfl rfl)
theorem dX4_see_51 : decode cX4_see 51 = .ok (.aload_n 0, 1) := dk_42 (dk_at dksX4_see_2 3 rfl rfl)
theorem dX4_see_52 : decode cX4_see 52 = .ok (.getfield 306, 3) := dk_180 1 50 (dk_at dksX4_see_2 4 rfl rfl)
theorem dX4_see_55 : decode cX4_see 55 = .ok (.iload_n 1, 1) := dk_27 (dk_at dksX4_see_2 7 rfl rfl)
theorem dX4_see_56 : decode cX4_see 56 = .ok (.iastore, 1) := dk_79 (dk_at dksX4_see_2 8 rfl rfl)
theorem dX4_see_57 : decode cX4_see 57 = .ok (.aload_n 0, 1) := dk_42 (dk_at dksX4_see_2 9 rfl rfl)
theorem dX4_see_58 : decode cX4_see 58 = .ok (.getfield 67, 3) := dk_180 0 67 (dk_at dksX4_see_2 10 rfl rfl)
theorem dX4_see_61 : decode cX4_see 61 = .ok (.aload_n 0, 1) := dk_42 (dk_at dksX4_see_2 13 rfl rfl)
theorem dX4_see_62 : decode cX4_see 62 = .ok (.getfield 306, 3) := dk_180 1 50 (dk_at dksX4_see_2 14 rfl rfl)
theorem dX4_see_65 : decode cX4_see 65 = .ok (.iload_n 2, 1) := dk_28 (dk_at dksX4_see_2 17 rfl rfl)
theorem dX4_see_66 : decode cX4_see 66 = .ok (.iastore, 1) := dk_79 (dk_at dksX4_see_2 18 rfl rfl)
theorem dX4_see_67 : decode cX4_see 67 = .ok (.aload_n 0, 1) := dk_42 (dk_at dksX4_see_2 19 rfl rfl)
theorem dX4_see_68 : decode cX4_see 68 = .ok (.getfield 70, 3) := dk_180 0 70 (dk_at dksX4_see_2 20 rfl rfl)
theorem dX4_see_71 : decode cX4_see 71 = .ok (.aload_n 0, 1) := dk_42 (dk_at dksX4_see_2 23 rfl rfl)
theorem dX4_see_72 : decode cX4_see 72 = .ok (.getfield 306, 3) := dk_180 1 50 (dk_at dksX4_see_3 0 rfl rfl)
theorem dX4_see_75 : decode cX4_see 75 = .ok (.iload_n 3, 1) := dk_29 (dk_at dksX4_see_3 3 rfl rfl)
theorem dX4_see_76 : decode cX4_see 76 = .ok (.iastore, 1) := dk_79 (dk_at dksX4_see_3 4 rfl rfl)
theorem dX4_see_77 : decode cX4_see 77 = .ok (.aload_n 0, 1) := dk_42 (dk_at dksX4_see_3 5 rfl rfl)
theorem dX4_see_78 : decode cX4_see 78 = .ok (.dup, 1) := dk_89 (dk_at dksX4_see_3 6 rfl rfl)
theorem dX4_see_79 : decode cX4_see 79 = .ok (.getfield 306, 3) := dk_180 1 50 (dk_at dksX4_see_3 7 rfl rfl)
theorem dX4_see_82 : decode cX4_see 82 = .ok (.iconst 1, 1) := dk_4 (dk_at dksX4_see_3 10 rfl rfl)
theorem dX4_see_83 : decode cX4_see 83 = .ok (.iadd, 1) := dk_96 (dk_at dksX4_see_3 11 rfl rfl)
theorem dX4_see_84 : decode cX4_see 84 = .ok (.putfield 306, 3) := dk_181 1 50 (dk_at dksX4_see_3 12 rfl rfl)
theorem dX4_see_87 : decode cX4_see 87 = .ok (.aload_n 0, 1) := dk_42 (dk_at dksX4_see_3 15 rfl rfl)
theorem dX4_see_88 : decode cX4_see 88 = .ok (.getfield 306, 3) := dk_180 1 50 (dk_at dksX4_see_3 16 rfl rfl)
theorem dX4_see_91 : decode cX4_see 91 = .ok (.iconst 1, 1) := dk_4 (dk_at dksX4_see_3 19 rfl rfl)
theorem dX4_see_92 : decode cX4_see 92 = .ok (.isub, 1) := dk_100 (dk_at dksX4_see_3 20 rfl rfl)
theorem dX4_see_93 : decode cX4_see 93 = .ok (.ireturn, 1) := dk_172 (dk_at dksX4_see_3 21 rfl rfl)
abbrev cX4_asks : ByteArray := prog_34_method_59_code
def yX4_asks : MethodName := ⟨RX4, "asks", "(III)I"⟩
def dkwX4_asks_10 : List UInt8 := [21, 4, 172]
abbrev dktX4_asks_10 : List UInt8 := dkwX4_asks_10 ++ []
def dkwX4_asks_9 : List UInt8 := [167, 0, 4, 3, 54, 5, 21, 4, 21, 5, 153, 0, 7, 4, 167, 0, 4, 3, 96, 54, 4, 167, 255, 95]
abbrev dktX4_asks_9 : List UInt8 := dkwX4_asks_9 ++ dktX4_asks_10
def dkwX4_asks_8 : List UInt8 := [21, 6, 5, 96, 47, 136, 42, 180, 0, 94, 21, 6, 6, 96, 47, 136, 182, 1, 58, 155, 0, 7, 4]
abbrev dktX4_asks_8 : List UInt8 := dkwX4_asks_8 ++ dktX4_asks_9
def dkwX4_asks_7 : List UInt8 := [180, 0, 94, 21, 6, 47, 136, 104, 42, 180, 0, 94, 21, 6, 4, 96, 47, 136, 96, 42, 180, 0, 94]
abbrev dktX4_asks_7 : List UInt8 := dkwX4_asks_7 ++ dktX4_asks_8
def dkwX4_asks_6 : List UInt8 := [180, 0, 94, 21, 6, 4, 96, 47, 10, 20, 0, 197, 184, 0, 113, 153, 0, 57, 42, 17, 39, 16, 42]
abbrev dktX4_asks_6 : List UInt8 := dkwX4_asks_6 ++ dktX4_asks_7
def dkwX4_asks_5 : List UInt8 := [21, 5, 153, 0, 93, 42, 180, 0, 94, 21, 6, 47, 10, 20, 0, 197, 184, 0, 113, 153, 0, 76, 42]
abbrev dktX4_asks_5 : List UInt8 := dkwX4_asks_5 ++ dktX4_asks_6
def dkwX4_asks_4 : List UInt8 := [100, 163, 0, 7, 4, 167, 0, 4, 3, 54, 5, 16, 60, 27, 104, 28, 96, 7, 21, 4, 104, 96, 54, 6]
abbrev dktX4_asks_4 : List UInt8 := dkwX4_asks_4 ++ dktX4_asks_5
def dkwX4_asks_3 : List UInt8 := [21, 5, 153, 0, 162, 21, 4, 29, 162, 0, 156, 28, 42, 180, 0, 91, 27, 46, 7, 100, 7, 21, 4, 104]
abbrev dktX4_asks_3 : List UInt8 := dkwX4_asks_3 ++ dktX4_asks_4
def dkwX4_asks_2 : List UInt8 := [54, 4, 42, 180, 0, 88, 27, 46, 16, 52, 160, 0, 11, 28, 155, 0, 7, 4, 167, 0, 4, 3, 54, 5]
abbrev dktX4_asks_2 : List UInt8 := dkwX4_asks_2 ++ dktX4_asks_3
def dkwX4_asks_1 : List UInt8 := [180, 0, 88, 27, 46, 155, 0, 17, 42, 180, 0, 88, 27, 46, 16, 52, 159, 0, 6, 16, 244, 172, 3]
abbrev dktX4_asks_1 : List UInt8 := dkwX4_asks_1 ++ dktX4_asks_2
def dkwX4_asks_0 : List UInt8 := [27, 184, 1, 53, 153, 0, 15, 29, 133, 10, 20, 1, 56, 184, 0, 113, 154, 0, 5, 2, 172, 42]
abbrev dktX4_asks_0 : List UInt8 := dkwX4_asks_0 ++ dktX4_asks_1
theorem dksX4_asks_0 : cX4_asks.data.toList.drop 0 = dktX4_asks_0 := by decide +kernel
theorem dksX4_asks_1 : cX4_asks.data.toList.drop 22 = dktX4_asks_1 := dk_seg dksX4_asks_0 22 rfl rfl
theorem dksX4_asks_2 : cX4_asks.data.toList.drop 45 = dktX4_asks_2 := dk_seg dksX4_asks_1 23 rfl rfl
theorem dksX4_asks_3 : cX4_asks.data.toList.drop 69 = dktX4_asks_3 := dk_seg dksX4_asks_2 24 rfl rfl
theorem dksX4_asks_4 : cX4_asks.data.toList.drop 93 = dktX4_asks_4 := dk_seg dksX4_asks_3 24 rfl rfl
theorem dksX4_asks_5 : cX4_asks.data.toList.drop 117 = dktX4_asks_5 := dk_seg dksX4_asks_4 24 rfl rfl
theorem dksX4_asks_6 : cX4_asks.data.toList.drop 140 = dktX4_asks_6 := dk_seg dksX4_asks_5 23 rfl rfl
theorem dksX4_asks_7 : cX4_asks.data.toList.drop 163 = dktX4_asks_7 := dk_seg dksX4_asks_6 23 rfl rfl
theorem dksX4_asks_8 : cX4_asks.data.toList.drop 186 = dktX4_asks_8 := dk_seg dksX4_asks_7 23 rfl rfl
theorem dksX4_asks_9 : cX4_asks.data.toList.drop 209 = dktX4_asks_9 := dk_seg dksX4_asks_8 23 rfl rfl
theorem dksX4_asks_10 : cX4_asks.data.toList.drop 233 = dktX4_asks_10 := dk_seg dksX4_asks_9 24 rfl rfl
theorem dX4_asks_0 : decode cX4_asks 0 = .ok (.iload_n 1, 1) := dk_27 (dk_at dksX4_asks_0 0 rfl rfl)
theorem dX4_asks_1 : decode cX4_asks 1 = .ok (.invokestatic 309, 3) := dk_184 1 53 (dk_at dksX4_asks_0 1 rfl rfl)
theorem dX4_asks_4 : decode cX4_asks 4 = .ok (.ifCond .eq 15, 3) := dk_153 0 15 (dk_at dksX4_asks_0 4 rfl rfl)
theorem dX4_asks_7 : decode cX4_asks 7 = .ok (.iload_n 3, 1) := dk_29 (dk_at dksX4_asks_0 7 rfl rfl)
theorem dX4_asks_8 : decode cX4_asks 8 = .ok (.i2l, 1) := dk_133 (dk_at dksX4_asks_0 8 rfl rfl)
theorem dX4_asks_9 : decode cX4_asks 9 = .ok (.lconst 1, 1) := dk_10 (dk_at dksX4_asks_0 9 rfl rfl)
theorem dX4_asks_10 : decode cX4_asks 10 = .ok (.ldc2_w 312, 3) := dk_20 1 56 (dk_at dksX4_asks_0 10 rfl rfl)
theorem dX4_asks_13 : decode cX4_asks 13 = .ok (.invokestatic 113, 3) := dk_184 0 113 (dk_at dksX4_asks_0 13 rfl rfl)
theorem dX4_asks_16 : decode cX4_asks 16 = .ok (.ifCond .ne 5, 3) := dk_154 0 5 (dk_at dksX4_asks_0 16 rfl rfl)
theorem dX4_asks_19 : decode cX4_asks 19 = .ok (.iconst (-1), 1) := dk_2 (dk_at dksX4_asks_0 19 rfl rfl)
theorem dX4_asks_20 : decode cX4_asks 20 = .ok (.ireturn, 1) := dk_172 (dk_at dksX4_asks_0 20 rfl rfl)
theorem dX4_asks_21 : decode cX4_asks 21 = .ok (.aload_n 0, 1) := dk_42 (dk_at dksX4_asks_0 21 rfl rfl)
theorem dX4_asks_22 : decode cX4_asks 22 = .ok (.getfield 88, 3) := dk_180 0 88 (dk_at dksX4_asks_1 0 rfl rfl)
theorem dX4_asks_25 : decode cX4_asks 25 = .ok (.iload_n 1, 1) := dk_27 (dk_at dksX4_asks_1 3 rfl rfl)
theorem dX4_asks_26 : decode cX4_asks 26 = .ok (.iaload, 1) := dk_46 (dk_at dksX4_asks_1 4 rfl rfl)
theorem dX4_asks_27 : decode cX4_asks 27 = .ok (.ifCond .lt 17, 3) := dk_155 0 17 (dk_at dksX4_asks_1 5 rfl rfl)
theorem dX4_asks_30 : decode cX4_asks 30 = .ok (.aload_n 0, 1) := dk_42 (dk_at dksX4_asks_1 8 rfl rfl)
theorem dX4_asks_31 : decode cX4_asks 31 = .ok (.getfield 88, 3) := dk_180 0 88 (dk_at dksX4_asks_1 9 rfl rfl)
theorem dX4_asks_34 : decode cX4_asks 34 = .ok (.iload_n 1, 1) := dk_27 (dk_at dksX4_asks_1 12 rfl rfl)
theorem dX4_asks_35 : decode cX4_asks 35 = .ok (.iaload, 1) := dk_46 (dk_at dksX4_asks_1 13 rfl rfl)
theorem dX4_asks_36 : decode cX4_asks 36 = .ok (.bipush 52, 2) := dk_16 52 (dk_at dksX4_asks_1 14 rfl rfl)
theorem dX4_asks_38 : decode cX4_asks 38 = .ok (.if_icmp .eq 6, 3) := dk_159 0 6 (dk_at dksX4_asks_1 16 rfl rfl)
theorem dX4_asks_41 : decode cX4_asks 41 = .ok (.bipush (-12), 2) := dk_16 244 (dk_at dksX4_asks_1 19 rfl rfl)
theorem dX4_asks_43 : decode cX4_asks 43 = .ok (.ireturn, 1) := dk_172 (dk_at dksX4_asks_1 21 rfl rfl)
theorem dX4_asks_44 : decode cX4_asks 44 = .ok (.iconst 0, 1) := dk_3 (dk_at dksX4_asks_1 22 rfl rfl)
theorem dX4_asks_45 : decode cX4_asks 45 = .ok (.istore 4, 2) := dk_54 4 (dk_at dksX4_asks_2 0 rfl rfl)
theorem dX4_asks_47 : decode cX4_asks 47 = .ok (.aload_n 0, 1) := dk_42 (dk_at dksX4_asks_2 2 rfl rfl)
theorem dX4_asks_48 : decode cX4_asks 48 = .ok (.getfield 88, 3) := dk_180 0 88 (dk_at dksX4_asks_2 3 rfl rfl)
theorem dX4_asks_51 : decode cX4_asks 51 = .ok (.iload_n 1, 1) := dk_27 (dk_at dksX4_asks_2 6 rfl rfl)
theorem dX4_asks_52 : decode cX4_asks 52 = .ok (.iaload, 1) := dk_46 (dk_at dksX4_asks_2 7 rfl rfl)
theorem dX4_asks_53 : decode cX4_asks 53 = .ok (.bipush 52, 2) := dk_16 52 (dk_at dksX4_asks_2 8 rfl rfl)
theorem dX4_asks_55 : decode cX4_asks 55 = .ok (.if_icmp .ne 11, 3) := dk_160 0 11 (dk_at dksX4_asks_2 10 rfl rfl)
theorem dX4_asks_58 : decode cX4_asks 58 = .ok (.iload_n 2, 1) := dk_28 (dk_at dksX4_asks_2 13 rfl rfl)
theorem dX4_asks_59 : decode cX4_asks 59 = .ok (.ifCond .lt 7, 3) := dk_155 0 7 (dk_at dksX4_asks_2 14 rfl rfl)
theorem dX4_asks_62 : decode cX4_asks 62 = .ok (.iconst 1, 1) := dk_4 (dk_at dksX4_asks_2 17 rfl rfl)
theorem dX4_asks_63 : decode cX4_asks 63 = .ok (.goto 4, 3) := dk_167 0 4 (dk_at dksX4_asks_2 18 rfl rfl)
theorem dX4_asks_66 : decode cX4_asks 66 = .ok (.iconst 0, 1) := dk_3 (dk_at dksX4_asks_2 21 rfl rfl)
theorem dX4_asks_67 : decode cX4_asks 67 = .ok (.istore 5, 2) := dk_54 5 (dk_at dksX4_asks_2 22 rfl rfl)
theorem dX4_asks_69 : decode cX4_asks 69 = .ok (.iload 5, 2) := dk_21 5 (dk_at dksX4_asks_3 0 rfl rfl)
theorem dX4_asks_71 : decode cX4_asks 71 = .ok (.ifCond .eq 162, 3) := dk_153 0 162 (dk_at dksX4_asks_3 2 rfl rfl)
theorem dX4_asks_74 : decode cX4_asks 74 = .ok (.iload 4, 2) := dk_21 4 (dk_at dksX4_asks_3 5 rfl rfl)
theorem dX4_asks_76 : decode cX4_asks 76 = .ok (.iload_n 3, 1) := dk_29 (dk_at dksX4_asks_3 7 rfl rfl)
theorem dX4_asks_77 : decode cX4_asks 77 = .ok (.if_icmp .ge 156, 3) := dk_162 0 156 (dk_at dksX4_asks_3 8 rfl rfl)
theorem dX4_asks_80 : decode cX4_asks 80 = .ok (.iload_n 2, 1) := dk_28 (dk_at dksX4_asks_3 11 rfl rfl)
theorem dX4_asks_81 : decode cX4_asks 81 = .ok (.aload_n 0, 1) := dk_42 (dk_at dksX4_asks_3 12 rfl rfl)
theorem dX4_asks_82 : decode cX4_asks 82 = .ok (.getfield 91, 3) := dk_180 0 91 (dk_at dksX4_asks_3 13 rfl rfl)
theorem dX4_asks_85 : decode cX4_asks 85 = .ok (.iload_n 1, 1) := dk_27 (dk_at dksX4_asks_3 16 rfl rfl)
theorem dX4_asks_86 : decode cX4_asks 86 = .ok (.iaload, 1) := dk_46 (dk_at dksX4_asks_3 17 rfl rfl)
theorem dX4_asks_87 : decode cX4_asks 87 = .ok (.iconst 4, 1) := dk_7 (dk_at dksX4_asks_3 18 rfl rfl)
theorem dX4_asks_88 : decode cX4_asks 88 = .ok (.isub, 1) := dk_100 (dk_at dksX4_asks_3 19 rfl rfl)
theorem dX4_asks_89 : decode cX4_asks 89 = .ok (.iconst 4, 1) := dk_7 (dk_at dksX4_asks_3 20 rfl rfl)
theorem dX4_asks_90 : decode cX4_asks 90 = .ok (.iload 4, 2) := dk_21 4 (dk_at dksX4_asks_3 21 rfl rfl)
theorem dX4_asks_92 : decode cX4_asks 92 = .ok (.imul, 1) := dk_104 (dk_at dksX4_asks_3 23 rfl rfl)
theorem dX4_asks_93 : decode cX4_asks 93 = .ok (.isub, 1) := dk_100 (dk_at dksX4_asks_4 0 rfl rfl)
theorem dX4_asks_94 : decode cX4_asks 94 = .ok (.if_icmp .gt 7, 3) := dk_163 0 7 (dk_at dksX4_asks_4 1 rfl rfl)
theorem dX4_asks_97 : decode cX4_asks 97 = .ok (.iconst 1, 1) := dk_4 (dk_at dksX4_asks_4 4 rfl rfl)
theorem dX4_asks_98 : decode cX4_asks 98 = .ok (.goto 4, 3) := dk_167 0 4 (dk_at dksX4_asks_4 5 rfl rfl)
theorem dX4_asks_101 : decode cX4_asks 101 = .ok (.iconst 0, 1) := dk_3 (dk_at dksX4_asks_4 8 rfl rfl)
theorem dX4_asks_102 : decode cX4_asks 102 = .ok (.istore 5, 2) := dk_54 5 (dk_at dksX4_asks_4 9 rfl rfl)
theorem dX4_asks_104 : decode cX4_asks 104 = .ok (.bipush 60, 2) := dk_16 60 (dk_at dksX4_asks_4 11 rfl rfl)
theorem dX4_asks_106 : decode cX4_asks 106 = .ok (.iload_n 1, 1) := dk_27 (dk_at dksX4_asks_4 13 rfl rfl)
theorem dX4_asks_107 : decode cX4_asks 107 = .ok (.imul, 1) := dk_104 (dk_at dksX4_asks_4 14 rfl rfl)
theorem dX4_asks_108 : decode cX4_asks 108 = .ok (.iload_n 2, 1) := dk_28 (dk_at dksX4_asks_4 15 rfl rfl)
theorem dX4_asks_109 : decode cX4_asks 109 = .ok (.iadd, 1) := dk_96 (dk_at dksX4_asks_4 16 rfl rfl)
theorem dX4_asks_110 : decode cX4_asks 110 = .ok (.iconst 4, 1) := dk_7 (dk_at dksX4_asks_4 17 rfl rfl)
theorem dX4_asks_111 : decode cX4_asks 111 = .ok (.iload 4, 2) := dk_21 4 (dk_at dksX4_asks_4 18 rfl rfl)
theorem dX4_asks_113 : decode cX4_asks 113 = .ok (.imul, 1) := dk_104 (dk_at dksX4_asks_4 20 rfl rfl)
theorem dX4_asks_114 : decode cX4_asks 114 = .ok (.iadd, 1) := dk_96 (dk_at dksX4_asks_4 21 rfl rfl)
theorem dX4_asks_115 : decode cX4_asks 115 = .ok (.istore 6, 2) := dk_54 6 (dk_at dksX4_asks_4 22 rfl rfl)
theorem dX4_asks_117 : decode cX4_asks 117 = .ok (.iload 5, 2) := dk_21 5 (dk_at dksX4_asks_5 0 rfl rfl)
theorem dX4_asks_119 : decode cX4_asks 119 = .ok (.ifCond .eq 93, 3) := dk_153 0 93 (dk_at dksX4_asks_5 2 rfl rfl)
theorem dX4_asks_122 : decode cX4_asks 122 = .ok (.aload_n 0, 1) := dk_42 (dk_at dksX4_asks_5 5 rfl rfl)
theorem dX4_asks_123 : decode cX4_asks 123 = .ok (.getfield 94, 3) := dk_180 0 94 (dk_at dksX4_asks_5 6 rfl rfl)
theorem dX4_asks_126 : decode cX4_asks 126 = .ok (.iload 6, 2) := dk_21 6 (dk_at dksX4_asks_5 9 rfl rfl)
theorem dX4_asks_128 : decode cX4_asks 128 = .ok (.laload, 1) := dk_47 (dk_at dksX4_asks_5 11 rfl rfl)
theorem dX4_asks_129 : decode cX4_asks 129 = .ok (.lconst 1, 1) := dk_10 (dk_at dksX4_asks_5 12 rfl rfl)
theorem dX4_asks_130 : decode cX4_asks 130 = .ok (.ldc2_w 197, 3) := dk_20 0 197 (dk_at dksX4_asks_5 13 rfl rfl)
theorem dX4_asks_133 : decode cX4_asks 133 = .ok (.invokestatic 113, 3) := dk_184 0 113 (dk_at dksX4_asks_5 16 rfl rfl)
theorem dX4_asks_136 : decode cX4_asks 136 = .ok (.ifCond .eq 76, 3) := dk_153 0 76 (dk_at dksX4_asks_5 19 rfl rfl)
theorem dX4_asks_139 : decode cX4_asks 139 = .ok (.aload_n 0, 1) := dk_42 (dk_at dksX4_asks_5 22 rfl rfl)
theorem dX4_asks_140 : decode cX4_asks 140 = .ok (.getfield 94, 3) := dk_180 0 94 (dk_at dksX4_asks_6 0 rfl rfl)
theorem dX4_asks_143 : decode cX4_asks 143 = .ok (.iload 6, 2) := dk_21 6 (dk_at dksX4_asks_6 3 rfl rfl)
theorem dX4_asks_145 : decode cX4_asks 145 = .ok (.iconst 1, 1) := dk_4 (dk_at dksX4_asks_6 5 rfl rfl)
theorem dX4_asks_146 : decode cX4_asks 146 = .ok (.iadd, 1) := dk_96 (dk_at dksX4_asks_6 6 rfl rfl)
theorem dX4_asks_147 : decode cX4_asks 147 = .ok (.laload, 1) := dk_47 (dk_at dksX4_asks_6 7 rfl rfl)
theorem dX4_asks_148 : decode cX4_asks 148 = .ok (.lconst 1, 1) := dk_10 (dk_at dksX4_asks_6 8 rfl rfl)
theorem dX4_asks_149 : decode cX4_asks 149 = .ok (.ldc2_w 197, 3) := dk_20 0 197 (dk_at dksX4_asks_6 9 rfl rfl)
theorem dX4_asks_152 : decode cX4_asks 152 = .ok (.invokestatic 113, 3) := dk_184 0 113 (dk_at dksX4_asks_6 12 rfl rfl)
theorem dX4_asks_155 : decode cX4_asks 155 = .ok (.ifCond .eq 57, 3) := dk_153 0 57 (dk_at dksX4_asks_6 15 rfl rfl)
theorem dX4_asks_158 : decode cX4_asks 158 = .ok (.aload_n 0, 1) := dk_42 (dk_at dksX4_asks_6 18 rfl rfl)
theorem dX4_asks_159 : decode cX4_asks 159 = .ok (.sipush 10000, 3) := dk_17 39 16 (dk_at dksX4_asks_6 19 rfl rfl)
theorem dX4_asks_162 : decode cX4_asks 162 = .ok (.aload_n 0, 1) := dk_42 (dk_at dksX4_asks_6 22 rfl rfl)
theorem dX4_asks_163 : decode cX4_asks 163 = .ok (.getfield 94, 3) := dk_180 0 94 (dk_at dksX4_asks_7 0 rfl rfl)
theorem dX4_asks_166 : decode cX4_asks 166 = .ok (.iload 6, 2) := dk_21 6 (dk_at dksX4_asks_7 3 rfl rfl)
theorem dX4_asks_168 : decode cX4_asks 168 = .ok (.laload, 1) := dk_47 (dk_at dksX4_asks_7 5 rfl rfl)
theorem dX4_asks_169 : decode cX4_asks 169 = .ok (.l2i, 1) := dk_136 (dk_at dksX4_asks_7 6 rfl rfl)
theorem dX4_asks_170 : decode cX4_asks 170 = .ok (.imul, 1) := dk_104 (dk_at dksX4_asks_7 7 rfl rfl)
theorem dX4_asks_171 : decode cX4_asks 171 = .ok (.aload_n 0, 1) := dk_42 (dk_at dksX4_asks_7 8 rfl rfl)
theorem dX4_asks_172 : decode cX4_asks 172 = .ok (.getfield 94, 3) := dk_180 0 94 (dk_at dksX4_asks_7 9 rfl rfl)
theorem dX4_asks_175 : decode cX4_asks 175 = .ok (.iload 6, 2) := dk_21 6 (dk_at dksX4_asks_7 12 rfl rfl)
theorem dX4_asks_177 : decode cX4_asks 177 = .ok (.iconst 1, 1) := dk_4 (dk_at dksX4_asks_7 14 rfl rfl)
theorem dX4_asks_178 : decode cX4_asks 178 = .ok (.iadd, 1) := dk_96 (dk_at dksX4_asks_7 15 rfl rfl)
theorem dX4_asks_179 : decode cX4_asks 179 = .ok (.laload, 1) := dk_47 (dk_at dksX4_asks_7 16 rfl rfl)
theorem dX4_asks_180 : decode cX4_asks 180 = .ok (.l2i, 1) := dk_136 (dk_at dksX4_asks_7 17 rfl rfl)
theorem dX4_asks_181 : decode cX4_asks 181 = .ok (.iadd, 1) := dk_96 (dk_at dksX4_asks_7 18 rfl rfl)
theorem dX4_asks_182 : decode cX4_asks 182 = .ok (.aload_n 0, 1) := dk_42 (dk_at dksX4_asks_7 19 rfl rfl)
theorem dX4_asks_183 : decode cX4_asks 183 = .ok (.getfield 94, 3) := dk_180 0 94 (dk_at dksX4_asks_7 20 rfl rfl)
theorem dX4_asks_186 : decode cX4_asks 186 = .ok (.iload 6, 2) := dk_21 6 (dk_at dksX4_asks_8 0 rfl rfl)
theorem dX4_asks_188 : decode cX4_asks 188 = .ok (.iconst 2, 1) := dk_5 (dk_at dksX4_asks_8 2 rfl rfl)
theorem dX4_asks_189 : decode cX4_asks 189 = .ok (.iadd, 1) := dk_96 (dk_at dksX4_asks_8 3 rfl rfl)
theorem dX4_asks_190 : decode cX4_asks 190 = .ok (.laload, 1) := dk_47 (dk_at dksX4_asks_8 4 rfl rfl)
theorem dX4_asks_191 : decode cX4_asks 191 = .ok (.l2i, 1) := dk_136 (dk_at dksX4_asks_8 5 rfl rfl)
theorem dX4_asks_192 : decode cX4_asks 192 = .ok (.aload_n 0, 1) := dk_42 (dk_at dksX4_asks_8 6 rfl rfl)
theorem dX4_asks_193 : decode cX4_asks 193 = .ok (.getfield 94, 3) := dk_180 0 94 (dk_at dksX4_asks_8 7 rfl rfl)
theorem dX4_asks_196 : decode cX4_asks 196 = .ok (.iload 6, 2) := dk_21 6 (dk_at dksX4_asks_8 10 rfl rfl)
theorem dX4_asks_198 : decode cX4_asks 198 = .ok (.iconst 3, 1) := dk_6 (dk_at dksX4_asks_8 12 rfl rfl)
theorem dX4_asks_199 : decode cX4_asks 199 = .ok (.iadd, 1) := dk_96 (dk_at dksX4_asks_8 13 rfl rfl)
theorem dX4_asks_200 : decode cX4_asks 200 = .ok (.laload, 1) := dk_47 (dk_at dksX4_asks_8 14 rfl rfl)
theorem dX4_asks_201 : decode cX4_asks 201 = .ok (.l2i, 1) := dk_136 (dk_at dksX4_asks_8 15 rfl rfl)
theorem dX4_asks_202 : decode cX4_asks 202 = .ok (.invokevirtual 314, 3) := dk_182 1 58 (dk_at dksX4_asks_8 16 rfl rfl)
theorem dX4_asks_205 : decode cX4_asks 205 = .ok (.ifCond .lt 7, 3) := dk_155 0 7 (dk_at dksX4_asks_8 19 rfl rfl)
theorem dX4_asks_208 : decode cX4_asks 208 = .ok (.iconst 1, 1) := dk_4 (dk_at dksX4_asks_8 22 rfl rfl)
theorem dX4_asks_209 : decode cX4_asks 209 = .ok (.goto 4, 3) := dk_167 0 4 (dk_at dksX4_asks_9 0 rfl rfl)
theorem dX4_asks_212 : decode cX4_asks 212 = .ok (.iconst 0, 1) := dk_3 (dk_at dksX4_asks_9 3 rfl rfl)
theorem dX4_asks_213 : decode cX4_asks 213 = .ok (.istore 5, 2) := dk_54 5 (dk_at dksX4_asks_9 4 rfl rfl)
theorem dX4_asks_215 : decode cX4_asks 215 = .ok (.iload 4, 2) := dk_21 4 (dk_at dksX4_asks_9 6 rfl rfl)
theorem dX4_asks_217 : decode cX4_asks 217 = .ok (.iload 5, 2) := dk_21 5 (dk_at dksX4_asks_9 8 rfl rfl)
theorem dX4_asks_219 : decode cX4_asks 219 = .ok (.ifCond .eq 7, 3) := dk_153 0 7 (dk_at dksX4_asks_9 10 rfl rfl)
theorem dX4_asks_222 : decode cX4_asks 222 = .ok (.iconst 1, 1) := dk_4 (dk_at dksX4_asks_9 13 rfl rfl)
theorem dX4_asks_223 : decode cX4_asks 223 = .ok (.goto 4, 3) := dk_167 0 4 (dk_at dksX4_asks_9 14 rfl rfl)
theorem dX4_asks_226 : decode cX4_asks 226 = .ok (.iconst 0, 1) := dk_3 (dk_at dksX4_asks_9 17 rfl rfl)
theorem dX4_asks_227 : decode cX4_asks 227 = .ok (.iadd, 1) := dk_96 (dk_at dksX4_asks_9 18 rfl rfl)
theorem dX4_asks_228 : decode cX4_asks 228 = .ok (.istore 4, 2) := dk_54 4 (dk_at dksX4_asks_9 19 rfl rfl)
theorem dX4_asks_230 : decode cX4_asks 230 = .ok (.goto (-161), 3) := dk_167 255 95 (dk_at dksX4_asks_9 21 rfl rfl)
theorem dX4_asks_233 : decode cX4_asks 233 = .ok (.iload 4, 2) := dk_21 4 (dk_at dksX4_asks_10 0 rfl rfl)
theorem dX4_asks_235 : decode cX4_asks 235 = .ok (.ireturn, 1) := dk_172 (dk_at dksX4_asks_10 2 rfl rfl)
abbrev cX4_isShelf : ByteArray := prog_34_method_103_code
def yX4_isShelf : MethodName := ⟨RX4, "isShelf", "(I)Z"⟩
def dkwX4_isShelf_0 : List UInt8 := [26, 133, 9, 20, 1, 187, 184, 0, 113, 172]
abbrev dktX4_isShelf_0 : List UInt8 := dkwX4_isShelf_0 ++ []
theorem dksX4_isShelf_0 : cX4_isShelf.data.toList.drop 0 = dktX4_isShelf_0 := by decide +kernel
theorem dX4_isShelf_0 : decode cX4_isShelf 0 = .ok (.iload_n 0, 1) := dk_26 (dk_at dksX4_isShelf_0 0 rfl rfl)
theorem dX4_isShelf_1 : decode cX4_isShelf 1 = .ok (.i2l, 1) := dk_133 (dk_at dksX4_isShelf_0 1 rfl rfl)
theorem dX4_isShelf_2 : decode cX4_isShelf 2 = .ok (.lconst 0, 1) := dk_9 (dk_at dksX4_isShelf_0 2 rfl rfl)
theorem dX4_isShelf_3 : decode cX4_isShelf 3 = .ok (.ldc2_w 443, 3) := dk_20 1 187 (dk_at dksX4_isShelf_0 3 rfl rfl)
theorem dX4_isShelf_6 : decode cX4_isShelf 6 = .ok (.invokestatic 113, 3) := dk_184 0 113 (dk_at dksX4_isShelf_0 6 rfl rfl)
theorem dX4_isShelf_9 : decode cX4_isShelf 9 = .ok (.ireturn, 1) := dk_172 (dk_at dksX4_isShelf_0 9 rfl rfl)
abbrev cX4_seen : ByteArray := prog_34_method_61_code
def yX4_seen : MethodName := ⟨RX4, "seen", "(II)I"⟩
def dkwX4_seen_3 : List UInt8 := [180, 0, 67, 27, 46, 172, 42, 27, 182, 1, 61, 172, 19, 1, 35, 172]
abbrev dktX4_seen_3 : List UInt8 := dkwX4_seen_3 ++ []
def dkwX4_seen_2 : List UInt8 := [42, 180, 0, 64, 27, 46, 17, 39, 16, 108, 172, 42, 180, 0, 64, 27, 46, 17, 39, 16, 112, 172, 42]
abbrev dktX4_seen_2 : List UInt8 := dkwX4_seen_2 ++ dktX4_seen_3
def dkwX4_seen_1 : List UInt8 := [170, 0, 0, 0, 0, 0, 66, 0, 0, 0, 0, 0, 0, 0, 3, 0, 0, 0, 31, 0, 0, 0, 42, 0, 0, 0, 53, 0, 0, 0, 60]
abbrev dktX4_seen_1 : List UInt8 := dkwX4_seen_1 ++ dktX4_seen_2
def dkwX4_seen_0 : List UInt8 := [27, 133, 9, 42, 180, 1, 50, 4, 100, 133, 184, 0, 113, 154, 0, 7, 19, 1, 35, 172, 28]
abbrev dktX4_seen_0 : List UInt8 := dkwX4_seen_0 ++ dktX4_seen_1
theorem dksX4_seen_0 : cX4_seen.data.toList.drop 0 = dktX4_seen_0 := by decide +kernel
theorem dksX4_seen_1 : cX4_seen.data.toList.drop 21 = dktX4_seen_1 := dk_seg dksX4_seen_0 21 rfl rfl
theorem dksX4_seen_2 : cX4_seen.data.toList.drop 52 = dktX4_seen_2 := dk_seg dksX4_seen_1 31 rfl rfl
theorem dksX4_seen_3 : cX4_seen.data.toList.drop 75 = dktX4_seen_3 := dk_seg dksX4_seen_2 23 rfl rfl
theorem dX4_seen_0 : decode cX4_seen 0 = .ok (.iload_n 1, 1) := dk_27 (dk_at dksX4_seen_0 0 rfl rfl)
theorem dX4_seen_1 : decode cX4_seen 1 = .ok (.i2l, 1) := dk_133 (dk_at dksX4_seen_0 1 rfl rfl)
theorem dX4_seen_2 : decode cX4_seen 2 = .ok (.lconst 0, 1) := dk_9 (dk_at dksX4_seen_0 2 rfl rfl)
theorem dX4_seen_3 : decode cX4_seen 3 = .ok (.aload_n 0, 1) := dk_42 (dk_at dksX4_seen_0 3 rfl rfl)
theorem dX4_seen_4 : decode cX4_seen 4 = .ok (.getfield 306, 3) := dk_180 1 50 (dk_at dksX4_seen_0 4 rfl rfl)
theorem dX4_seen_7 : decode cX4_seen 7 = .ok (.iconst 1, 1) := dk_4 (dk_at dksX4_seen_0 7 rfl rfl)
theorem dX4_seen_8 : decode cX4_seen 8 = .ok (.isub, 1) := dk_100 (dk_at dksX4_seen_0 8 rfl rfl)
theorem dX4_seen_9 : decode cX4_seen 9 = .ok (.i2l, 1) := dk_133 (dk_at dksX4_seen_0 9 rfl rfl)
theorem dX4_seen_10 : decode cX4_seen 10 = .ok (.invokestatic 113, 3) := dk_184 0 113 (dk_at dksX4_seen_0 10 rfl rfl)
theorem dX4_seen_13 : decode cX4_seen 13 = .ok (.ifCond .ne 7, 3) := dk_154 0 7 (dk_at dksX4_seen_0 13 rfl rfl)
theorem dX4_seen_16 : decode cX4_seen 16 = .ok (.ldc_w 291, 3) := dk_19 1 35 (dk_at dksX4_seen_0 16 rfl rfl)
theorem dX4_seen_19 : decode cX4_seen 19 = .ok (.ireturn, 1) := dk_172 (dk_at dksX4_seen_0 19 rfl rfl)
theorem dX4_seen_20 : decode cX4_seen 20 = .ok (.iload_n 2, 1) := dk_28 (dk_at dksX4_seen_0 20 rfl rfl)
theorem dX4_seen_21 : decode cX4_seen 21 = .ok (.tableswitch 66 0 3 #[31, 42, 53, 60], 31) := by decide +kernel
theorem dX4_seen_52 : decode cX4_seen 52 = .ok (.aload_n 0, 1) := dk_42 (dk_at dksX4_seen_2 0 rfl rfl)
theorem dX4_seen_53 : decode cX4_seen 53 = .ok (.getfield 64, 3) := dk_180 0 64 (dk_at dksX4_seen_2 1 rfl rfl)
theorem dX4_seen_56 : decode cX4_seen 56 = .ok (.iload_n 1, 1) := dk_27 (dk_at dksX4_seen_2 4 rfl rfl)
theorem dX4_seen_57 : decode cX4_seen 57 = .ok (.iaload, 1) := dk_46 (dk_at dksX4_seen_2 5 rfl rfl)
theorem dX4_seen_58 : decode cX4_seen 58 = .ok (.sipush 10000, 3) := dk_17 39 16 (dk_at dksX4_seen_2 6 rfl rfl)
theorem dX4_seen_61 : decode cX4_seen 61 = .ok (.idiv, 1) := dk_108 (dk_at dksX4_seen_2 9 rfl rfl)
theorem dX4_seen_62 : decode cX4_seen 62 = .ok (.ireturn, 1) := dk_172 (dk_at dksX4_seen_2 10 rfl rfl)
theorem dX4_seen_63 : decode cX4_seen 63 = .ok (.aload_n 0, 1) := dk_42 (dk_at dksX4_seen_2 11 rfl rfl)
theorem dX4_seen_64 : decode cX4_seen 64 = .ok (.getfield 64, 3) := dk_180 0 64 (dk_at dksX4_seen_2 12 rfl rfl)
theorem dX4_seen_67 : decode cX4_seen 67 = .ok (.iload_n 1, 1) := dk_27 (dk_at dksX4_seen_2 15 rfl rfl)
theorem dX4_seen_68 : decode cX4_seen 68 = .ok (.iaload, 1) := dk_46 (dk_at dksX4_seen_2 16 rfl rfl)
theorem dX4_seen_69 : decode cX4_seen 69 = .ok (.sipush 10000, 3) := dk_17 39 16 (dk_at dksX4_seen_2 17 rfl rfl)
theorem dX4_seen_72 : decode cX4_seen 72 = .ok (.irem, 1) := dk_112 (dk_at dksX4_seen_2 20 rfl rfl)
theorem dX4_seen_73 : decode cX4_seen 73 = .ok (.ireturn, 1) := dk_172 (dk_at dksX4_seen_2 21 rfl rfl)
theorem dX4_seen_74 : decode cX4_seen 74 = .ok (.aload_n 0, 1) := dk_42 (dk_at dksX4_seen_2 22 rfl rfl)
theorem dX4_seen_75 : decode cX4_seen 75 = .ok (.getfield 67, 3) := dk_180 0 67 (dk_at dksX4_seen_3 0 rfl rfl)
theorem dX4_seen_78 : decode cX4_seen 78 = .ok (.iload_n 1, 1) := dk_27 (dk_at dksX4_seen_3 3 rfl rfl)
theorem dX4_seen_79 : decode cX4_seen 79 = .ok (.iaload, 1) := dk_46 (dk_at dksX4_seen_3 4 rfl rfl)
theorem dX4_seen_80 : decode cX4_seen 80 = .ok (.ireturn, 1) := dk_172 (dk_at dksX4_seen_3 5 rfl rfl)
theorem dX4_seen_81 : decode cX4_seen 81 = .ok (.aload_n 0, 1) := dk_42 (dk_at dksX4_seen_3 6 rfl rfl)
theorem dX4_seen_82 : decode cX4_seen 82 = .ok (.iload_n 1, 1) := dk_27 (dk_at dksX4_seen_3 7 rfl rfl)
theorem dX4_seen_83 : decode cX4_seen 83 = .ok (.invokevirtual 317, 3) := dk_182 1 61 (dk_at dksX4_seen_3 8 rfl rfl)
theorem dX4_seen_86 : decode cX4_seen 86 = .ok (.ireturn, 1) := dk_172 (dk_at dksX4_seen_3 11 rfl rfl)
theorem dX4_seen_87 : decode cX4_seen 87 = .ok (.ldc_w 291, 3) := dk_19 1 35 (dk_at dksX4_seen_3 12 rfl rfl)
theorem dX4_seen_90 : decode cX4_seen 90 = .ok (.ireturn, 1) := dk_172 (dk_at dksX4_seen_3 15 rfl rfl)
abbrev cX4_offBy : ByteArray := prog_34_method_60_code
def yX4_offBy : MethodName := ⟨RX4, "offBy", "(I)I"⟩
def dkwX4_offBy_1 : List UInt8 := [17, 39, 16, 112, 104, 100, 172]
abbrev dktX4_offBy_1 : List UInt8 := dkwX4_offBy_1 ++ []
def dkwX4_offBy_0 : List UInt8 := [42, 180, 0, 70, 27, 46, 42, 180, 0, 64, 27, 46, 17, 39, 16, 108, 42, 180, 0, 64, 27, 46]
abbrev dktX4_offBy_0 : List UInt8 := dkwX4_offBy_0 ++ dktX4_offBy_1
theorem dksX4_offBy_0 : cX4_offBy.data.toList.drop 0 = dktX4_offBy_0 := by decide +kernel
theorem dksX4_offBy_1 : cX4_offBy.data.toList.drop 22 = dktX4_offBy_1 := dk_seg dksX4_offBy_0 22 rfl rfl
theorem dX4_offBy_0 : decode cX4_offBy 0 = .ok (.aload_n 0, 1) := dk_42 (dk_at dksX4_offBy_0 0 rfl rfl)
theorem dX4_offBy_1 : decode cX4_offBy 1 = .ok (.getfield 70, 3) := dk_180 0 70 (dk_at dksX4_offBy_0 1 rfl rfl)
theorem dX4_offBy_4 : decode cX4_offBy 4 = .ok (.iload_n 1, 1) := dk_27 (dk_at dksX4_offBy_0 4 rfl rfl)
theorem dX4_offBy_5 : decode cX4_offBy 5 = .ok (.iaload, 1) := dk_46 (dk_at dksX4_offBy_0 5 rfl rfl)
theorem dX4_offBy_6 : decode cX4_offBy 6 = .ok (.aload_n 0, 1) := dk_42 (dk_at dksX4_offBy_0 6 rfl rfl)
theorem dX4_offBy_7 : decode cX4_offBy 7 = .ok (.getfield 64, 3) := dk_180 0 64 (dk_at dksX4_offBy_0 7 rfl rfl)
theorem dX4_offBy_10 : decode cX4_offBy 10 = .ok (.iload_n 1, 1) := dk_27 (dk_at dksX4_offBy_0 10 rfl rfl)
theorem dX4_offBy_11 : decode cX4_offBy 11 = .ok (.iaload, 1) := dk_46 (dk_at dksX4_offBy_0 11 rfl rfl)
theorem dX4_offBy_12 : decode cX4_offBy 12 = .ok (.sipush 10000, 3) := dk_17 39 16 (dk_at dksX4_offBy_0 12 rfl rfl)
theorem dX4_offBy_15 : decode cX4_offBy 15 = .ok (.idiv, 1) := dk_108 (dk_at dksX4_offBy_0 15 rfl rfl)
theorem dX4_offBy_16 : decode cX4_offBy 16 = .ok (.aload_n 0, 1) := dk_42 (dk_at dksX4_offBy_0 16 rfl rfl)
theorem dX4_offBy_17 : decode cX4_offBy 17 = .ok (.getfield 64, 3) := dk_180 0 64 (dk_at dksX4_offBy_0 17 rfl rfl)
theorem dX4_offBy_20 : decode cX4_offBy 20 = .ok (.iload_n 1, 1) := dk_27 (dk_at dksX4_offBy_0 20 rfl rfl)
theorem dX4_offBy_21 : decode cX4_offBy 21 = .ok (.iaload, 1) := dk_46 (dk_at dksX4_offBy_0 21 rfl rfl)
theorem dX4_offBy_22 : decode cX4_offBy 22 = .ok (.sipush 10000, 3) := dk_17 39 16 (dk_at dksX4_offBy_1 0 rfl rfl)
theorem dX4_offBy_25 : decode cX4_offBy 25 = .ok (.irem, 1) := dk_112 (dk_at dksX4_offBy_1 3 rfl rfl)
theorem dX4_offBy_26 : decode cX4_offBy 26 = .ok (.imul, 1) := dk_104 (dk_at dksX4_offBy_1 4 rfl rfl)
theorem dX4_offBy_27 : decode cX4_offBy 27 = .ok (.isub, 1) := dk_100 (dk_at dksX4_offBy_1 5 rfl rfl)
theorem dX4_offBy_28 : decode cX4_offBy 28 = .ok (.ireturn, 1) := dk_172 (dk_at dksX4_offBy_1 6 rfl rfl)
abbrev cX4_fits : ByteArray := prog_34_method_65_code
def yX4_fits : MethodName := ⟨RX4, "fits", "(II)I"⟩
def dkwX4_fits_3 : List UInt8 := [167, 255, 224, 29, 172]
abbrev dktX4_fits_3 : List UInt8 := dkwX4_fits_3 ++ []
def dkwX4_fits_2 : List UInt8 := [21, 4, 28, 182, 1, 70, 153, 0, 10, 4, 21, 4, 120, 167, 0, 4, 3, 128, 62, 132, 4, 1]
abbrev dktX4_fits_2 : List UInt8 := dkwX4_fits_2 ++ dktX4_fits_3
def dkwX4_fits_1 : List UInt8 := [180, 1, 50, 154, 0, 6, 16, 251, 172, 3, 62, 3, 54, 4, 21, 4, 16, 7, 162, 0, 31, 29, 42, 27]
abbrev dktX4_fits_1 : List UInt8 := dkwX4_fits_1 ++ dktX4_fits_2
def dkwX4_fits_0 : List UInt8 := [42, 27, 182, 0, 188, 153, 0, 15, 28, 133, 9, 20, 0, 197, 184, 0, 113, 154, 0, 5, 2, 172, 42]
abbrev dktX4_fits_0 : List UInt8 := dkwX4_fits_0 ++ dktX4_fits_1
theorem dksX4_fits_0 : cX4_fits.data.toList.drop 0 = dktX4_fits_0 := by decide +kernel
theorem dksX4_fits_1 : cX4_fits.data.toList.drop 23 = dktX4_fits_1 := dk_seg dksX4_fits_0 23 rfl rfl
theorem dksX4_fits_2 : cX4_fits.data.toList.drop 47 = dktX4_fits_2 := dk_seg dksX4_fits_1 24 rfl rfl
theorem dksX4_fits_3 : cX4_fits.data.toList.drop 69 = dktX4_fits_3 := dk_seg dksX4_fits_2 22 rfl rfl
theorem dX4_fits_0 : decode cX4_fits 0 = .ok (.aload_n 0, 1) := dk_42 (dk_at dksX4_fits_0 0 rfl rfl)
theorem dX4_fits_1 : decode cX4_fits 1 = .ok (.iload_n 1, 1) := dk_27 (dk_at dksX4_fits_0 1 rfl rfl)
theorem dX4_fits_2 : decode cX4_fits 2 = .ok (.invokevirtual 188, 3) := dk_182 0 188 (dk_at dksX4_fits_0 2 rfl rfl)
theorem dX4_fits_5 : decode cX4_fits 5 = .ok (.ifCond .eq 15, 3) := dk_153 0 15 (dk_at dksX4_fits_0 5 rfl rfl)
theorem dX4_fits_8 : decode cX4_fits 8 = .ok (.iload_n 2, 1) := dk_28 (dk_at dksX4_fits_0 8 rfl rfl)
theorem dX4_fits_9 : decode cX4_fits 9 = .ok (.i2l, 1) := dk_133 (dk_at dksX4_fits_0 9 rfl rfl)
theorem dX4_fits_10 : decode cX4_fits 10 = .ok (.lconst 0, 1) := dk_9 (dk_at dksX4_fits_0 10 rfl rfl)
theorem dX4_fits_11 : decode cX4_fits 11 = .ok (.ldc2_w 197, 3) := dk_20 0 197 (dk_at dksX4_fits_0 11 rfl rfl)
theorem dX4_fits_14 : decode cX4_fits 14 = .ok (.invokestatic 113, 3) := dk_184 0 113 (dk_at dksX4_fits_0 14 rfl rfl)
theorem dX4_fits_17 : decode cX4_fits 17 = .ok (.ifCond .ne 5, 3) := dk_154 0 5 (dk_at dksX4_fits_0 17 rfl rfl)
theorem dX4_fits_20 : decode cX4_fits 20 = .ok (.iconst (-1), 1) := dk_2 (dk_at dksX4_fits_0 20 rfl rfl)
theorem dX4_fits_21 : decode cX4_fits 21 = .ok (.ireturn, 1) := dk_172 (dk_at dksX4_fits_0 21 rfl rfl)
theorem dX4_fits_22 : decode cX4_fits 22 = .ok (.aload_n 0, 1) := dk_42 (dk_at dksX4_fits_0 22 rfl rfl)
theorem dX4_fits_23 : decode cX4_fits 23 = .ok (.getfield 306, 3) := dk_180 1 50 (dk_at dksX4_fits_1 0 rfl rfl)
theorem dX4_fits_26 : decode cX4_fits 26 = .ok (.ifCond .ne 6, 3) := dk_154 0 6 (dk_at dksX4_fits_1 3 rfl rfl)
theorem dX4_fits_29 : decode cX4_fits 29 = .ok (.bipush (-5), 2) := dk_16 251 (dk_at dksX4_fits_1 6 rfl rfl)
theorem dX4_fits_31 : decode cX4_fits 31 = .ok (.ireturn, 1) := dk_172 (dk_at dksX4_fits_1 8 rfl rfl)
theorem dX4_fits_32 : decode cX4_fits 32 = .ok (.iconst 0, 1) := dk_3 (dk_at dksX4_fits_1 9 rfl rfl)
theorem dX4_fits_33 : decode cX4_fits 33 = .ok (.istore_n 3, 1) := dk_62 (dk_at dksX4_fits_1 10 rfl rfl)
theorem dX4_fits_34 : decode cX4_fits 34 = .ok (.iconst 0, 1) := dk_3 (dk_at dksX4_fits_1 11 rfl rfl)
theorem dX4_fits_35 : decode cX4_fits 35 = .ok (.istore 4, 2) := dk_54 4 (dk_at dksX4_fits_1 12 rfl rfl)
theorem dX4_fits_37 : decode cX4_fits 37 = .ok (.iload 4, 2) := dk_21 4 (dk_at dksX4_fits_1 14 rfl rfl)
theorem dX4_fits_39 : decode cX4_fits 39 = .ok (.bipush 7, 2) := dk_16 7 (dk_at dksX4_fits_1 16 rfl rfl)
theorem dX4_fits_41 : decode cX4_fits 41 = .ok (.if_icmp .ge 31, 3) := dk_162 0 31 (dk_at dksX4_fits_1 18 rfl rfl)
theorem dX4_fits_44 : decode cX4_fits 44 = .ok (.iload_n 3, 1) := dk_29 (dk_at dksX4_fits_1 21 rfl rfl)
theorem dX4_fits_45 : decode cX4_fits 45 = .ok (.aload_n 0, 1) := dk_42 (dk_at dksX4_fits_1 22 rfl rfl)
theorem dX4_fits_46 : decode cX4_fits 46 = .ok (.iload_n 1, 1) := dk_27 (dk_at dksX4_fits_1 23 rfl rfl)
theorem dX4_fits_47 : decode cX4_fits 47 = .ok (.iload 4, 2) := dk_21 4 (dk_at dksX4_fits_2 0 rfl rfl)
theorem dX4_fits_49 : decode cX4_fits 49 = .ok (.iload_n 2, 1) := dk_28 (dk_at dksX4_fits_2 2 rfl rfl)
theorem dX4_fits_50 : decode cX4_fits 50 = .ok (.invokevirtual 326, 3) := dk_182 1 70 (dk_at dksX4_fits_2 3 rfl rfl)
theorem dX4_fits_53 : decode cX4_fits 53 = .ok (.ifCond .eq 10, 3) := dk_153 0 10 (dk_at dksX4_fits_2 6 rfl rfl)
theorem dX4_fits_56 : decode cX4_fits 56 = .ok (.iconst 1, 1) := dk_4 (dk_at dksX4_fits_2 9 rfl rfl)
theorem dX4_fits_57 : decode cX4_fits 57 = .ok (.iload 4, 2) := dk_21 4 (dk_at dksX4_fits_2 10 rfl rfl)
theorem dX4_fits_59 : decode cX4_fits 59 = .ok (.ishl, 1) := dk_120 (dk_at dksX4_fits_2 12 rfl rfl)
theorem dX4_fits_60 : decode cX4_fits 60 = .ok (.goto 4, 3) := dk_167 0 4 (dk_at dksX4_fits_2 13 rfl rfl)
theorem dX4_fits_63 : decode cX4_fits 63 = .ok (.iconst 0, 1) := dk_3 (dk_at dksX4_fits_2 16 rfl rfl)
theorem dX4_fits_64 : decode cX4_fits 64 = .ok (.ior, 1) := dk_128 (dk_at dksX4_fits_2 17 rfl rfl)
theorem dX4_fits_65 : decode cX4_fits 65 = .ok (.istore_n 3, 1) := dk_62 (dk_at dksX4_fits_2 18 rfl rfl)
theorem dX4_fits_66 : decode cX4_fits 66 = .ok (.iinc 4 1, 3) := dk_132 4 1 (dk_at dksX4_fits_2 19 rfl rfl)
theorem dX4_fits_69 : decode cX4_fits 69 = .ok (.goto (-32), 3) := dk_167 255 224 (dk_at dksX4_fits_3 0 rfl rfl)
theorem dX4_fits_72 : decode cX4_fits 72 = .ok (.iload_n 3, 1) := dk_29 (dk_at dksX4_fits_3 3 rfl rfl)
theorem dX4_fits_73 : decode cX4_fits 73 = .ok (.ireturn, 1) := dk_172 (dk_at dksX4_fits_3 4 rfl rfl)
abbrev cX4_doesFit : ByteArray := prog_34_method_64_code
def yX4_doesFit : MethodName := ⟨RX4, "doesFit", "(III)Z"⟩
def dkwX4_doesFit_3 : List UInt8 := [154, 0, 5, 3, 172, 132, 4, 1, 167, 255, 182, 4, 172]
abbrev dktX4_doesFit_3 : List UInt8 := dkwX4_doesFit_3 ++ []
def dkwX4_doesFit_2 : List UInt8 := [164, 0, 5, 3, 172, 42, 21, 4, 182, 1, 61, 153, 0, 18, 42, 42, 21, 4, 182, 1, 61, 182, 1, 67]
abbrev dktX4_doesFit_2 : List UInt8 := dkwX4_doesFit_2 ++ dktX4_doesFit_3
def dkwX4_doesFit_1 : List UInt8 := [182, 1, 23, 153, 0, 22, 42, 182, 1, 27, 42, 180, 0, 67, 21, 4, 46, 100, 184, 0, 250, 29]
abbrev dktX4_doesFit_1 : List UInt8 := dkwX4_doesFit_1 ++ dktX4_doesFit_2
def dkwX4_doesFit_0 : List UInt8 := [3, 54, 4, 21, 4, 42, 180, 1, 50, 162, 0, 71, 42, 27, 28, 42, 180, 0, 64, 21, 4, 46, 3]
abbrev dktX4_doesFit_0 : List UInt8 := dkwX4_doesFit_0 ++ dktX4_doesFit_1
theorem dksX4_doesFit_0 : cX4_doesFit.data.toList.drop 0 = dktX4_doesFit_0 := by decide +kernel
theorem dksX4_doesFit_1 : cX4_doesFit.data.toList.drop 23 = dktX4_doesFit_1 := dk_seg dksX4_doesFit_0 23 rfl rfl
theorem dksX4_doesFit_2 : cX4_doesFit.data.toList.drop 45 = dktX4_doesFit_2 := dk_seg dksX4_doesFit_1 22 rfl rfl
theorem dksX4_doesFit_3 : cX4_doesFit.data.toList.drop 69 = dktX4_doesFit_3 := dk_seg dksX4_doesFit_2 24 rfl rfl
theorem dX4_doesFit_0 : decode cX4_doesFit 0 = .ok (.iconst 0, 1) := dk_3 (dk_at dksX4_doesFit_0 0 rfl rfl)
theorem dX4_doesFit_1 : decode cX4_doesFit 1 = .ok (.istore 4, 2) := dk_54 4 (dk_at dksX4_doesFit_0 1 rfl rfl)
theorem dX4_doesFit_3 : decode cX4_doesFit 3 = .ok (.iload 4, 2) := dk_21 4 (dk_at dksX4_doesFit_0 3 rfl rfl)
theorem dX4_doesFit_5 : decode cX4_doesFit 5 = .ok (.aload_n 0, 1) := dk_42 (dk_at dksX4_doesFit_0 5 rfl rfl)
theorem dX4_doesFit_6 : decode cX4_doesFit 6 = .ok (.getfield 306, 3) := dk_180 1 50 (dk_at dksX4_doesFit_0 6 rfl rfl)
theorem dX4_doesFit_9 : decode cX4_doesFit 9 = .ok (.if_icmp .ge 71, 3) := dk_162 0 71 (dk_at dksX4_doesFit_0 9 rfl rfl)
theorem dX4_doesFit_12 : decode cX4_doesFit 12 = .ok (.aload_n 0, 1) := dk_42 (dk_at dksX4_doesFit_0 12 rfl rfl)
theorem dX4_doesFit_13 : decode cX4_doesFit 13 = .ok (.iload_n 1, 1) := dk_27 (dk_at dksX4_doesFit_0 13 rfl rfl)
theorem dX4_doesFit_14 : decode cX4_doesFit 14 = .ok (.iload_n 2, 1) := dk_28 (dk_at dksX4_doesFit_0 14 rfl rfl)
theorem dX4_doesFit_15 : decode cX4_doesFit 15 = .ok (.aload_n 0, 1) := dk_42 (dk_at dksX4_doesFit_0 15 rfl rfl)
theorem dX4_doesFit_16 : decode cX4_doesFit 16 = .ok (.getfield 64, 3) := dk_180 0 64 (dk_at dksX4_doesFit_0 16 rfl rfl)
theorem dX4_doesFit_19 : decode cX4_doesFit 19 = .ok (.iload 4, 2) := dk_21 4 (dk_at dksX4_doesFit_0 19 rfl rfl)
theorem dX4_doesFit_21 : decode cX4_doesFit 21 = .ok (.iaload, 1) := dk_46 (dk_at dksX4_doesFit_0 21 rfl rfl)
theorem dX4_doesFit_22 : decode cX4_doesFit 22 = .ok (.iconst 0, 1) := dk_3 (dk_at dksX4_doesFit_0 22 rfl rfl)
theorem dX4_doesFit_23 : decode cX4_doesFit 23 = .ok (.invokevirtual 279, 3) := dk_182 1 23 (dk_at dksX4_doesFit_1 0 rfl rfl)
theorem dX4_doesFit_26 : decode cX4_doesFit 26 = .ok (.ifCond .eq 22, 3) := dk_153 0 22 (dk_at dksX4_doesFit_1 3 rfl rfl)
theorem dX4_doesFit_29 : decode cX4_doesFit 29 = .ok (.aload_n 0, 1) := dk_42 (dk_at dksX4_doesFit_1 6 rfl rfl)
theorem dX4_doesFit_30 : decode cX4_doesFit 30 = .ok (.invokevirtual 283, 3) := dk_182 1 27 (dk_at dksX4_doesFit_1 7 rfl rfl)
theorem dX4_doesFit_33 : decode cX4_doesFit 33 = .ok (.aload_n 0, 1) := dk_42 (dk_at dksX4_doesFit_1 10 rfl rfl)
theorem dX4_doesFit_34 : decode cX4_doesFit 34 = .ok (.getfield 67, 3) := dk_180 0 67 (dk_at dksX4_doesFit_1 11 rfl rfl)
theorem dX4_doesFit_37 : decode cX4_doesFit 37 = .ok (.iload 4, 2) := dk_21 4 (dk_at dksX4_doesFit_1 14 rfl rfl)
theorem dX4_doesFit_39 : decode cX4_doesFit 39 = .ok (.iaload, 1) := dk_46 (dk_at dksX4_doesFit_1 16 rfl rfl)
theorem dX4_doesFit_40 : decode cX4_doesFit 40 = .ok (.isub, 1) := dk_100 (dk_at dksX4_doesFit_1 17 rfl rfl)
theorem dX4_doesFit_41 : decode cX4_doesFit 41 = .ok (.invokestatic 250, 3) := dk_184 0 250 (dk_at dksX4_doesFit_1 18 rfl rfl)
theorem dX4_doesFit_44 : decode cX4_doesFit 44 = .ok (.iload_n 3, 1) := dk_29 (dk_at dksX4_doesFit_1 21 rfl rfl)
theorem dX4_doesFit_45 : decode cX4_doesFit 45 = .ok (.if_icmp .le 5, 3) := dk_164 0 5 (dk_at dksX4_doesFit_2 0 rfl rfl)
theorem dX4_doesFit_48 : decode cX4_doesFit 48 = .ok (.iconst 0, 1) := dk_3 (dk_at dksX4_doesFit_2 3 rfl rfl)
theorem dX4_doesFit_49 : decode cX4_doesFit 49 = .ok (.ireturn, 1) := dk_172 (dk_at dksX4_doesFit_2 4 rfl rfl)
theorem dX4_doesFit_50 : decode cX4_doesFit 50 = .ok (.aload_n 0, 1) := dk_42 (dk_at dksX4_doesFit_2 5 rfl rfl)
theorem dX4_doesFit_51 : decode cX4_doesFit 51 = .ok (.iload 4, 2) := dk_21 4 (dk_at dksX4_doesFit_2 6 rfl rfl)
theorem dX4_doesFit_53 : decode cX4_doesFit 53 = .ok (.invokevirtual 317, 3) := dk_182 1 61 (dk_at dksX4_doesFit_2 8 rfl rfl)
theorem dX4_doesFit_56 : decode cX4_doesFit 56 = .ok (.ifCond .eq 18, 3) := dk_153 0 18 (dk_at dksX4_doesFit_2 11 rfl rfl)
theorem dX4_doesFit_59 : decode cX4_doesFit 59 = .ok (.aload_n 0, 1) := dk_42 (dk_at dksX4_doesFit_2 14 rfl rfl)
theorem dX4_doesFit_60 : decode cX4_doesFit 60 = .ok (.aload_n 0, 1) := dk_42 (dk_at dksX4_doesFit_2 15 rfl rfl)
theorem dX4_doesFit_61 : decode cX4_doesFit 61 = .ok (.iload 4, 2) := dk_21 4 (dk_at dksX4_doesFit_2 16 rfl rfl)
theorem dX4_doesFit_63 : decode cX4_doesFit 63 = .ok (.invokevirtual 317, 3) := dk_182 1 61 (dk_at dksX4_doesFit_2 18 rfl rfl)
theorem dX4_doesFit_66 : decode cX4_doesFit 66 = .ok (.invokevirtual 323, 3) := dk_182 1 67 (dk_at dksX4_doesFit_2 21 rfl rfl)
theorem dX4_doesFit_69 : decode cX4_doesFit 69 = .ok (.ifCond .ne 5, 3) := dk_154 0 5 (dk_at dksX4_doesFit_3 0 rfl rfl)
theorem dX4_doesFit_72 : decode cX4_doesFit 72 = .ok (.iconst 0, 1) := dk_3 (dk_at dksX4_doesFit_3 3 rfl rfl)
theorem dX4_doesFit_73 : decode cX4_doesFit 73 = .ok (.ireturn, 1) := dk_172 (dk_at dksX4_doesFit_3 4 rfl rfl)
theorem dX4_doesFit_74 : decode cX4_doesFit 74 = .ok (.iinc 4 1, 3) := dk_132 4 1 (dk_at dksX4_doesFit_3 5 rfl rfl)
theorem dX4_doesFit_77 : decode cX4_doesFit 77 = .ok (.goto (-74), 3) := dk_167 255 182 (dk_at dksX4_doesFit_3 8 rfl rfl)
theorem dX4_doesFit_80 : decode cX4_doesFit 80 = .ok (.iconst 1, 1) := dk_4 (dk_at dksX4_doesFit_3 11 rfl rfl)
theorem dX4_doesFit_81 : decode cX4_doesFit 81 = .ok (.ireturn, 1) := dk_172 (dk_at dksX4_doesFit_3 12 rfl rfl)
abbrev cX4_slipsOf : ByteArray := prog_34_method_63_code
def yX4_slipsOf : MethodName := ⟨RX4, "slipsOf", "(I)I"⟩
def dkwX4_slipsOf_1 : List UInt8 := [167, 0, 4, 3, 96, 61, 132, 3, 1, 167, 255, 228, 28, 172]
abbrev dktX4_slipsOf_1 : List UInt8 := dkwX4_slipsOf_1 ++ []
def dkwX4_slipsOf_0 : List UInt8 := [3, 61, 3, 62, 29, 42, 180, 0, 214, 162, 0, 26, 28, 42, 29, 27, 182, 1, 64, 153, 0, 7, 4]
abbrev dktX4_slipsOf_0 : List UInt8 := dkwX4_slipsOf_0 ++ dktX4_slipsOf_1
theorem dksX4_slipsOf_0 : cX4_slipsOf.data.toList.drop 0 = dktX4_slipsOf_0 := by decide +kernel
theorem dksX4_slipsOf_1 : cX4_slipsOf.data.toList.drop 23 = dktX4_slipsOf_1 := dk_seg dksX4_slipsOf_0 23 rfl rfl
theorem dX4_slipsOf_0 : decode cX4_slipsOf 0 = .ok (.iconst 0, 1) := dk_3 (dk_at dksX4_slipsOf_0 0 rfl rfl)
theorem dX4_slipsOf_1 : decode cX4_slipsOf 1 = .ok (.istore_n 2, 1) := dk_61 (dk_at dksX4_slipsOf_0 1 rfl rfl)
theorem dX4_slipsOf_2 : decode cX4_slipsOf 2 = .ok (.iconst 0, 1) := dk_3 (dk_at dksX4_slipsOf_0 2 rfl rfl)
theorem dX4_slipsOf_3 : decode cX4_slipsOf 3 = .ok (.istore_n 3, 1) := dk_62 (dk_at dksX4_slipsOf_0 3 rfl rfl)
theorem dX4_slipsOf_4 : decode cX4_slipsOf 4 = .ok (.iload_n 3, 1) := dk_29 (dk_at dksX4_slipsOf_0 4 rfl rfl)
theorem dX4_slipsOf_5 : decode cX4_slipsOf 5 = .ok (.aload_n 0, 1) := dk_42 (dk_at dksX4_slipsOf_0 5 rfl rfl)
theorem dX4_slipsOf_6 : decode cX4_slipsOf 6 = .ok (.getfield 214, 3) := dk_180 0 214 (dk_at dksX4_slipsOf_0 6 rfl rfl)
theorem dX4_slipsOf_9 : decode cX4_slipsOf 9 = .ok (.if_icmp .ge 26, 3) := dk_162 0 26 (dk_at dksX4_slipsOf_0 9 rfl rfl)
theorem dX4_slipsOf_12 : decode cX4_slipsOf 12 = .ok (.iload_n 2, 1) := dk_28 (dk_at dksX4_slipsOf_0 12 rfl rfl)
theorem dX4_slipsOf_13 : decode cX4_slipsOf 13 = .ok (.aload_n 0, 1) := dk_42 (dk_at dksX4_slipsOf_0 13 rfl rfl)
theorem dX4_slipsOf_14 : decode cX4_slipsOf 14 = .ok (.iload_n 3, 1) := dk_29 (dk_at dksX4_slipsOf_0 14 rfl rfl)
theorem dX4_slipsOf_15 : decode cX4_slipsOf 15 = .ok (.iload_n 1, 1) := dk_27 (dk_at dksX4_slipsOf_0 15 rfl rfl)
theorem dX4_slipsOf_16 : decode cX4_slipsOf 16 = .ok (.invokevirtual 320, 3) := dk_182 1 64 (dk_at dksX4_slipsOf_0 16 rfl rfl)
theorem dX4_slipsOf_19 : decode cX4_slipsOf 19 = .ok (.ifCond .eq 7, 3) := dk_153 0 7 (dk_at dksX4_slipsOf_0 19 rfl rfl)
theorem dX4_slipsOf_22 : decode cX4_slipsOf 22 = .ok (.iconst 1, 1) := dk_4 (dk_at dksX4_slipsOf_0 22 rfl rfl)
theorem dX4_slipsOf_23 : decode cX4_slipsOf 23 = .ok (.goto 4, 3) := dk_167 0 4 (dk_at dksX4_slipsOf_1 0 rfl rfl)
theorem dX4_slipsOf_26 : decode cX4_slipsOf 26 = .ok (.iconst 0, 1) := dk_3 (dk_at dksX4_slipsOf_1 3 rfl rfl)
theorem dX4_slipsOf_27 : decode cX4_slipsOf 27 = .ok (.iadd, 1) := dk_96 (dk_at dksX4_slipsOf_1 4 rfl rfl)
theorem dX4_slipsOf_28 : decode cX4_slipsOf 28 = .ok (.istore_n 2, 1) := dk_61 (dk_at dksX4_slipsOf_1 5 rfl rfl)
theorem dX4_slipsOf_29 : decode cX4_slipsOf 29 = .ok (.iinc 3 1, 3) := dk_132 3 1 (dk_at dksX4_slipsOf_1 6 rfl rfl)
theorem dX4_slipsOf_32 : decode cX4_slipsOf 32 = .ok (.goto (-28), 3) := dk_167 255 228 (dk_at dksX4_slipsOf_1 9 rfl rfl)
theorem dX4_slipsOf_35 : decode cX4_slipsOf 35 = .ok (.iload_n 2, 1) := dk_28 (dk_at dksX4_slipsOf_1 12 rfl rfl)
theorem dX4_slipsOf_36 : decode cX4_slipsOf 36 = .ok (.ireturn, 1) := dk_172 (dk_at dksX4_slipsOf_1 13 rfl rfl)
abbrev cX4_canSlip : ByteArray := prog_34_method_62_code
def yX4_canSlip : MethodName := ⟨RX4, "canSlip", "(II)Z"⟩
def dkwX4_canSlip_3 : List UInt8 := [46, 184, 0, 233, 104, 160, 0, 5, 4, 172, 132, 3, 1, 167, 255, 209, 3, 172]
abbrev dktX4_canSlip_3 : List UInt8 := dkwX4_canSlip_3 ++ []
def dkwX4_canSlip_2 : List UInt8 := [162, 0, 40, 42, 180, 0, 43, 27, 46, 4, 160, 0, 30, 28, 29, 184, 0, 233, 116, 42, 180, 0, 58, 27]
abbrev dktX4_canSlip_2 : List UInt8 := dkwX4_canSlip_2 ++ dktX4_canSlip_3
def dkwX4_canSlip_1 : List UInt8 := [27, 46, 116, 160, 0, 7, 4, 167, 0, 4, 3, 172, 3, 62, 29, 42, 180, 0, 46, 27, 46, 184, 0, 220]
abbrev dktX4_canSlip_1 : List UInt8 := dkwX4_canSlip_1 ++ dktX4_canSlip_2
def dkwX4_canSlip_0 : List UInt8 := [42, 180, 0, 43, 27, 46, 154, 0, 30, 28, 42, 180, 0, 55, 27, 46, 159, 0, 14, 28, 42, 180, 0, 55]
abbrev dktX4_canSlip_0 : List UInt8 := dkwX4_canSlip_0 ++ dktX4_canSlip_1
theorem dksX4_canSlip_0 : cX4_canSlip.data.toList.drop 0 = dktX4_canSlip_0 := by decide +kernel
theorem dksX4_canSlip_1 : cX4_canSlip.data.toList.drop 24 = dktX4_canSlip_1 := dk_seg dksX4_canSlip_0 24 rfl rfl
theorem dksX4_canSlip_2 : cX4_canSlip.data.toList.drop 48 = dktX4_canSlip_2 := dk_seg dksX4_canSlip_1 24 rfl rfl
theorem dksX4_canSlip_3 : cX4_canSlip.data.toList.drop 72 = dktX4_canSlip_3 := dk_seg dksX4_canSlip_2 24 rfl rfl
theorem dX4_canSlip_0 : decode cX4_canSlip 0 = .ok (.aload_n 0, 1) := dk_42 (dk_at dksX4_canSlip_0 0 rfl rfl)
theorem dX4_canSlip_1 : decode cX4_canSlip 1 = .ok (.getfield 43, 3) := dk_180 0 43 (dk_at dksX4_canSlip_0 1 rfl rfl)
theorem dX4_canSlip_4 : decode cX4_canSlip 4 = .ok (.iload_n 1, 1) := dk_27 (dk_at dksX4_canSlip_0 4 rfl rfl)
theorem dX4_canSlip_5 : decode cX4_canSlip 5 = .ok (.iaload, 1) := dk_46 (dk_at dksX4_canSlip_0 5 rfl rfl)
theorem dX4_canSlip_6 : decode cX4_canSlip 6 = .ok (.ifCond .ne 30, 3) := dk_154 0 30 (dk_at dksX4_canSlip_0 6 rfl rfl)
theorem dX4_canSlip_9 : decode cX4_canSlip 9 = .ok (.iload_n 2, 1) := dk_28 (dk_at dksX4_canSlip_0 9 rfl rfl)
theorem dX4_canSlip_10 : decode cX4_canSlip 10 = .ok (.aload_n 0, 1) := dk_42 (dk_at dksX4_canSlip_0 10 rfl rfl)
theorem dX4_canSlip_11 : decode cX4_canSlip 11 = .ok (.getfield 55, 3) := dk_180 0 55 (dk_at dksX4_canSlip_0 11 rfl rfl)
theorem dX4_canSlip_14 : decode cX4_canSlip 14 = .ok (.iload_n 1, 1) := dk_27 (dk_at dksX4_canSlip_0 14 rfl rfl)
theorem dX4_canSlip_15 : decode cX4_canSlip 15 = .ok (.iaload, 1) := dk_46 (dk_at dksX4_canSlip_0 15 rfl rfl)
theorem dX4_canSlip_16 : decode cX4_canSlip 16 = .ok (.if_icmp .eq 14, 3) := dk_159 0 14 (dk_at dksX4_canSlip_0 16 rfl rfl)
theorem dX4_canSlip_19 : decode cX4_canSlip 19 = .ok (.iload_n 2, 1) := dk_28 (dk_at dksX4_canSlip_0 19 rfl rfl)
theorem dX4_canSlip_20 : decode cX4_canSlip 20 = .ok (.aload_n 0, 1) := dk_42 (dk_at dksX4_canSlip_0 20 rfl rfl)
theorem dX4_canSlip_21 : decode cX4_canSlip 21 = .ok (.getfield 55, 3) := dk_180 0 55 (dk_at dksX4_canSlip_0 21 rfl rfl)
theorem dX4_canSlip_24 : decode cX4_canSlip 24 = .ok (.iload_n 1, 1) := dk_27 (dk_at dksX4_canSlip_1 0 rfl rfl)
theorem dX4_canSlip_25 : decode cX4_canSlip 25 = .ok (.iaload, 1) := dk_46 (dk_at dksX4_canSlip_1 1 rfl rfl)
theorem dX4_canSlip_26 : decode cX4_canSlip 26 = .ok (.ineg, 1) := dk_116 (dk_at dksX4_canSlip_1 2 rfl rfl)
theorem dX4_canSlip_27 : decode cX4_canSlip 27 = .ok (.if_icmp .ne 7, 3) := dk_160 0 7 (dk_at dksX4_canSlip_1 3 rfl rfl)
theorem dX4_canSlip_30 : decode cX4_canSlip 30 = .ok (.iconst 1, 1) := dk_4 (dk_at dksX4_canSlip_1 6 rfl rfl)
theorem dX4_canSlip_31 : decode cX4_canSlip 31 = .ok (.goto 4, 3) := dk_167 0 4 (dk_at dksX4_canSlip_1 7 rfl rfl)
theorem dX4_canSlip_34 : decode cX4_canSlip 34 = .ok (.iconst 0, 1) := dk_3 (dk_at dksX4_canSlip_1 10 rfl rfl)
theorem dX4_canSlip_35 : decode cX4_canSlip 35 = .ok (.ireturn, 1) := dk_172 (dk_at dksX4_canSlip_1 11 rfl rfl)
theorem dX4_canSlip_36 : decode cX4_canSlip 36 = .ok (.iconst 0, 1) := dk_3 (dk_at dksX4_canSlip_1 12 rfl rfl)
theorem dX4_canSlip_37 : decode cX4_canSlip 37 = .ok (.istore_n 3, 1) := dk_62 (dk_at dksX4_canSlip_1 13 rfl rfl)
theorem dX4_canSlip_38 : decode cX4_canSlip 38 = .ok (.iload_n 3, 1) := dk_29 (dk_at dksX4_canSlip_1 14 rfl rfl)
theorem dX4_canSlip_39 : decode cX4_canSlip 39 = .ok (.aload_n 0, 1) := dk_42 (dk_at dksX4_canSlip_1 15 rfl rfl)
theorem dX4_canSlip_40 : decode cX4_canSlip 40 = .ok (.getfield 46, 3) := dk_180 0 46 (dk_at dksX4_canSlip_1 16 rfl rfl)
theorem dX4_canSlip_43 : decode cX4_canSlip 43 = .ok (.iload_n 1, 1) := dk_27 (dk_at dksX4_canSlip_1 19 rfl rfl)
theorem dX4_canSlip_44 : decode cX4_canSlip 44 = .ok (.iaload, 1) := dk_46 (dk_at dksX4_canSlip_1 20 rfl rfl)
theorem dX4_canSlip_45 : decode cX4_canSlip 45 = .ok (.invokestatic 220, 3) := dk_184 0 220 (dk_at dksX4_canSlip_1 21 rfl rfl)
theorem dX4_canSlip_48 : decode cX4_canSlip 48 = .ok (.if_icmp .ge 40, 3) := dk_162 0 40 (dk_at dksX4_canSlip_2 0 rfl rfl)
theorem dX4_canSlip_51 : decode cX4_canSlip 51 = .ok (.aload_n 0, 1) := dk_42 (dk_at dksX4_canSlip_2 3 rfl rfl)
theorem dX4_canSlip_52 : decode cX4_canSlip 52 = .ok (.getfield 43, 3) := dk_180 0 43 (dk_at dksX4_canSlip_2 4 rfl rfl)
theorem dX4_canSlip_55 : decode cX4_canSlip 55 = .ok (.iload_n 1, 1) := dk_27 (dk_at dksX4_canSlip_2 7 rfl rfl)
theorem dX4_canSlip_56 : decode cX4_canSlip 56 = .ok (.iaload, 1) := dk_46 (dk_at dksX4_canSlip_2 8 rfl rfl)
theorem dX4_canSlip_57 : decode cX4_canSlip 57 = .ok (.iconst 1, 1) := dk_4 (dk_at dksX4_canSlip_2 9 rfl rfl)
theorem dX4_canSlip_58 : decode cX4_canSlip 58 = .ok (.if_icmp .ne 30, 3) := dk_160 0 30 (dk_at dksX4_canSlip_2 10 rfl rfl)
theorem dX4_canSlip_61 : decode cX4_canSlip 61 = .ok (.iload_n 2, 1) := dk_28 (dk_at dksX4_canSlip_2 13 rfl rfl)
theorem dX4_canSlip_62 : decode cX4_canSlip 62 = .ok (.iload_n 3, 1) := dk_29 (dk_at dksX4_canSlip_2 14 rfl rfl)
theorem dX4_canSlip_63 : decode cX4_canSlip 63 = .ok (.invokestatic 233, 3) := dk_184 0 233 (dk_at dksX4_canSlip_2 15 rfl rfl)
theorem dX4_canSlip_66 : decode cX4_canSlip 66 = .ok (.ineg, 1) := dk_116 (dk_at dksX4_canSlip_2 18 rfl rfl)
theorem dX4_canSlip_67 : decode cX4_canSlip 67 = .ok (.aload_n 0, 1) := dk_42 (dk_at dksX4_canSlip_2 19 rfl rfl)
theorem dX4_canSlip_68 : decode cX4_canSlip 68 = .ok (.getfield 58, 3) := dk_180 0 58 (dk_at dksX4_canSlip_2 20 rfl rfl)
theorem dX4_canSlip_71 : decode cX4_canSlip 71 = .ok (.iload_n 1, 1) := dk_27 (dk_at dksX4_canSlip_2 23 rfl rfl)
theorem dX4_canSlip_72 : decode cX4_canSlip 72 = .ok (.iaload, 1) := dk_46 (dk_at dksX4_canSlip_3 0 rfl rfl)
theorem dX4_canSlip_73 : decode cX4_canSlip 73 = .ok (.invokestatic 233, 3) := dk_184 0 233 (dk_at dksX4_canSlip_3 1 rfl rfl)
theorem dX4_canSlip_76 : decode cX4_canSlip 76 = .ok (.imul, 1) := dk_104 (dk_at dksX4_canSlip_3 4 rfl rfl)
theorem dX4_canSlip_77 : decode cX4_canSlip 77 = .ok (.if_icmp .ne 5, 3) := dk_160 0 5 (dk_at dksX4_canSlip_3 5 rfl rfl)
theorem dX4_canSlip_80 : decode cX4_canSlip 80 = .ok (.iconst 1, 1) := dk_4 (dk_at dksX4_canSlip_3 8 rfl rfl)
theorem dX4_canSlip_81 : decode cX4_canSlip 81 = .ok (.ireturn, 1) := dk_172 (dk_at dksX4_canSlip_3 9 rfl rfl)
theorem dX4_canSlip_82 : decode cX4_canSlip 82 = .ok (.iinc 3 1, 3) := dk_132 3 1 (dk_at dksX4_canSlip_3 10 rfl rfl)
theorem dX4_canSlip_85 : decode cX4_canSlip 85 = .ok (.goto (-47), 3) := dk_167 255 209 (dk_at dksX4_canSlip_3 13 rfl rfl)
theorem dX4_canSlip_88 : decode cX4_canSlip 88 = .ok (.iconst 0, 1) := dk_3 (dk_at dksX4_canSlip_3 16 rfl rfl)
theorem dX4_canSlip_89 : decode cX4_canSlip 89 = .ok (.ireturn, 1) := dk_172 (dk_at dksX4_canSlip_3 17 rfl rfl)
abbrev cX4_best : ByteArray := prog_34_method_67_code
def yX4_best : MethodName := ⟨RX4, "best", "(II)I"⟩
def dkwX4_best_3 : List UInt8 := [21, 5, 62, 21, 6, 54, 4, 132, 5, 1, 167, 255, 214, 28, 154, 0, 7, 29, 167, 0, 5, 21, 4, 172]
abbrev dktX4_best_3 : List UInt8 := dkwX4_best_3 ++ []
def dkwX4_best_2 : List UInt8 := [21, 5, 182, 1, 74, 54, 6, 21, 6, 155, 0, 21, 29, 155, 0, 10, 21, 6, 21, 4, 162, 0, 10]
abbrev dktX4_best_2 : List UInt8 := dkwX4_best_2 ++ dktX4_best_3
def dkwX4_best_1 : List UInt8 := [154, 0, 6, 16, 251, 172, 2, 62, 3, 54, 4, 3, 54, 5, 21, 5, 16, 7, 163, 0, 41, 42, 27]
abbrev dktX4_best_1 : List UInt8 := dkwX4_best_1 ++ dktX4_best_2
def dkwX4_best_0 : List UInt8 := [42, 27, 182, 0, 188, 153, 0, 13, 28, 133, 9, 10, 184, 0, 113, 154, 0, 5, 2, 172, 42, 180, 1, 50]
abbrev dktX4_best_0 : List UInt8 := dkwX4_best_0 ++ dktX4_best_1
theorem dksX4_best_0 : cX4_best.data.toList.drop 0 = dktX4_best_0 := by decide +kernel
theorem dksX4_best_1 : cX4_best.data.toList.drop 24 = dktX4_best_1 := dk_seg dksX4_best_0 24 rfl rfl
theorem dksX4_best_2 : cX4_best.data.toList.drop 47 = dktX4_best_2 := dk_seg dksX4_best_1 23 rfl rfl
theorem dksX4_best_3 : cX4_best.data.toList.drop 70 = dktX4_best_3 := dk_seg dksX4_best_2 23 rfl rfl
theorem dX4_best_0 : decode cX4_best 0 = .ok (.aload_n 0, 1) := dk_42 (dk_at dksX4_best_0 0 rfl rfl)
theorem dX4_best_1 : decode cX4_best 1 = .ok (.iload_n 1, 1) := dk_27 (dk_at dksX4_best_0 1 rfl rfl)
theorem dX4_best_2 : decode cX4_best 2 = .ok (.invokevirtual 188, 3) := dk_182 0 188 (dk_at dksX4_best_0 2 rfl rfl)
theorem dX4_best_5 : decode cX4_best 5 = .ok (.ifCond .eq 13, 3) := dk_153 0 13 (dk_at dksX4_best_0 5 rfl rfl)
theorem dX4_best_8 : decode cX4_best 8 = .ok (.iload_n 2, 1) := dk_28 (dk_at dksX4_best_0 8 rfl rfl)
theorem dX4_best_9 : decode cX4_best 9 = .ok (.i2l, 1) := dk_133 (dk_at dksX4_best_0 9 rfl rfl)
theorem dX4_best_10 : decode cX4_best 10 = .ok (.lconst 0, 1) := dk_9 (dk_at dksX4_best_0 10 rfl rfl)
theorem dX4_best_11 : decode cX4_best 11 = .ok (.lconst 1, 1) := dk_10 (dk_at dksX4_best_0 11 rfl rfl)
theorem dX4_best_12 : decode cX4_best 12 = .ok (.invokestatic 113, 3) := dk_184 0 113 (dk_at dksX4_best_0 12 rfl rfl)
theorem dX4_best_15 : decode cX4_best 15 = .ok (.ifCond .ne 5, 3) := dk_154 0 5 (dk_at dksX4_best_0 15 rfl rfl)
theorem dX4_best_18 : decode cX4_best 18 = .ok (.iconst (-1), 1) := dk_2 (dk_at dksX4_best_0 18 rfl rfl)
theorem dX4_best_19 : decode cX4_best 19 = .ok (.ireturn, 1) := dk_172 (dk_at dksX4_best_0 19 rfl rfl)
theorem dX4_best_20 : decode cX4_best 20 = .ok (.aload_n 0, 1) := dk_42 (dk_at dksX4_best_0 20 rfl rfl)
theorem dX4_best_21 : decode cX4_best 21 = .ok (.getfield 306, 3) := dk_180 1 50 (dk_at dksX4_best_0 21 rfl rfl)
theorem dX4_best_24 : decode cX4_best 24 = .ok (.ifCond .ne 6, 3) := dk_154 0 6 (dk_at dksX4_best_1 0 rfl rfl)
theorem dX4_best_27 : decode cX4_best 27 = .ok (.bipush (-5), 2) := dk_16 251 (dk_at dksX4_best_1 3 rfl rfl)
theorem dX4_best_29 : decode cX4_best 29 = .ok (.ireturn, 1) := dk_172 (dk_at dksX4_best_1 5 rfl rfl)
theorem dX4_best_30 : decode cX4_best 30 = .ok (.iconst (-1), 1) := dk_2 (dk_at dksX4_best_1 6 rfl rfl)
theorem dX4_best_31 : decode cX4_best 31 = .ok (.istore_n 3, 1) := dk_62 (dk_at dksX4_best_1 7 rfl rfl)
theorem dX4_best_32 : decode cX4_best 32 = .ok (.iconst 0, 1) := dk_3 (dk_at dksX4_best_1 8 rfl rfl)
theorem dX4_best_33 : decode cX4_best 33 = .ok (.istore 4, 2) := dk_54 4 (dk_at dksX4_best_1 9 rfl rfl)
theorem dX4_best_35 : decode cX4_best 35 = .ok (.iconst 0, 1) := dk_3 (dk_at dksX4_best_1 11 rfl rfl)
theorem dX4_best_36 : decode cX4_best 36 = .ok (.istore 5, 2) := dk_54 5 (dk_at dksX4_best_1 12 rfl rfl)
theorem dX4_best_38 : decode cX4_best 38 = .ok (.iload 5, 2) := dk_21 5 (dk_at dksX4_best_1 14 rfl rfl)
theorem dX4_best_40 : decode cX4_best 40 = .ok (.bipush 7, 2) := dk_16 7 (dk_at dksX4_best_1 16 rfl rfl)
theorem dX4_best_42 : decode cX4_best 42 = .ok (.if_icmp .gt 41, 3) := dk_163 0 41 (dk_at dksX4_best_1 18 rfl rfl)
theorem dX4_best_45 : decode cX4_best 45 = .ok (.aload_n 0, 1) := dk_42 (dk_at dksX4_best_1 21 rfl rfl)
theorem dX4_best_46 : decode cX4_best 46 = .ok (.iload_n 1, 1) := dk_27 (dk_at dksX4_best_1 22 rfl rfl)
theorem dX4_best_47 : decode cX4_best 47 = .ok (.iload 5, 2) := dk_21 5 (dk_at dksX4_best_2 0 rfl rfl)
theorem dX4_best_49 : decode cX4_best 49 = .ok (.invokevirtual 330, 3) := dk_182 1 74 (dk_at dksX4_best_2 2 rfl rfl)
theorem dX4_best_52 : decode cX4_best 52 = .ok (.istore 6, 2) := dk_54 6 (dk_at dksX4_best_2 5 rfl rfl)
theorem dX4_best_54 : decode cX4_best 54 = .ok (.iload 6, 2) := dk_21 6 (dk_at dksX4_best_2 7 rfl rfl)
theorem dX4_best_56 : decode cX4_best 56 = .ok (.ifCond .lt 21, 3) := dk_155 0 21 (dk_at dksX4_best_2 9 rfl rfl)
theorem dX4_best_59 : decode cX4_best 59 = .ok (.iload_n 3, 1) := dk_29 (dk_at dksX4_best_2 12 rfl rfl)
theorem dX4_best_60 : decode cX4_best 60 = .ok (.ifCond .lt 10, 3) := dk_155 0 10 (dk_at dksX4_best_2 13 rfl rfl)
theorem dX4_best_63 : decode cX4_best 63 = .ok (.iload 6, 2) := dk_21 6 (dk_at dksX4_best_2 16 rfl rfl)
theorem dX4_best_65 : decode cX4_best 65 = .ok (.iload 4, 2) := dk_21 4 (dk_at dksX4_best_2 18 rfl rfl)
theorem dX4_best_67 : decode cX4_best 67 = .ok (.if_icmp .ge 10, 3) := dk_162 0 10 (dk_at dksX4_best_2 20 rfl rfl)
theorem dX4_best_70 : decode cX4_best 70 = .ok (.iload 5, 2) := dk_21 5 (dk_at dksX4_best_3 0 rfl rfl)
theorem dX4_best_72 : decode cX4_best 72 = .ok (.istore_n 3, 1) := dk_62 (dk_at dksX4_best_3 2 rfl rfl)
theorem dX4_best_73 : decode cX4_best 73 = .ok (.iload 6, 2) := dk_21 6 (dk_at dksX4_best_3 3 rfl rfl)
theorem dX4_best_75 : decode cX4_best 75 = .ok (.istore 4, 2) := dk_54 4 (dk_at dksX4_best_3 5 rfl rfl)
theorem dX4_best_77 : decode cX4_best 77 = .ok (.iinc 5 1, 3) := dk_132 5 1 (dk_at dksX4_best_3 7 rfl rfl)
theorem dX4_best_80 : decode cX4_best 80 = .ok (.goto (-42), 3) := dk_167 255 214 (dk_at dksX4_best_3 10 rfl rfl)
theorem dX4_best_83 : decode cX4_best 83 = .ok (.iload_n 2, 1) := dk_28 (dk_at dksX4_best_3 13 rfl rfl)
theorem dX4_best_84 : decode cX4_best 84 = .ok (.ifCond .ne 7, 3) := dk_154 0 7 (dk_at dksX4_best_3 14 rfl rfl)
theorem dX4_best_87 : decode cX4_best 87 = .ok (.iload_n 3, 1) := dk_29 (dk_at dksX4_best_3 17 rfl rfl)
theorem dX4_best_88 : decode cX4_best 88 = .ok (.goto 5, 3) := dk_167 0 5 (dk_at dksX4_best_3 18 rfl rfl)
theorem dX4_best_91 : decode cX4_best 91 = .ok (.iload 4, 2) := dk_21 4 (dk_at dksX4_best_3 21 rfl rfl)
theorem dX4_best_93 : decode cX4_best 93 = .ok (.ireturn, 1) := dk_172 (dk_at dksX4_best_3 23 rfl rfl)
abbrev cX4_offSum : ByteArray := prog_34_method_66_code
def yX4_offSum : MethodName := ⟨RX4, "offSum", "(II)I"⟩
def dkwX4_offSum_3 : List UInt8 := [180, 0, 67, 21, 4, 46, 100, 184, 0, 250, 96, 62, 132, 4, 1, 167, 255, 176, 29, 172]
abbrev dktX4_offSum_3 : List UInt8 := dkwX4_offSum_3 ++ []
def dkwX4_offSum_2 : List UInt8 := [21, 4, 46, 3, 182, 1, 23, 54, 5, 21, 5, 154, 0, 5, 2, 172, 29, 42, 182, 1, 27, 42]
abbrev dktX4_offSum_2 : List UInt8 := dkwX4_offSum_2 ++ dktX4_offSum_3
def dkwX4_offSum_1 : List UInt8 := [27, 42, 180, 0, 64, 21, 4, 46, 3, 182, 1, 41, 54, 6, 167, 0, 19, 42, 27, 28, 42, 180, 0, 64]
abbrev dktX4_offSum_1 : List UInt8 := dkwX4_offSum_1 ++ dktX4_offSum_2
def dkwX4_offSum_0 : List UInt8 := [3, 62, 3, 54, 4, 21, 4, 42, 180, 1, 50, 162, 0, 77, 4, 54, 5, 28, 16, 7, 160, 0, 21, 42]
abbrev dktX4_offSum_0 : List UInt8 := dkwX4_offSum_0 ++ dktX4_offSum_1
theorem dksX4_offSum_0 : cX4_offSum.data.toList.drop 0 = dktX4_offSum_0 := by decide +kernel
theorem dksX4_offSum_1 : cX4_offSum.data.toList.drop 24 = dktX4_offSum_1 := dk_seg dksX4_offSum_0 24 rfl rfl
theorem dksX4_offSum_2 : cX4_offSum.data.toList.drop 48 = dktX4_offSum_2 := dk_seg dksX4_offSum_1 24 rfl rfl
theorem dksX4_offSum_3 : cX4_offSum.data.toList.drop 70 = dktX4_offSum_3 := dk_seg dksX4_offSum_2 22 rfl rfl
theorem dX4_offSum_0 : decode cX4_offSum 0 = .ok (.iconst 0, 1) := dk_3 (dk_at dksX4_offSum_0 0 rfl rfl)
theorem dX4_offSum_1 : decode cX4_offSum 1 = .ok (.istore_n 3, 1) := dk_62 (dk_at dksX4_offSum_0 1 rfl rfl)
theorem dX4_offSum_2 : decode cX4_offSum 2 = .ok (.iconst 0, 1) := dk_3 (dk_at dksX4_offSum_0 2 rfl rfl)
theorem dX4_offSum_3 : decode cX4_offSum 3 = .ok (.istore 4, 2) := dk_54 4 (dk_at dksX4_offSum_0 3 rfl rfl)
theorem dX4_offSum_5 : decode cX4_offSum 5 = .ok (.iload 4, 2) := dk_21 4 (dk_at dksX4_offSum_0 5 rfl rfl)
theorem dX4_offSum_7 : decode cX4_offSum 7 = .ok (.aload_n 0, 1) := dk_42 (dk_at dksX4_offSum_0 7 rfl rfl)
theorem dX4_offSum_8 : decode cX4_offSum 8 = .ok (.getfield 306, 3) := dk_180 1 50 (dk_at dksX4_offSum_0 8 rfl rfl)
theorem dX4_offSum_11 : decode cX4_offSum 11 = .ok (.if_icmp .ge 77, 3) := dk_162 0 77 (dk_at dksX4_offSum_0 11 rfl rfl)
theorem dX4_offSum_14 : decode cX4_offSum 14 = .ok (.iconst 1, 1) := dk_4 (dk_at dksX4_offSum_0 14 rfl rfl)
theorem dX4_offSum_15 : decode cX4_offSum 15 = .ok (.istore 5, 2) := dk_54 5 (dk_at dksX4_offSum_0 15 rfl rfl)
theorem dX4_offSum_17 : decode cX4_offSum 17 = .ok (.iload_n 2, 1) := dk_28 (dk_at dksX4_offSum_0 17 rfl rfl)
theorem dX4_offSum_18 : decode cX4_offSum 18 = .ok (.bipush 7, 2) := dk_16 7 (dk_at dksX4_offSum_0 18 rfl rfl)
theorem dX4_offSum_20 : decode cX4_offSum 20 = .ok (.if_icmp .ne 21, 3) := dk_160 0 21 (dk_at dksX4_offSum_0 20 rfl rfl)
theorem dX4_offSum_23 : decode cX4_offSum 23 = .ok (.aload_n 0, 1) := dk_42 (dk_at dksX4_offSum_0 23 rfl rfl)
theorem dX4_offSum_24 : decode cX4_offSum 24 = .ok (.iload_n 1, 1) := dk_27 (dk_at dksX4_offSum_1 0 rfl rfl)
theorem dX4_offSum_25 : decode cX4_offSum 25 = .ok (.aload_n 0, 1) := dk_42 (dk_at dksX4_offSum_1 1 rfl rfl)
theorem dX4_offSum_26 : decode cX4_offSum 26 = .ok (.getfield 64, 3) := dk_180 0 64 (dk_at dksX4_offSum_1 2 rfl rfl)
theorem dX4_offSum_29 : decode cX4_offSum 29 = .ok (.iload 4, 2) := dk_21 4 (dk_at dksX4_offSum_1 5 rfl rfl)
theorem dX4_offSum_31 : decode cX4_offSum 31 = .ok (.iaload, 1) := dk_46 (dk_at dksX4_offSum_1 7 rfl rfl)
theorem dX4_offSum_32 : decode cX4_offSum 32 = .ok (.iconst 0, 1) := dk_3 (dk_at dksX4_offSum_1 8 rfl rfl)
theorem dX4_offSum_33 : decode cX4_offSum 33 = .ok (.invokevirtual 297, 3) := dk_182 1 41 (dk_at dksX4_offSum_1 9 rfl rfl)
theorem dX4_offSum_36 : decode cX4_offSum 36 = .ok (.istore 6, 2) := dk_54 6 (dk_at dksX4_offSum_1 12 rfl rfl)
theorem dX4_offSum_38 : decode cX4_offSum 38 = .ok (.goto 19, 3) := dk_167 0 19 (dk_at dksX4_offSum_1 14 rfl rfl)
theorem dX4_offSum_41 : decode cX4_offSum 41 = .ok (.aload_n 0, 1) := dk_42 (dk_at dksX4_offSum_1 17 rfl rfl)
theorem dX4_offSum_42 : decode cX4_offSum 42 = .ok (.iload_n 1, 1) := dk_27 (dk_at dksX4_offSum_1 18 rfl rfl)
theorem dX4_offSum_43 : decode cX4_offSum 43 = .ok (.iload_n 2, 1) := dk_28 (dk_at dksX4_offSum_1 19 rfl rfl)
theorem dX4_offSum_44 : decode cX4_offSum 44 = .ok (.aload_n 0, 1) := dk_42 (dk_at dksX4_offSum_1 20 rfl rfl)
theorem dX4_offSum_45 : decode cX4_offSum 45 = .ok (.getfield 64, 3) := dk_180 0 64 (dk_at dksX4_offSum_1 21 rfl rfl)
theorem dX4_offSum_48 : decode cX4_offSum 48 = .ok (.iload 4, 2) := dk_21 4 (dk_at dksX4_offSum_2 0 rfl rfl)
theorem dX4_offSum_50 : decode cX4_offSum 50 = .ok (.iaload, 1) := dk_46 (dk_at dksX4_offSum_2 2 rfl rfl)
theorem dX4_offSum_51 : decode cX4_offSum 51 = .ok (.iconst 0, 1) := dk_3 (dk_at dksX4_offSum_2 3 rfl rfl)
theorem dX4_offSum_52 : decode cX4_offSum 52 = .ok (.invokevirtual 279, 3) := dk_182 1 23 (dk_at dksX4_offSum_2 4 rfl rfl)
theorem dX4_offSum_55 : decode cX4_offSum 55 = .ok (.istore 5, 2) := dk_54 5 (dk_at dksX4_offSum_2 7 rfl rfl)
theorem dX4_offSum_57 : decode cX4_offSum 57 = .ok (.iload 5, 2) := dk_21 5 (dk_at dksX4_offSum_2 9 rfl rfl)
theorem dX4_offSum_59 : decode cX4_offSum 59 = .ok (.ifCond .ne 5, 3) := dk_154 0 5 (dk_at dksX4_offSum_2 11 rfl rfl)
theorem dX4_offSum_62 : decode cX4_offSum 62 = .ok (.iconst (-1), 1) := dk_2 (dk_at dksX4_offSum_2 14 rfl rfl)
theorem dX4_offSum_63 : decode cX4_offSum 63 = .ok (.ireturn, 1) := dk_172 (dk_at dksX4_offSum_2 15 rfl rfl)
theorem dX4_offSum_64 : decode cX4_offSum 64 = .ok (.iload_n 3, 1) := dk_29 (dk_at dksX4_offSum_2 16 rfl rfl)
theorem dX4_offSum_65 : decode cX4_offSum 65 = .ok (.aload_n 0, 1) := dk_42 (dk_at dksX4_offSum_2 17 rfl rfl)
theorem dX4_offSum_66 : decode cX4_offSum 66 = .ok (.invokevirtual 283, 3) := dk_182 1 27 (dk_at dksX4_offSum_2 18 rfl rfl)
theorem dX4_offSum_69 : decode cX4_offSum 69 = .ok (.aload_n 0, 1) := dk_42 (dk_at dksX4_offSum_2 21 rfl rfl)
theorem dX4_offSum_70 : decode cX4_offSum 70 = .ok (.getfield 67, 3) := dk_180 0 67 (dk_at dksX4_offSum_3 0 rfl rfl)
theorem dX4_offSum_73 : decode cX4_offSum 73 = .ok (.iload 4, 2) := dk_21 4 (dk_at dksX4_offSum_3 3 rfl rfl)
theorem dX4_offSum_75 : decode cX4_offSum 75 = .ok (.iaload, 1) := dk_46 (dk_at dksX4_offSum_3 5 rfl rfl)
theorem dX4_offSum_76 : decode cX4_offSum 76 = .ok (.isub, 1) := dk_100 (dk_at dksX4_offSum_3 6 rfl rfl)
theorem dX4_offSum_77 : decode cX4_offSum 77 = .ok (.invokestatic 250, 3) := dk_184 0 250 (dk_at dksX4_offSum_3 7 rfl rfl)
theorem dX4_offSum_80 : decode cX4_offSum 80 = .ok (.iadd, 1) := dk_96 (dk_at dksX4_offSum_3 10 rfl rfl)
theorem dX4_offSum_81 : decode cX4_offSum 81 = .ok (.istore_n 3, 1) := dk_62 (dk_at dksX4_offSum_3 11 rfl rfl)
theorem dX4_offSum_82 : decode cX4_offSum 82 = .ok (.iinc 4 1, 3) := dk_132 4 1 (dk_at dksX4_offSum_3 12 rfl rfl)
theorem dX4_offSum_85 : decode cX4_offSum 85 = .ok (.goto (-80), 3) := dk_167 255 176 (dk_at dksX4_offSum_3 15 rfl rfl)
theorem dX4_offSum_88 : decode cX4_offSum 88 = .ok (.iload_n 3, 1) := dk_29 (dk_at dksX4_offSum_3 18 rfl rfl)
theorem dX4_offSum_89 : decode cX4_offSum 89 = .ok (.ireturn, 1) := dk_172 (dk_at dksX4_offSum_3 19 rfl rfl)
abbrev cX4_slip : ByteArray := prog_34_method_68_code
def yX4_slip : MethodName := ⟨RX4, "slip", "(III)I"⟩
def dkwX4_slip_5 : List UInt8 := [167, 255, 227, 16, 254, 172]
abbrev dktX4_slip_5 : List UInt8 := dkwX4_slip_5 ++ []
def dkwX4_slip_4 : List UInt8 := [162, 0, 26, 42, 21, 4, 42, 28, 182, 1, 61, 182, 1, 64, 153, 0, 6, 21, 4, 172, 132, 4, 1]
abbrev dktX4_slip_4 : List UInt8 := dkwX4_slip_4 ++ dktX4_slip_5
def dkwX4_slip_3 : List UInt8 := [160, 0, 13, 42, 42, 28, 182, 1, 61, 182, 1, 67, 172, 3, 54, 4, 21, 4, 42, 180, 0, 214]
abbrev dktX4_slip_3 : List UInt8 := dkwX4_slip_3 ++ dktX4_slip_4
def dkwX4_slip_2 : List UInt8 := [108, 27, 16, 10, 112, 42, 180, 0, 64, 28, 46, 3, 182, 1, 23, 154, 0, 6, 16, 254, 172, 29, 4]
abbrev dktX4_slip_2 : List UInt8 := dkwX4_slip_2 ++ dktX4_slip_3
def dkwX4_slip_1 : List UInt8 := [29, 133, 9, 10, 184, 0, 113, 153, 0, 11, 42, 28, 182, 1, 61, 154, 0, 5, 2, 172, 42, 27, 16, 10]
abbrev dktX4_slip_1 : List UInt8 := dkwX4_slip_1 ++ dktX4_slip_2
def dkwX4_slip_0 : List UInt8 := [42, 27, 182, 1, 18, 153, 0, 37, 28, 133, 9, 42, 180, 1, 50, 4, 100, 133, 184, 0, 113, 153, 0, 21]
abbrev dktX4_slip_0 : List UInt8 := dkwX4_slip_0 ++ dktX4_slip_1
theorem dksX4_slip_0 : cX4_slip.data.toList.drop 0 = dktX4_slip_0 := by decide +kernel
theorem dksX4_slip_1 : cX4_slip.data.toList.drop 24 = dktX4_slip_1 := dk_seg dksX4_slip_0 24 rfl rfl
theorem dksX4_slip_2 : cX4_slip.data.toList.drop 48 = dktX4_slip_2 := dk_seg dksX4_slip_1 24 rfl rfl
theorem dksX4_slip_3 : cX4_slip.data.toList.drop 71 = dktX4_slip_3 := dk_seg dksX4_slip_2 23 rfl rfl
theorem dksX4_slip_4 : cX4_slip.data.toList.drop 93 = dktX4_slip_4 := dk_seg dksX4_slip_3 22 rfl rfl
theorem dksX4_slip_5 : cX4_slip.data.toList.drop 116 = dktX4_slip_5 := dk_seg dksX4_slip_4 23 rfl rfl
theorem dX4_slip_0 : decode cX4_slip 0 = .ok (.aload_n 0, 1) := dk_42 (dk_at dksX4_slip_0 0 rfl rfl)
theorem dX4_slip_1 : decode cX4_slip 1 = .ok (.iload_n 1, 1) := dk_27 (dk_at dksX4_slip_0 1 rfl rfl)
theorem dX4_slip_2 : decode cX4_slip 2 = .ok (.invokevirtual 274, 3) := dk_182 1 18 (dk_at dksX4_slip_0 2 rfl rfl)
theorem dX4_slip_5 : decode cX4_slip 5 = .ok (.ifCond .eq 37, 3) := dk_153 0 37 (dk_at dksX4_slip_0 5 rfl rfl)
theorem dX4_slip_8 : decode cX4_slip 8 = .ok (.iload_n 2, 1) := dk_28 (dk_at dksX4_slip_0 8 rfl rfl)
theorem dX4_slip_9 : decode cX4_slip 9 = .ok (.i2l, 1) := dk_133 (dk_at dksX4_slip_0 9 rfl rfl)
theorem dX4_slip_10 : decode cX4_slip 10 = .ok (.lconst 0, 1) := dk_9 (dk_at dksX4_slip_0 10 rfl rfl)
theorem dX4_slip_11 : decode cX4_slip 11 = .ok (.aload_n 0, 1) := dk_42 (dk_at dksX4_slip_0 11 rfl rfl)
theorem dX4_slip_12 : decode cX4_slip 12 = .ok (.getfield 306, 3) := dk_180 1 50 (dk_at dksX4_slip_0 12 rfl rfl)
theorem dX4_slip_15 : decode cX4_slip 15 = .ok (.iconst 1, 1) := dk_4 (dk_at dksX4_slip_0 15 rfl rfl)
theorem dX4_slip_16 : decode cX4_slip 16 = .ok (.isub, 1) := dk_100 (dk_at dksX4_slip_0 16 rfl rfl)
theorem dX4_slip_17 : decode cX4_slip 17 = .ok (.i2l, 1) := dk_133 (dk_at dksX4_slip_0 17 rfl rfl)
theorem dX4_slip_18 : decode cX4_slip 18 = .ok (.invokestatic 113, 3) := dk_184 0 113 (dk_at dksX4_slip_0 18 rfl rfl)
theorem dX4_slip_21 : decode cX4_slip 21 = .ok (.ifCond .eq 21, 3) := dk_153 0 21 (dk_at dksX4_slip_0 21 rfl rfl)
theorem dX4_slip_24 : decode cX4_slip 24 = .ok (.iload_n 3, 1) := dk_29 (dk_at dksX4_slip_1 0 rfl rfl)
theorem dX4_slip_25 : decode cX4_slip 25 = .ok (.i2l, 1) := dk_133 (dk_at dksX4_slip_1 1 rfl rfl)
theorem dX4_slip_26 : decode cX4_slip 26 = .ok (.lconst 0, 1) := dk_9 (dk_at dksX4_slip_1 2 rfl rfl)
theorem dX4_slip_27 : decode cX4_slip 27 = .ok (.lconst 1, 1) := dk_10 (dk_at dksX4_slip_1 3 rfl rfl)
theorem dX4_slip_28 : decode cX4_slip 28 = .ok (.invokestatic 113, 3) := dk_184 0 113 (dk_at dksX4_slip_1 4 rfl rfl)
theorem dX4_slip_31 : decode cX4_slip 31 = .ok (.ifCond .eq 11, 3) := dk_153 0 11 (dk_at dksX4_slip_1 7 rfl rfl)
theorem dX4_slip_34 : decode cX4_slip 34 = .ok (.aload_n 0, 1) := dk_42 (dk_at dksX4_slip_1 10 rfl rfl)
theorem dX4_slip_35 : decode cX4_slip 35 = .ok (.iload_n 2, 1) := dk_28 (dk_at dksX4_slip_1 11 rfl rfl)
theorem dX4_slip_36 : decode cX4_slip 36 = .ok (.invokevirtual 317, 3) := dk_182 1 61 (dk_at dksX4_slip_1 12 rfl rfl)
theorem dX4_slip_39 : decode cX4_slip 39 = .ok (.ifCond .ne 5, 3) := dk_154 0 5 (dk_at dksX4_slip_1 15 rfl rfl)
theorem dX4_slip_42 : decode cX4_slip 42 = .ok (.iconst (-1), 1) := dk_2 (dk_at dksX4_slip_1 18 rfl rfl)
theorem dX4_slip_43 : decode cX4_slip 43 = .ok (.ireturn, 1) := dk_172 (dk_at dksX4_slip_1 19 rfl rfl)
theorem dX4_slip_44 : decode cX4_slip 44 = .ok (.aload_n 0, 1) := dk_42 (dk_at dksX4_slip_1 20 rfl rfl)
theorem dX4_slip_45 : decode cX4_slip 45 = .ok (.iload_n 1, 1) := dk_27 (dk_at dksX4_slip_1 21 rfl rfl)
theorem dX4_slip_46 : decode cX4_slip 46 = .ok (.bipush 10, 2) := dk_16 10 (dk_at dksX4_slip_1 22 rfl rfl)
theorem dX4_slip_48 : decode cX4_slip 48 = .ok (.idiv, 1) := dk_108 (dk_at dksX4_slip_2 0 rfl rfl)
theorem dX4_slip_49 : decode cX4_slip 49 = .ok (.iload_n 1, 1) := dk_27 (dk_at dksX4_slip_2 1 rfl rfl)
theorem dX4_slip_50 : decode cX4_slip 50 = .ok (.bipush 10, 2) := dk_16 10 (dk_at dksX4_slip_2 2 rfl rfl)
theorem dX4_slip_52 : decode cX4_slip 52 = .ok (.irem, 1) := dk_112 (dk_at dksX4_slip_2 4 rfl rfl)
theorem dX4_slip_53 : decode cX4_slip 53 = .ok (.aload_n 0, 1) := dk_42 (dk_at dksX4_slip_2 5 rfl rfl)
theorem dX4_slip_54 : decode cX4_slip 54 = .ok (.getfield 64, 3) := dk_180 0 64 (dk_at dksX4_slip_2 6 rfl rfl)
theorem dX4_slip_57 : decode cX4_slip 57 = .ok (.iload_n 2, 1) := dk_28 (dk_at dksX4_slip_2 9 rfl rfl)
theorem dX4_slip_58 : decode cX4_slip 58 = .ok (.iaload, 1) := dk_46 (dk_at dksX4_slip_2 10 rfl rfl)
theorem dX4_slip_59 : decode cX4_slip 59 = .ok (.iconst 0, 1) := dk_3 (dk_at dksX4_slip_2 11 rfl rfl)
theorem dX4_slip_60 : decode cX4_slip 60 = .ok (.invokevirtual 279, 3) := dk_182 1 23 (dk_at dksX4_slip_2 12 rfl rfl)
theorem dX4_slip_63 : decode cX4_slip 63 = .ok (.ifCond .ne 6, 3) := dk_154 0 6 (dk_at dksX4_slip_2 15 rfl rfl)
theorem dX4_slip_66 : decode cX4_slip 66 = .ok (.bipush (-2), 2) := dk_16 254 (dk_at dksX4_slip_2 18 rfl rfl)
theorem dX4_slip_68 : decode cX4_slip 68 = .ok (.ireturn, 1) := dk_172 (dk_at dksX4_slip_2 20 rfl rfl)
theorem dX4_slip_69 : decode cX4_slip 69 = .ok (.iload_n 3, 1) := dk_29 (dk_at dksX4_slip_2 21 rfl rfl)
theorem dX4_slip_70 : decode cX4_slip 70 = .ok (.iconst 1, 1) := dk_4 (dk_at dksX4_slip_2 22 rfl rfl)
theorem dX4_slip_71 : decode cX4_slip 71 = .ok (.if_icmp .ne 13, 3) := dk_160 0 13 (dk_at dksX4_slip_3 0 rfl rfl)
theorem dX4_slip_74 : decode cX4_slip 74 = .ok (.aload_n 0, 1) := dk_42 (dk_at dksX4_slip_3 3 rfl rfl)
theorem dX4_slip_75 : decode cX4_slip 75 = .ok (.aload_n 0, 1) := dk_42 (dk_at dksX4_slip_3 4 rfl rfl)
theorem dX4_slip_76 : decode cX4_slip 76 = .ok (.iload_n 2, 1) := dk_28 (dk_at dksX4_slip_3 5 rfl rfl)
theorem dX4_slip_77 : decode cX4_slip 77 = .ok (.invokevirtual 317, 3) := dk_182 1 61 (dk_at dksX4_slip_3 6 rfl rfl)
theorem dX4_slip_80 : decode cX4_slip 80 = .ok (.invokevirtual 323, 3) := dk_182 1 67 (dk_at dksX4_slip_3 9 rfl rfl)
theorem dX4_slip_83 : decode cX4_slip 83 = .ok (.ireturn, 1) := dk_172 (dk_at dksX4_slip_3 12 rfl rfl)
theorem dX4_slip_84 : decode cX4_slip 84 = .ok (.iconst 0, 1) := dk_3 (dk_at dksX4_slip_3 13 rfl rfl)
theorem dX4_slip_85 : decode cX4_slip 85 = .ok (.istore 4, 2) := dk_54 4 (dk_at dksX4_slip_3 14 rfl rfl)
theorem dX4_slip_87 : decode cX4_slip 87 = .ok (.iload 4, 2) := dk_21 4 (dk_at dksX4_slip_3 16 rfl rfl)
theorem dX4_slip_89 : decode cX4_slip 89 = .ok (.aload_n 0, 1) := dk_42 (dk_at dksX4_slip_3 18 rfl rfl)
theorem dX4_slip_90 : decode cX4_slip 90 = .ok (.getfield 214, 3) := dk_180 0 214 (dk_at dksX4_slip_3 19 rfl rfl)
theorem dX4_slip_93 : decode cX4_slip 93 = .ok (.if_icmp .ge 26, 3) := dk_162 0 26 (dk_at dksX4_slip_4 0 rfl rfl)
theorem dX4_slip_96 : decode cX4_slip 96 = .ok (.aload_n 0, 1) := dk_42 (dk_at dksX4_slip_4 3 rfl rfl)
theorem dX4_slip_97 : decode cX4_slip 97 = .ok (.iload 4, 2) := dk_21 4 (dk_at dksX4_slip_4 4 rfl rfl)
theorem dX4_slip_99 : decode cX4_slip 99 = .ok (.aload_n 0, 1) := dk_42 (dk_at dksX4_slip_4 6 rfl rfl)
theorem dX4_slip_100 : decode cX4_slip 100 = .ok (.iload_n 2, 1) := dk_28 (dk_at dksX4_slip_4 7 rfl rfl)
theorem dX4_slip_101 : decode cX4_slip 101 = .ok (.invokevirtual 317, 3) := dk_182 1 61 (dk_at dksX4_slip_4 8 rfl rfl)
theorem dX4_slip_104 : decode cX4_slip 104 = .ok (.invokevirtual 320, 3) := dk_182 1 64 (dk_at dksX4_slip_4 11 rfl rfl)
theorem dX4_slip_107 : decode cX4_slip 107 = .ok (.ifCond .eq 6, 3) := dk_153 0 6 (dk_at dksX4_slip_4 14 rfl rfl)
theorem dX4_slip_110 : decode cX4_slip 110 = .ok (.iload 4, 2) := dk_21 4 (dk_at dksX4_slip_4 17 rfl rfl)
theorem dX4_slip_112 : decode cX4_slip 112 = .ok (.ireturn, 1) := dk_172 (dk_at dksX4_slip_4 19 rfl rfl)
theorem dX4_slip_113 : decode cX4_slip 113 = .ok (.iinc 4 1, 3) := dk_132 4 1 (dk_at dksX4_slip_4 20 rfl rfl)
theorem dX4_slip_116 : decode cX4_slip 116 = .ok (.goto (-29), 3) := dk_167 255 227 (dk_at dksX4_slip_5 0 rfl rfl)
theorem dX4_slip_119 : decode cX4_slip 119 = .ok (.bipush (-2), 2) := dk_16 254 (dk_at dksX4_slip_5 3 rfl rfl)
theorem dX4_slip_121 : decode cX4_slip 121 = .ok (.ireturn, 1) := dk_172 (dk_at dksX4_slip_5 5 rfl rfl)
abbrev cX4_suits : ByteArray := prog_34_method_69_code
def yX4_suits : MethodName := ⟨RX4, "suits", "(I)I"⟩
def dkwX4_suits_4 : List UInt8 := [28, 104, 42, 180, 1, 50, 108, 172]
abbrev dktX4_suits_4 : List UInt8 := dkwX4_suits_4 ++ []
def dkwX4_suits_3 : List UInt8 := [182, 1, 27, 5, 108, 163, 0, 7, 4, 167, 0, 4, 3, 96, 61, 132, 3, 1, 167, 255, 191, 17, 3, 232]
abbrev dktX4_suits_3 : List UInt8 := dkwX4_suits_3 ++ dktX4_suits_4
def dkwX4_suits_2 : List UInt8 := [182, 1, 27, 54, 5, 42, 27, 4, 42, 180, 0, 64, 29, 46, 3, 182, 1, 23, 54, 6, 28, 21, 5, 42]
abbrev dktX4_suits_2 : List UInt8 := dkwX4_suits_2 ++ dktX4_suits_3
def dkwX4_suits_1 : List UInt8 := [29, 42, 180, 1, 50, 162, 0, 63, 42, 27, 42, 180, 0, 64, 29, 46, 3, 182, 1, 41, 54, 4, 42]
abbrev dktX4_suits_1 : List UInt8 := dkwX4_suits_1 ++ dktX4_suits_2
def dkwX4_suits_0 : List UInt8 := [42, 27, 182, 0, 188, 154, 0, 5, 2, 172, 42, 180, 1, 50, 154, 0, 6, 16, 251, 172, 3, 61, 3, 62]
abbrev dktX4_suits_0 : List UInt8 := dkwX4_suits_0 ++ dktX4_suits_1
theorem dksX4_suits_0 : cX4_suits.data.toList.drop 0 = dktX4_suits_0 := by decide +kernel
theorem dksX4_suits_1 : cX4_suits.data.toList.drop 24 = dktX4_suits_1 := dk_seg dksX4_suits_0 24 rfl rfl
theorem dksX4_suits_2 : cX4_suits.data.toList.drop 47 = dktX4_suits_2 := dk_seg dksX4_suits_1 23 rfl rfl
theorem dksX4_suits_3 : cX4_suits.data.toList.drop 71 = dktX4_suits_3 := dk_seg dksX4_suits_2 24 rfl rfl
theorem dksX4_suits_4 : cX4_suits.data.toList.drop 95 = dktX4_suits_4 := dk_seg dksX4_suits_3 24 rfl rfl
theorem dX4_suits_0 : decode cX4_suits 0 = .ok (.aload_n 0, 1) := dk_42 (dk_at dksX4_suits_0 0 rfl rfl)
theorem dX4_suits_1 : decode cX4_suits 1 = .ok (.iload_n 1, 1) := dk_27 (dk_at dksX4_suits_0 1 rfl rfl)
theorem dX4_suits_2 : decode cX4_suits 2 = .ok (.invokevirtual 188, 3) := dk_182 0 188 (dk_at dksX4_suits_0 2 rfl rfl)
theorem dX4_suits_5 : decode cX4_suits 5 = .ok (.ifCond .ne 5, 3) := dk_154 0 5 (dk_at dksX4_suits_0 5 rfl rfl)
theorem dX4_suits_8 : decode cX4_suits 8 = .ok (.iconst (-1), 1) := dk_2 (dk_at dksX4_suits_0 8 rfl rfl)
theorem dX4_suits_9 : decode cX4_suits 9 = .ok (.ireturn, 1) := dk_172 (dk_at dksX4_suits_0 9 rfl rfl)
theorem dX4_suits_10 : decode cX4_suits 10 = .ok (.aload_n 0, 1) := dk_42 (dk_at dksX4_suits_0 10 rfl rfl)
theorem dX4_suits_11 : decode cX4_suits 11 = .ok (.getfield 306, 3) := dk_180 1 50 (dk_at dksX4_suits_0 11 rfl rfl)
theorem dX4_suits_14 : decode cX4_suits 14 = .ok (.ifCond .ne 6, 3) := dk_154 0 6 (dk_at dksX4_suits_0 14 rfl rfl)
theorem dX4_suits_17 : decode cX4_suits 17 = .ok (.bipush (-5), 2) := dk_16 251 (dk_at dksX4_suits_0 17 rfl rfl)
theorem dX4_suits_19 : decode cX4_suits 19 = .ok (.ireturn, 1) := dk_172 (dk_at dksX4_suits_0 19 rfl rfl)
theorem dX4_suits_20 : decode cX4_suits 20 = .ok (.iconst 0, 1) := dk_3 (dk_at dksX4_suits_0 20 rfl rfl)
theorem dX4_suits_21 : decode cX4_suits 21 = .ok (.istore_n 2, 1) := dk_61 (dk_at dksX4_suits_0 21 rfl rfl)
theorem dX4_suits_22 : decode cX4_suits 22 = .ok (.iconst 0, 1) := dk_3 (dk_at dksX4_suits_0 22 rfl rfl)
theorem dX4_suits_23 : decode cX4_suits 23 = .ok (.istore_n 3, 1) := dk_62 (dk_at dksX4_suits_0 23 rfl rfl)
theorem dX4_suits_24 : decode cX4_suits 24 = .ok (.iload_n 3, 1) := dk_29 (dk_at dksX4_suits_1 0 rfl rfl)
theorem dX4_suits_25 : decode cX4_suits 25 = .ok (.aload_n 0, 1) := dk_42 (dk_at dksX4_suits_1 1 rfl rfl)
theorem dX4_suits_26 : decode cX4_suits 26 = .ok (.getfield 306, 3) := dk_180 1 50 (dk_at dksX4_suits_1 2 rfl rfl)
theorem dX4_suits_29 : decode cX4_suits 29 = .ok (.if_icmp .ge 63, 3) := dk_162 0 63 (dk_at dksX4_suits_1 5 rfl rfl)
theorem dX4_suits_32 : decode cX4_suits 32 = .ok (.aload_n 0, 1) := dk_42 (dk_at dksX4_suits_1 8 rfl rfl)
theorem dX4_suits_33 : decode cX4_suits 33 = .ok (.iload_n 1, 1) := dk_27 (dk_at dksX4_suits_1 9 rfl rfl)
theorem dX4_suits_34 : decode cX4_suits 34 = .ok (.aload_n 0, 1) := dk_42 (dk_at dksX4_suits_1 10 rfl rfl)
theorem dX4_suits_35 : decode cX4_suits 35 = .ok (.getfield 64, 3) := dk_180 0 64 (dk_at dksX4_suits_1 11 rfl rfl)
theorem dX4_suits_38 : decode cX4_suits 38 = .ok (.iload_n 3, 1) := dk_29 (dk_at dksX4_suits_1 14 rfl rfl)
theorem dX4_suits_39 : decode cX4_suits 39 = .ok (.iaload, 1) := dk_46 (dk_at dksX4_suits_1 15 rfl rfl)
theorem dX4_suits_40 : decode cX4_suits 40 = .ok (.iconst 0, 1) := dk_3 (dk_at dksX4_suits_1 16 rfl rfl)
theorem dX4_suits_41 : decode cX4_suits 41 = .ok (.invokevirtual 297, 3) := dk_182 1 41 (dk_at dksX4_suits_1 17 rfl rfl)
theorem dX4_suits_44 : decode cX4_suits 44 = .ok (.istore 4, 2) := dk_54 4 (dk_at dksX4_suits_1 20 rfl rfl)
theorem dX4_suits_46 : decode cX4_suits 46 = .ok (.aload_n 0, 1) := dk_42 (dk_at dksX4_suits_1 22 rfl rfl)
theorem dX4_suits_47 : decode cX4_suits 47 = .ok (.invokevirtual 283, 3) := dk_182 1 27 (dk_at dksX4_suits_2 0 rfl rfl)
theorem dX4_suits_50 : decode cX4_suits 50 = .ok (.istore 5, 2) := dk_54 5 (dk_at dksX4_suits_2 3 rfl rfl)
theorem dX4_suits_52 : decode cX4_suits 52 = .ok (.aload_n 0, 1) := dk_42 (dk_at dksX4_suits_2 5 rfl rfl)
theorem dX4_suits_53 : decode cX4_suits 53 = .ok (.iload_n 1, 1) := dk_27 (dk_at dksX4_suits_2 6 rfl rfl)
theorem dX4_suits_54 : decode cX4_suits 54 = .ok (.iconst 1, 1) := dk_4 (dk_at dksX4_suits_2 7 rfl rfl)
theorem dX4_suits_55 : decode cX4_suits 55 = .ok (.aload_n 0, 1) := dk_42 (dk_at dksX4_suits_2 8 rfl rfl)
theorem dX4_suits_56 : decode cX4_suits 56 = .ok (.getfield 64, 3) := dk_180 0 64 (dk_at dksX4_suits_2 9 rfl rfl)
theorem dX4_suits_59 : decode cX4_suits 59 = .ok (.iload_n 3, 1) := dk_29 (dk_at dksX4_suits_2 12 rfl rfl)
theorem dX4_suits_60 : decode cX4_suits 60 = .ok (.iaload, 1) := dk_46 (dk_at dksX4_suits_2 13 rfl rfl)
theorem dX4_suits_61 : decode cX4_suits 61 = .ok (.iconst 0, 1) := dk_3 (dk_at dksX4_suits_2 14 rfl rfl)
theorem dX4_suits_62 : decode cX4_suits 62 = .ok (.invokevirtual 279, 3) := dk_182 1 23 (dk_at dksX4_suits_2 15 rfl rfl)
theorem dX4_suits_65 : decode cX4_suits 65 = .ok (.istore 6, 2) := dk_54 6 (dk_at dksX4_suits_2 18 rfl rfl)
theorem dX4_suits_67 : decode cX4_suits 67 = .ok (.iload_n 2, 1) := dk_28 (dk_at dksX4_suits_2 20 rfl rfl)
theorem dX4_suits_68 : decode cX4_suits 68 = .ok (.iload 5, 2) := dk_21 5 (dk_at dksX4_suits_2 21 rfl rfl)
theorem dX4_suits_70 : decode cX4_suits 70 = .ok (.aload_n 0, 1) := dk_42 (dk_at dksX4_suits_2 23 rfl rfl)
theorem dX4_suits_71 : decode cX4_suits 71 = .ok (.invokevirtual 283, 3) := dk_182 1 27 (dk_at dksX4_suits_3 0 rfl rfl)
theorem dX4_suits_74 : decode cX4_suits 74 = .ok (.iconst 2, 1) := dk_5 (dk_at dksX4_suits_3 3 rfl rfl)
theorem dX4_suits_75 : decode cX4_suits 75 = .ok (.idiv, 1) := dk_108 (dk_at dksX4_suits_3 4 rfl rfl)
theorem dX4_suits_76 : decode cX4_suits 76 = .ok (.if_icmp .gt 7, 3) := dk_163 0 7 (dk_at dksX4_suits_3 5 rfl rfl)
theorem dX4_suits_79 : decode cX4_suits 79 = .ok (.iconst 1, 1) := dk_4 (dk_at dksX4_suits_3 8 rfl rfl)
theorem dX4_suits_80 : decode cX4_suits 80 = .ok (.goto 4, 3) := dk_167 0 4 (dk_at dksX4_suits_3 9 rfl rfl)
theorem dX4_suits_83 : decode cX4_suits 83 = .ok (.iconst 0, 1) := dk_3 (dk_at dksX4_suits_3 12 rfl rfl)
theorem dX4_suits_84 : decode cX4_suits 84 = .ok (.iadd, 1) := dk_96 (dk_at dksX4_suits_3 13 rfl rfl)
theorem dX4_suits_85 : decode cX4_suits 85 = .ok (.istore_n 2, 1) := dk_61 (dk_at dksX4_suits_3 14 rfl rfl)
theorem dX4_suits_86 : decode cX4_suits 86 = .ok (.iinc 3 1, 3) := dk_132 3 1 (dk_at dksX4_suits_3 15 rfl rfl)
theorem dX4_suits_89 : decode cX4_suits 89 = .ok (.goto (-65), 3) := dk_167 255 191 (dk_at dksX4_suits_3 18 rfl rfl)
theorem dX4_suits_92 : decode cX4_suits 92 = .ok (.sipush 1000, 3) := dk_17 3 232 (dk_at dksX4_suits_3 21 rfl rfl)
theorem dX4_suits_95 : decode cX4_suits 95 = .ok (.iload_n 2, 1) := dk_28 (dk_at dksX4_suits_4 0 rfl rfl)
theorem dX4_suits_96 : decode cX4_suits 96 = .ok (.imul, 1) := dk_104 (dk_at dksX4_suits_4 1 rfl rfl)
theorem dX4_suits_97 : decode cX4_suits 97 = .ok (.aload_n 0, 1) := dk_42 (dk_at dksX4_suits_4 2 rfl rfl)
theorem dX4_suits_98 : decode cX4_suits 98 = .ok (.getfield 306, 3) := dk_180 1 50 (dk_at dksX4_suits_4 3 rfl rfl)
theorem dX4_suits_101 : decode cX4_suits 101 = .ok (.idiv, 1) := dk_108 (dk_at dksX4_suits_4 6 rfl rfl)
theorem dX4_suits_102 : decode cX4_suits 102 = .ok (.ireturn, 1) := dk_172 (dk_at dksX4_suits_4 7 rfl rfl)
abbrev cX4_tell : ByteArray := prog_34_method_70_code
def yX4_tell : MethodName := ⟨RX4, "tell", "(I)I"⟩
def dkwX4_tell_1 : List UInt8 := [180, 0, 73, 42, 180, 1, 77, 27, 79, 42, 89, 180, 1, 77, 4, 96, 181, 1, 77, 42, 180, 1, 77, 172]
abbrev dktX4_tell_1 : List UInt8 := dkwX4_tell_1 ++ []
def dkwX4_tell_0 : List UInt8 := [27, 184, 0, 208, 154, 0, 5, 2, 172, 42, 180, 1, 77, 16, 8, 160, 0, 6, 16, 253, 172, 42]
abbrev dktX4_tell_0 : List UInt8 := dkwX4_tell_0 ++ dktX4_tell_1
theorem dksX4_tell_0 : cX4_tell.data.toList.drop 0 = dktX4_tell_0 := by decide +kernel
theorem dksX4_tell_1 : cX4_tell.data.toList.drop 22 = dktX4_tell_1 := dk_seg dksX4_tell_0 22 rfl rfl
theorem dX4_tell_0 : decode cX4_tell 0 = .ok (.iload_n 1, 1) := dk_27 (dk_at dksX4_tell_0 0 rfl rfl)
theorem dX4_tell_1 : decode cX4_tell 1 = .ok (.invokestatic 208, 3) := dk_184 0 208 (dk_at dksX4_tell_0 1 rfl rfl)
theorem dX4_tell_4 : decode cX4_tell 4 = .ok (.ifCond .ne 5, 3) := dk_154 0 5 (dk_at dksX4_tell_0 4 rfl rfl)
theorem dX4_tell_7 : decode cX4_tell 7 = .ok (.iconst (-1), 1) := dk_2 (dk_at dksX4_tell_0 7 rfl rfl)
theorem dX4_tell_8 : decode cX4_tell 8 = .ok (.ireturn, 1) := dk_172 (dk_at dksX4_tell_0 8 rfl rfl)
theorem dX4_tell_9 : decode cX4_tell 9 = .ok (.aload_n 0, 1) := dk_42 (dk_at dksX4_tell_0 9 rfl rfl)
theorem dX4_tell_10 : decode cX4_tell 10 = .ok (.getfield 333, 3) := dk_180 1 77 (dk_at dksX4_tell_0 10 rfl rfl)
theorem dX4_tell_13 : decode cX4_tell 13 = .ok (.bipush 8, 2) := dk_16 8 (dk_at dksX4_tell_0 13 rfl rfl)
theorem dX4_tell_15 : decode cX4_tell 15 = .ok (.if_icmp .ne 6, 3) := dk_160 0 6 (dk_at dksX4_tell_0 15 rfl rfl)
theorem dX4_tell_18 : decode cX4_tell 18 = .ok (.bipush (-3), 2) := dk_16 253 (dk_at dksX4_tell_0 18 rfl rfl)
theorem dX4_tell_20 : decode cX4_tell 20 = .ok (.ireturn, 1) := dk_172 (dk_at dksX4_tell_0 20 rfl rfl)
theorem dX4_tell_21 : decode cX4_tell 21 = .ok (.aload_n 0, 1) := dk_42 (dk_at dksX4_tell_0 21 rfl rfl)
theorem dX4_tell_22 : decode cX4_tell 22 = .ok (.getfield 73, 3) := dk_180 0 73 (dk_at dksX4_tell_1 0 rfl rfl)
theorem dX4_tell_25 : decode cX4_tell 25 = .ok (.aload_n 0, 1) := dk_42 (dk_at dksX4_tell_1 3 rfl rfl)
theorem dX4_tell_26 : decode cX4_tell 26 = .ok (.getfield 333, 3) := dk_180 1 77 (dk_at dksX4_tell_1 4 rfl rfl)
theorem dX4_tell_29 : decode cX4_tell 29 = .ok (.iload_n 1, 1) := dk_27 (dk_at dksX4_tell_1 7 rfl rfl)
theorem dX4_tell_30 : decode cX4_tell 30 = .ok (.iastore, 1) := dk_79 (dk_at dksX4_tell_1 8 rfl rfl)
theorem dX4_tell_31 : decode cX4_tell 31 = .ok (.aload_n 0, 1) := dk_42 (dk_at dksX4_tell_1 9 rfl rfl)
theorem dX4_tell_32 : decode cX4_tell 32 = .ok (.dup, 1) := dk_89 (dk_at dksX4_tell_1 10 rfl rfl)
theorem dX4_tell_33 : decode cX4_tell 33 = .ok (.getfield 333, 3) := dk_180 1 77 (dk_at dksX4_tell_1 11 rfl rfl)
theorem dX4_tell_36 : decode cX4_tell 36 = .ok (.iconst 1, 1) := dk_4 (dk_at dksX4_tell_1 14 rfl rfl)
theorem dX4_tell_37 : decode cX4_tell 37 = .ok (.iadd, 1) := dk_96 (dk_at dksX4_tell_1 15 rfl rfl)
theorem dX4_tell_38 : decode cX4_tell 38 = .ok (.putfield 333, 3) := dk_181 1 77 (dk_at dksX4_tell_1 16 rfl rfl)
theorem dX4_tell_41 : decode cX4_tell 41 = .ok (.aload_n 0, 1) := dk_42 (dk_at dksX4_tell_1 19 rfl rfl)
theorem dX4_tell_42 : decode cX4_tell 42 = .ok (.getfield 333, 3) := dk_180 1 77 (dk_at dksX4_tell_1 20 rfl rfl)
theorem dX4_tell_45 : decode cX4_tell 45 = .ok (.ireturn, 1) := dk_172 (dk_at dksX4_tell_1 23 rfl rfl)
abbrev cX4_untell : ByteArray := prog_34_method_71_code
def yX4_untell : MethodName := ⟨RX4, "untell", "()I"⟩
def dkwX4_untell_0 : List UInt8 := [42, 180, 1, 77, 60, 42, 3, 181, 1, 77, 27, 172]
abbrev dktX4_untell_0 : List UInt8 := dkwX4_untell_0 ++ []
theorem dksX4_untell_0 : cX4_untell.data.toList.drop 0 = dktX4_untell_0 := by decide +kernel
theorem dX4_untell_0 : decode cX4_untell 0 = .ok (.aload_n 0, 1) := dk_42 (dk_at dksX4_untell_0 0 rfl rfl)
theorem dX4_untell_1 : decode cX4_untell 1 = .ok (.getfield 333, 3) := dk_180 1 77 (dk_at dksX4_untell_0 1 rfl rfl)
theorem dX4_untell_4 : decode cX4_untell 4 = .ok (.istore_n 1, 1) := dk_60 (dk_at dksX4_untell_0 4 rfl rfl)
theorem dX4_untell_5 : decode cX4_untell 5 = .ok (.aload_n 0, 1) := dk_42 (dk_at dksX4_untell_0 5 rfl rfl)
theorem dX4_untell_6 : decode cX4_untell 6 = .ok (.iconst 0, 1) := dk_3 (dk_at dksX4_untell_0 6 rfl rfl)
theorem dX4_untell_7 : decode cX4_untell 7 = .ok (.putfield 333, 3) := dk_181 1 77 (dk_at dksX4_untell_0 7 rfl rfl)
theorem dX4_untell_10 : decode cX4_untell 10 = .ok (.iload_n 1, 1) := dk_27 (dk_at dksX4_untell_0 10 rfl rfl)
theorem dX4_untell_11 : decode cX4_untell 11 = .ok (.ireturn, 1) := dk_172 (dk_at dksX4_untell_0 11 rfl rfl)
abbrev cX4_parts : ByteArray := prog_34_method_72_code
def yX4_parts : MethodName := ⟨RX4, "parts", "(III)I"⟩
def dkwX4_parts_9 : List UInt8 := [172]
abbrev dktX4_parts_9 : List UInt8 := dkwX4_parts_9 ++ []
def dkwX4_parts_8 : List UInt8 := [167, 255, 123, 21, 4, 156, 0, 8, 16, 254, 167, 0, 14, 29, 154, 0, 8, 21, 4, 167, 0, 5, 21, 5]
abbrev dktX4_parts_8 : List UInt8 := dkwX4_parts_8 ++ dktX4_parts_9
def dkwX4_parts_7 : List UInt8 := [21, 7, 100, 21, 5, 164, 0, 14, 21, 6, 54, 4, 21, 8, 21, 7, 100, 54, 5, 132, 6, 1]
abbrev dktX4_parts_7 : List UInt8 := dkwX4_parts_7 ++ dktX4_parts_8
def dkwX4_parts_6 : List UInt8 := [182, 1, 27, 167, 0, 5, 21, 8, 54, 8, 132, 9, 1, 167, 255, 173, 21, 7, 155, 0, 24, 21, 8]
abbrev dktX4_parts_6 : List UInt8 := dkwX4_parts_6 ++ dktX4_parts_7
def dkwX4_parts_5 : List UInt8 := [162, 0, 10, 42, 182, 1, 27, 167, 0, 5, 21, 7, 54, 7, 42, 182, 1, 27, 21, 8, 164, 0, 10, 42]
abbrev dktX4_parts_5 : List UInt8 := dkwX4_parts_5 ++ dktX4_parts_6
def dkwX4_parts_4 : List UInt8 := [180, 0, 73, 21, 6, 46, 3, 182, 1, 23, 153, 0, 48, 21, 7, 155, 0, 12, 42, 182, 1, 27, 21, 7]
abbrev dktX4_parts_4 : List UInt8 := dkwX4_parts_4 ++ dktX4_parts_5
def dkwX4_parts_3 : List UInt8 := [21, 9, 16, 7, 162, 0, 82, 28, 21, 9, 122, 4, 126, 4, 160, 0, 66, 42, 27, 21, 9, 42]
abbrev dktX4_parts_3 : List UInt8 := dkwX4_parts_3 ++ dktX4_parts_4
def dkwX4_parts_2 : List UInt8 := [54, 5, 3, 54, 6, 21, 6, 42, 180, 1, 77, 162, 0, 130, 2, 54, 7, 2, 54, 8, 3, 54, 9]
abbrev dktX4_parts_2 : List UInt8 := dkwX4_parts_2 ++ dktX4_parts_3
def dkwX4_parts_1 : List UInt8 := [184, 0, 113, 154, 0, 5, 2, 172, 42, 180, 1, 77, 154, 0, 6, 16, 251, 172, 16, 254, 54, 4, 2]
abbrev dktX4_parts_1 : List UInt8 := dkwX4_parts_1 ++ dktX4_parts_2
def dkwX4_parts_0 : List UInt8 := [42, 27, 182, 0, 188, 153, 0, 25, 28, 133, 9, 20, 1, 80, 184, 0, 113, 153, 0, 13, 29, 133, 9, 10]
abbrev dktX4_parts_0 : List UInt8 := dkwX4_parts_0 ++ dktX4_parts_1
theorem dksX4_parts_0 : cX4_parts.data.toList.drop 0 = dktX4_parts_0 := by decide +kernel
theorem dksX4_parts_1 : cX4_parts.data.toList.drop 24 = dktX4_parts_1 := dk_seg dksX4_parts_0 24 rfl rfl
theorem dksX4_parts_2 : cX4_parts.data.toList.drop 47 = dktX4_parts_2 := dk_seg dksX4_parts_1 23 rfl rfl
theorem dksX4_parts_3 : cX4_parts.data.toList.drop 70 = dktX4_parts_3 := dk_seg dksX4_parts_2 23 rfl rfl
theorem dksX4_parts_4 : cX4_parts.data.toList.drop 92 = dktX4_parts_4 := dk_seg dksX4_parts_3 22 rfl rfl
theorem dksX4_parts_5 : cX4_parts.data.toList.drop 116 = dktX4_parts_5 := dk_seg dksX4_parts_4 24 rfl rfl
theorem dksX4_parts_6 : cX4_parts.data.toList.drop 140 = dktX4_parts_6 := dk_seg dksX4_parts_5 24 rfl rfl
theorem dksX4_parts_7 : cX4_parts.data.toList.drop 163 = dktX4_parts_7 := dk_seg dksX4_parts_6 23 rfl rfl
theorem dksX4_parts_8 : cX4_parts.data.toList.drop 185 = dktX4_parts_8 := dk_seg dksX4_parts_7 22 rfl rfl
theorem dksX4_parts_9 : cX4_parts.data.toList.drop 209 = dktX4_parts_9 := dk_seg dksX4_parts_8 24 rfl rfl
theorem dX4_parts_0 : decode cX4_parts 0 = .ok (.aload_n 0, 1) := dk_42 (dk_at dksX4_parts_0 0 rfl rfl)
theorem dX4_parts_1 : decode cX4_parts 1 = .ok (.iload_n 1, 1) := dk_27 (dk_at dksX4_parts_0 1 rfl rfl)
theorem dX4_parts_2 : decode cX4_parts 2 = .ok (.invokevirtual 188, 3) := dk_182 0 188 (dk_at dksX4_parts_0 2 rfl rfl)
theorem dX4_parts_5 : decode cX4_parts 5 = .ok (.ifCond .eq 25, 3) := dk_153 0 25 (dk_at dksX4_parts_0 5 rfl rfl)
theorem dX4_parts_8 : decode cX4_parts 8 = .ok (.iload_n 2, 1) := dk_28 (dk_at dksX4_parts_0 8 rfl rfl)
theorem dX4_parts_9 : decode cX4_parts 9 = .ok (.i2l, 1) := dk_133 (dk_at dksX4_parts_0 9 rfl rfl)
theorem dX4_parts_10 : decode cX4_parts 10 = .ok (.lconst 0, 1) := dk_9 (dk_at dksX4_parts_0 10 rfl rfl)
theorem dX4_parts_11 : decode cX4_parts 11 = .ok (.ldc2_w 336, 3) := dk_20 1 80 (dk_at dksX4_parts_0 11 rfl rfl)
theorem dX4_parts_14 : decode cX4_parts 14 = .ok (.invokestatic 113, 3) := dk_184 0 113 (dk_at dksX4_parts_0 14 rfl rfl)
theorem dX4_parts_17 : decode cX4_parts 17 = .ok (.ifCond .eq 13, 3) := dk_153 0 13 (dk_at dksX4_parts_0 17 rfl rfl)
theorem dX4_parts_20 : decode cX4_parts 20 = .ok (.iload_n 3, 1) := dk_29 (dk_at dksX4_parts_0 20 rfl rfl)
theorem dX4_parts_21 : decode cX4_parts 21 = .ok (.i2l, 1) := dk_133 (dk_at dksX4_parts_0 21 rfl rfl)
theorem dX4_parts_22 : decode cX4_parts 22 = .ok (.lconst 0, 1) := dk_9 (dk_at dksX4_parts_0 22 rfl rfl)
theorem dX4_parts_23 : decode cX4_parts 23 = .ok (.lconst 1, 1) := dk_10 (dk_at dksX4_parts_0 23 rfl rfl)
theorem dX4_parts_24 : decode cX4_parts 24 = .ok (.invokestatic 113, 3) := dk_184 0 113 (dk_at dksX4_parts_1 0 rfl rfl)
theorem dX4_parts_27 : decode cX4_parts 27 = .ok (.ifCond .ne 5, 3) := dk_154 0 5 (dk_at dksX4_parts_1 3 rfl rfl)
theorem dX4_parts_30 : decode cX4_parts 30 = .ok (.iconst (-1), 1) := dk_2 (dk_at dksX4_parts_1 6 rfl rfl)
theorem dX4_parts_31 : decode cX4_parts 31 = .ok (.ireturn, 1) := dk_172 (dk_at dksX4_parts_1 7 rfl rfl)
theorem dX4_parts_32 : decode cX4_parts 32 = .ok (.aload_n 0, 1) := dk_42 (dk_at dksX4_parts_1 8 rfl rfl)
theorem dX4_parts_33 : decode cX4_parts 33 = .ok (.getfield 333, 3) := dk_180 1 77 (dk_at dksX4_parts_1 9 rfl rfl)
theorem dX4_parts_36 : decode cX4_parts 36 = .ok (.ifCond .ne 6, 3) := dk_154 0 6 (dk_at dksX4_parts_1 12 rfl rfl)
theorem dX4_parts_39 : decode cX4_parts 39 = .ok (.bipush (-5), 2) := dk_16 251 (dk_at dksX4_parts_1 15 rfl rfl)
theorem dX4_parts_41 : decode cX4_parts 41 = .ok (.ireturn, 1) := dk_172 (dk_at dksX4_parts_1 17 rfl rfl)
theorem dX4_parts_42 : decode cX4_parts 42 = .ok (.bipush (-2), 2) := dk_16 254 (dk_at dksX4_parts_1 18 rfl rfl)
theorem dX4_parts_44 : decode cX4_parts 44 = .ok (.istore 4, 2) := dk_54 4 (dk_at dksX4_parts_1 20 rfl rfl)
theorem dX4_parts_46 : decode cX4_parts 46 = .ok (.iconst (-1), 1) := dk_2 (dk_at dksX4_parts_1 22 rfl rfl)
theorem dX4_parts_47 : decode cX4_parts 47 = .ok (.istore 5, 2) := dk_54 5 (dk_at dksX4_parts_2 0 rfl rfl)
theorem dX4_parts_49 : decode cX4_parts 49 = .ok (.iconst 0, 1) := dk_3 (dk_at dksX4_parts_2 2 rfl rfl)
theorem dX4_parts_50 : decode cX4_parts 50 = .ok (.istore 6, 2) := dk_54 6 (dk_at dksX4_parts_2 3 rfl rfl)
theorem dX4_parts_52 : decode cX4_parts 52 = .ok (.iload 6, 2) := dk_21 6 (dk_at dksX4_parts_2 5 rfl rfl)
theorem dX4_parts_54 : decode cX4_parts 54 = .ok (.aload_n 0, 1) := dk_42 (dk_at dksX4_parts_2 7 rfl rfl)
theorem dX4_parts_55 : decode cX4_parts 55 = .ok (.getfield 333, 3) := dk_180 1 77 (dk_at dksX4_parts_2 8 rfl rfl)
theorem dX4_parts_58 : decode cX4_parts 58 = .ok (.if_icmp .ge 130, 3) := dk_162 0 130 (dk_at dksX4_parts_2 11 rfl rfl)
theorem dX4_parts_61 : decode cX4_parts 61 = .ok (.iconst (-1), 1) := dk_2 (dk_at dksX4_parts_2 14 rfl rfl)
theorem dX4_parts_62 : decode cX4_parts 62 = .ok (.istore 7, 2) := dk_54 7 (dk_at dksX4_parts_2 15 rfl rfl)
theorem dX4_parts_64 : decode cX4_parts 64 = .ok (.iconst (-1), 1) := dk_2 (dk_at dksX4_parts_2 17 rfl rfl)
theorem dX4_parts_65 : decode cX4_parts 65 = .ok (.istore 8, 2) := dk_54 8 (dk_at dksX4_parts_2 18 rfl rfl)
theorem dX4_parts_67 : decode cX4_parts 67 = .ok (.iconst 0, 1) := dk_3 (dk_at dksX4_parts_2 20 rfl rfl)
theorem dX4_parts_68 : decode cX4_parts 68 = .ok (.istore 9, 2) := dk_54 9 (dk_at dksX4_parts_2 21 rfl rfl)
theorem dX4_parts_70 : decode cX4_parts 70 = .ok (.iload 9, 2) := dk_21 9 (dk_at dksX4_parts_3 0 rfl rfl)
theorem dX4_parts_72 : decode cX4_parts 72 = .ok (.bipush 7, 2) := dk_16 7 (dk_at dksX4_parts_3 2 rfl rfl)
theorem dX4_parts_74 : decode cX4_parts 74 = .ok (.if_icmp .ge 82, 3) := dk_162 0 82 (dk_at dksX4_parts_3 4 rfl rfl)
theorem dX4_parts_77 : decode cX4_parts 77 = .ok (.iload_n 2, 1) := dk_28 (dk_at dksX4_parts_3 7 rfl rfl)
theorem dX4_parts_78 : decode cX4_parts 78 = .ok (.iload 9, 2) := dk_21 9 (dk_at dksX4_parts_3 8 rfl rfl)
theorem dX4_parts_80 : decode cX4_parts 80 = .ok (.ishr, 1) := dk_122 (dk_at dksX4_parts_3 10 rfl rfl)
theorem dX4_parts_81 : decode cX4_parts 81 = .ok (.iconst 1, 1) := dk_4 (dk_at dksX4_parts_3 11 rfl rfl)
theorem dX4_parts_82 : decode cX4_parts 82 = .ok (.iand, 1) := dk_126 (dk_at dksX4_parts_3 12 rfl rfl)
theorem dX4_parts_83 : decode cX4_parts 83 = .ok (.iconst 1, 1) := dk_4 (dk_at dksX4_parts_3 13 rfl rfl)
theorem dX4_parts_84 : decode cX4_parts 84 = .ok (.if_icmp .ne 66, 3) := dk_160 0 66 (dk_at dksX4_parts_3 14 rfl rfl)
theorem dX4_parts_87 : decode cX4_parts 87 = .ok (.aload_n 0, 1) := dk_42 (dk_at dksX4_parts_3 17 rfl rfl)
theorem dX4_parts_88 : decode cX4_parts 88 = .ok (.iload_n 1, 1) := dk_27 (dk_at dksX4_parts_3 18 rfl rfl)
theorem dX4_parts_89 : decode cX4_parts 89 = .ok (.iload 9, 2) := dk_21 9 (dk_at dksX4_parts_3 19 rfl rfl)
theorem dX4_parts_91 : decode cX4_parts 91 = .ok (.aload_n 0, 1) := dk_42 (dk_at dksX4_parts_3 21 rfl rfl)
theorem dX4_parts_92 : decode cX4_parts 92 = .ok (.getfield 73, 3) := dk_180 0 73 (dk_at dksX4_parts_4 0 rfl rfl)
theorem dX4_parts_95 : decode cX4_parts 95 = .ok (.iload 6, 2) := dk_21 6 (dk_at dksX4_parts_4 3 rfl rfl)
theorem dX4_parts_97 : decode cX4_parts 97 = .ok (.iaload, 1) := dk_46 (dk_at dksX4_parts_4 5 rfl rfl)
theorem dX4_parts_98 : decode cX4_parts 98 = .ok (.iconst 0, 1) := dk_3 (dk_at dksX4_parts_4 6 rfl rfl)
theorem dX4_parts_99 : decode cX4_parts 99 = .ok (.invokevirtual 279, 3) := dk_182 1 23 (dk_at dksX4_parts_4 7 rfl rfl)
theorem dX4_parts_102 : decode cX4_parts 102 = .ok (.ifCond .eq 48, 3) := dk_153 0 48 (dk_at dksX4_parts_4 10 rfl rfl)
theorem dX4_parts_105 : decode cX4_parts 105 = .ok (.iload 7, 2) := dk_21 7 (dk_at dksX4_parts_4 13 rfl rfl)
theorem dX4_parts_107 : decode cX4_parts 107 = .ok (.ifCond .lt 12, 3) := dk_155 0 12 (dk_at dksX4_parts_4 15 rfl rfl)
theorem dX4_parts_110 : decode cX4_parts 110 = .ok (.aload_n 0, 1) := dk_42 (dk_at dksX4_parts_4 18 rfl rfl)
theorem dX4_parts_111 : decode cX4_parts 111 = .ok (.invokevirtual 283, 3) := dk_182 1 27 (dk_at dksX4_parts_4 19 rfl rfl)
theorem dX4_parts_114 : decode cX4_parts 114 = .ok (.iload 7, 2) := dk_21 7 (dk_at dksX4_parts_4 22 rfl rfl)
theorem dX4_parts_116 : decode cX4_parts 116 = .ok (.if_icmp .ge 10, 3) := dk_162 0 10 (dk_at dksX4_parts_5 0 rfl rfl)
theorem dX4_parts_119 : decode cX4_parts 119 = .ok (.aload_n 0, 1) := dk_42 (dk_at dksX4_parts_5 3 rfl rfl)
theorem dX4_parts_120 : decode cX4_parts 120 = .ok (.invokevirtual 283, 3) := dk_182 1 27 (dk_at dksX4_parts_5 4 rfl rfl)
theorem dX4_parts_123 : decode cX4_parts 123 = .ok (.goto 5, 3) := dk_167 0 5 (dk_at dksX4_parts_5 7 rfl rfl)
theorem dX4_parts_126 : decode cX4_parts 126 = .ok (.iload 7, 2) := dk_21 7 (dk_at dksX4_parts_5 10 rfl rfl)
theorem dX4_parts_128 : decode cX4_parts 128 = .ok (.istore 7, 2) := dk_54 7 (dk_at dksX4_parts_5 12 rfl rfl)
theorem dX4_parts_130 : decode cX4_parts 130 = .ok (.aload_n 0, 1) := dk_42 (dk_at dksX4_parts_5 14 rfl rfl)
theorem dX4_parts_131 : decode cX4_parts 131 = .ok (.invokevirtual 283, 3) := dk_182 1 27 (dk_at dksX4_parts_5 15 rfl rfl)
theorem dX4_parts_134 : decode cX4_parts 134 = .ok (.iload 8, 2) := dk_21 8 (dk_at dksX4_parts_5 18 rfl rfl)
theorem dX4_parts_136 : decode cX4_parts 136 = .ok (.if_icmp .le 10, 3) := dk_164 0 10 (dk_at dksX4_parts_5 20 rfl rfl)
theorem dX4_parts_139 : decode cX4_parts 139 = .ok (.aload_n 0, 1) := dk_42 (dk_at dksX4_parts_5 23 rfl rfl)
theorem dX4_parts_140 : decode cX4_parts 140 = .ok (.invokevirtual 283, 3) := dk_182 1 27 (dk_at dksX4_parts_6 0 rfl rfl)
theorem dX4_parts_143 : decode cX4_parts 143 = .ok (.goto 5, 3) := dk_167 0 5 (dk_at dksX4_parts_6 3 rfl rfl)
theorem dX4_parts_146 : decode cX4_parts 146 = .ok (.iload 8, 2) := dk_21 8 (dk_at dksX4_parts_6 6 rfl rfl)
theorem dX4_parts_148 : decode cX4_parts 148 = .ok (.istore 8, 2) := dk_54 8 (dk_at dksX4_parts_6 8 rfl rfl)
theorem dX4_parts_150 : decode cX4_parts 150 = .ok (.iinc 9 1, 3) := dk_132 9 1 (dk_at dksX4_parts_6 10 rfl rfl)
theorem dX4_parts_153 : decode cX4_parts 153 = .ok (.goto (-83), 3) := dk_167 255 173 (dk_at dksX4_parts_6 13 rfl rfl)
theorem dX4_parts_156 : decode cX4_parts 156 = .ok (.iload 7, 2) := dk_21 7 (dk_at dksX4_parts_6 16 rfl rfl)
theorem dX4_parts_158 : decode cX4_parts 158 = .ok (.ifCond .lt 24, 3) := dk_155 0 24 (dk_at dksX4_parts_6 18 rfl rfl)
theorem dX4_parts_161 : decode cX4_parts 161 = .ok (.iload 8, 2) := dk_21 8 (dk_at dksX4_parts_6 21 rfl rfl)
theorem dX4_parts_163 : decode cX4_parts 163 = .ok (.iload 7, 2) := dk_21 7 (dk_at dksX4_parts_7 0 rfl rfl)
theorem dX4_parts_165 : decode cX4_parts 165 = .ok (.isub, 1) := dk_100 (dk_at dksX4_parts_7 2 rfl rfl)
theorem dX4_parts_166 : decode cX4_parts 166 = .ok (.iload 5, 2) := dk_21 5 (dk_at dksX4_parts_7 3 rfl rfl)
theorem dX4_parts_168 : decode cX4_parts 168 = .ok (.if_icmp .le 14, 3) := dk_164 0 14 (dk_at dksX4_parts_7 5 rfl rfl)
theorem dX4_parts_171 : decode cX4_parts 171 = .ok (.iload 6, 2) := dk_21 6 (dk_at dksX4_parts_7 8 rfl rfl)
theorem dX4_parts_173 : decode cX4_parts 173 = .ok (.istore 4, 2) := dk_54 4 (dk_at dksX4_parts_7 10 rfl rfl)
theorem dX4_parts_175 : decode cX4_parts 175 = .ok (.iload 8, 2) := dk_21 8 (dk_at dksX4_parts_7 12 rfl rfl)
theorem dX4_parts_177 : decode cX4_parts 177 = .ok (.iload 7, 2) := dk_21 7 (dk_at dksX4_parts_7 14 rfl rfl)
theorem dX4_parts_179 : decode cX4_parts 179 = .ok (.isub, 1) := dk_100 (dk_at dksX4_parts_7 16 rfl rfl)
theorem dX4_parts_180 : decode cX4_parts 180 = .ok (.istore 5, 2) := dk_54 5 (dk_at dksX4_parts_7 17 rfl rfl)
theorem dX4_parts_182 : decode cX4_parts 182 = .ok (.iinc 6 1, 3) := dk_132 6 1 (dk_at dksX4_parts_7 19 rfl rfl)
theorem dX4_parts_185 : decode cX4_parts 185 = .ok (.goto (-133), 3) := dk_167 255 123 (dk_at dksX4_parts_8 0 rfl rfl)
theorem dX4_parts_188 : decode cX4_parts 188 = .ok (.iload 4, 2) := dk_21 4 (dk_at dksX4_parts_8 3 rfl rfl)
theorem dX4_parts_190 : decode cX4_parts 190 = .ok (.ifCond .ge 8, 3) := dk_156 0 8 (dk_at dksX4_parts_8 5 rfl rfl)
theorem dX4_parts_193 : decode cX4_parts 193 = .ok (.bipush (-2), 2) := dk_16 254 (dk_at dksX4_parts_8 8 rfl rfl)
theorem dX4_parts_195 : decode cX4_parts 195 = .ok (.goto 14, 3) := dk_167 0 14 (dk_at dksX4_parts_8 10 rfl rfl)
theorem dX4_parts_198 : decode cX4_parts 198 = .ok (.iload_n 3, 1) := dk_29 (dk_at dksX4_parts_8 13 rfl rfl)
theorem dX4_parts_199 : decode cX4_parts 199 = .ok (.ifCond .ne 8, 3) := dk_154 0 8 (dk_at dksX4_parts_8 14 rfl rfl)
theorem dX4_parts_202 : decode cX4_parts 202 = .ok (.iload 4, 2) := dk_21 4 (dk_at dksX4_parts_8 17 rfl rfl)
theorem dX4_parts_204 : decode cX4_parts 204 = .ok (.goto 5, 3) := dk_167 0 5 (dk_at dksX4_parts_8 19 rfl rfl)
theorem dX4_parts_207 : decode cX4_parts 207 = .ok (.iload 5, 2) := dk_21 5 (dk_at dksX4_parts_8 22 rfl rfl)
theorem dX4_parts_209 : decode cX4_parts 209 = .ok (.ireturn, 1) := dk_172 (dk_at dksX4_parts_9 0 rfl rfl)
abbrev cX4_taught : ByteArray := prog_34_method_77_code
def yX4_taught : MethodName := ⟨RX4, "taught", "(III)I"⟩
def dkwX4_taught_4 : List UInt8 := [27, 182, 0, 191, 54, 5, 42, 27, 182, 1, 98, 29, 154, 0, 8, 21, 4, 167, 0, 5, 21, 5, 172]
abbrev dktX4_taught_4 : List UInt8 := dkwX4_taught_4 ++ []
def dkwX4_taught_3 : List UInt8 := [180, 0, 73, 21, 5, 42, 180, 1, 77, 112, 46, 182, 1, 95, 96, 54, 4, 132, 5, 1, 167, 255, 225, 42]
abbrev dktX4_taught_3 : List UInt8 := dkwX4_taught_3 ++ dktX4_taught_4
def dkwX4_taught_2 : List UInt8 := [172, 42, 27, 182, 1, 91, 3, 54, 4, 3, 54, 5, 21, 5, 28, 162, 0, 31, 21, 4, 42, 27, 42]
abbrev dktX4_taught_2 : List UInt8 := dkwX4_taught_2 ++ dktX4_taught_3
def dkwX4_taught_1 : List UInt8 := [184, 0, 113, 153, 0, 10, 42, 182, 1, 87, 153, 0, 5, 2, 172, 42, 180, 1, 77, 154, 0, 6, 16, 251]
abbrev dktX4_taught_1 : List UInt8 := dkwX4_taught_1 ++ dktX4_taught_2
def dkwX4_taught_0 : List UInt8 := [42, 27, 182, 0, 188, 153, 0, 32, 28, 133, 10, 20, 1, 85, 184, 0, 113, 153, 0, 20, 29, 133, 9, 10]
abbrev dktX4_taught_0 : List UInt8 := dkwX4_taught_0 ++ dktX4_taught_1
theorem dksX4_taught_0 : cX4_taught.data.toList.drop 0 = dktX4_taught_0 := by decide +kernel
theorem dksX4_taught_1 : cX4_taught.data.toList.drop 24 = dktX4_taught_1 := dk_seg dksX4_taught_0 24 rfl rfl
theorem dksX4_taught_2 : cX4_taught.data.toList.drop 48 = dktX4_taught_2 := dk_seg dksX4_taught_1 24 rfl rfl
theorem dksX4_taught_3 : cX4_taught.data.toList.drop 71 = dktX4_taught_3 := dk_seg dksX4_taught_2 23 rfl rfl
theorem dksX4_taught_4 : cX4_taught.data.toList.drop 95 = dktX4_taught_4 := dk_seg dksX4_taught_3 24 rfl rfl
theorem dX4_taught_0 : decode cX4_taught 0 = .ok (.aload_n 0, 1) := dk_42 (dk_at dksX4_taught_0 0 rfl rfl)
theorem dX4_taught_1 : decode cX4_taught 1 = .ok (.iload_n 1, 1) := dk_27 (dk_at dksX4_taught_0 1 rfl rfl)
theorem dX4_taught_2 : decode cX4_taught 2 = .ok (.invokevirtual 188, 3) := dk_182 0 188 (dk_at dksX4_taught_0 2 rfl rfl)
theorem dX4_taught_5 : decode cX4_taught 5 = .ok (.ifCond .eq 32, 3) := dk_153 0 32 (dk_at dksX4_taught_0 5 rfl rfl)
theorem dX4_taught_8 : decode cX4_taught 8 = .ok (.iload_n 2, 1) := dk_28 (dk_at dksX4_taught_0 8 rfl rfl)
theorem dX4_taught_9 : decode cX4_taught 9 = .ok (.i2l, 1) := dk_133 (dk_at dksX4_taught_0 9 rfl rfl)
theorem dX4_taught_10 : decode cX4_taught 10 = .ok (.lconst 1, 1) := dk_10 (dk_at dksX4_taught_0 10 rfl rfl)
theorem dX4_taught_11 : decode cX4_taught 11 = .ok (.ldc2_w 341, 3) := dk_20 1 85 (dk_at dksX4_taught_0 11 rfl rfl)
theorem dX4_taught_14 : decode cX4_taught 14 = .ok (.invokestatic 113, 3) := dk_184 0 113 (dk_at dksX4_taught_0 14 rfl rfl)
theorem dX4_taught_17 : decode cX4_taught 17 = .ok (.ifCond .eq 20, 3) := dk_153 0 20 (dk_at dksX4_taught_0 17 rfl rfl)
theorem dX4_taught_20 : decode cX4_taught 20 = .ok (.iload_n 3, 1) := dk_29 (dk_at dksX4_taught_0 20 rfl rfl)
theorem dX4_taught_21 : decode cX4_taught 21 = .ok (.i2l, 1) := dk_133 (dk_at dksX4_taught_0 21 rfl rfl)
theorem dX4_taught_22 : decode cX4_taught 22 = .ok (.lconst 0, 1) := dk_9 (dk_at dksX4_taught_0 22 rfl rfl)
theorem dX4_taught_23 : decode cX4_taught 23 = .ok (.lconst 1, 1) := dk_10 (dk_at dksX4_taught_0 23 rfl rfl)
theorem dX4_taught_24 : decode cX4_taught 24 = .ok (.invokestatic 113, 3) := dk_184 0 113 (dk_at dksX4_taught_1 0 rfl rfl)
theorem dX4_taught_27 : decode cX4_taught 27 = .ok (.ifCond .eq 10, 3) := dk_153 0 10 (dk_at dksX4_taught_1 3 rfl rfl)
theorem dX4_taught_30 : decode cX4_taught 30 = .ok (.aload_n 0, 1) := dk_42 (dk_at dksX4_taught_1 6 rfl rfl)
theorem dX4_taught_31 : decode cX4_taught 31 = .ok (.invokevirtual 343, 3) := dk_182 1 87 (dk_at dksX4_taught_1 7 rfl rfl)
theorem dX4_taught_34 : decode cX4_taught 34 = .ok (.ifCond .eq 5, 3) := dk_153 0 5 (dk_at dksX4_taught_1 10 rfl rfl)
theorem dX4_taught_37 : decode cX4_taught 37 = .ok (.iconst (-1), 1) := dk_2 (dk_at dksX4_taught_1 13 rfl rfl)
theorem dX4_taught_38 : decode cX4_taught 38 = .ok (.ireturn, 1) := dk_172 (dk_at dksX4_taught_1 14 rfl rfl)
theorem dX4_taught_39 : decode cX4_taught 39 = .ok (.aload_n 0, 1) := dk_42 (dk_at dksX4_taught_1 15 rfl rfl)
theorem dX4_taught_40 : decode cX4_taught 40 = .ok (.getfield 333, 3) := dk_180 1 77 (dk_at dksX4_taught_1 16 rfl rfl)
theorem dX4_taught_43 : decode cX4_taught 43 = .ok (.ifCond .ne 6, 3) := dk_154 0 6 (dk_at dksX4_taught_1 19 rfl rfl)
theorem dX4_taught_46 : decode cX4_taught 46 = .ok (.bipush (-5), 2) := dk_16 251 (dk_at dksX4_taught_1 22 rfl rfl)
theorem dX4_taught_48 : decode cX4_taught 48 = .ok (.ireturn, 1) := dk_172 (dk_at dksX4_taught_2 0 rfl rfl)
theorem dX4_taught_49 : decode cX4_taught 49 = .ok (.aload_n 0, 1) := dk_42 (dk_at dksX4_taught_2 1 rfl rfl)
theorem dX4_taught_50 : decode cX4_taught 50 = .ok (.iload_n 1, 1) := dk_27 (dk_at dksX4_taught_2 2 rfl rfl)
theorem dX4_taught_51 : decode cX4_taught 51 = .ok (.invokevirtual 347, 3) := dk_182 1 91 (dk_at dksX4_taught_2 3 rfl rfl)
theorem dX4_taught_54 : decode cX4_taught 54 = .ok (.iconst 0, 1) := dk_3 (dk_at dksX4_taught_2 6 rfl rfl)
theorem dX4_taught_55 : decode cX4_taught 55 = .ok (.istore 4, 2) := dk_54 4 (dk_at dksX4_taught_2 7 rfl rfl)
theorem dX4_taught_57 : decode cX4_taught 57 = .ok (.iconst 0, 1) := dk_3 (dk_at dksX4_taught_2 9 rfl rfl)
theorem dX4_taught_58 : decode cX4_taught 58 = .ok (.istore 5, 2) := dk_54 5 (dk_at dksX4_taught_2 10 rfl rfl)
theorem dX4_taught_60 : decode cX4_taught 60 = .ok (.iload 5, 2) := dk_21 5 (dk_at dksX4_taught_2 12 rfl rfl)
theorem dX4_taught_62 : decode cX4_taught 62 = .ok (.iload_n 2, 1) := dk_28 (dk_at dksX4_taught_2 14 rfl rfl)
theorem dX4_taught_63 : decode cX4_taught 63 = .ok (.if_icmp .ge 31, 3) := dk_162 0 31 (dk_at dksX4_taught_2 15 rfl rfl)
theorem dX4_taught_66 : decode cX4_taught 66 = .ok (.iload 4, 2) := dk_21 4 (dk_at dksX4_taught_2 18 rfl rfl)
theorem dX4_taught_68 : decode cX4_taught 68 = .ok (.aload_n 0, 1) := dk_42 (dk_at dksX4_taught_2 20 rfl rfl)
theorem dX4_taught_69 : decode cX4_taught 69 = .ok (.iload_n 1, 1) := dk_27 (dk_at dksX4_taught_2 21 rfl rfl)
theorem dX4_taught_70 : decode cX4_taught 70 = .ok (.aload_n 0, 1) := dk_42 (dk_at dksX4_taught_2 22 rfl rfl)
theorem dX4_taught_71 : decode cX4_taught 71 = .ok (.getfield 73, 3) := dk_180 0 73 (dk_at dksX4_taught_3 0 rfl rfl)
theorem dX4_taught_74 : decode cX4_taught 74 = .ok (.iload 5, 2) := dk_21 5 (dk_at dksX4_taught_3 3 rfl rfl)
theorem dX4_taught_76 : decode cX4_taught 76 = .ok (.aload_n 0, 1) := dk_42 (dk_at dksX4_taught_3 5 rfl rfl)
theorem dX4_taught_77 : decode cX4_taught 77 = .ok (.getfield 333, 3) := dk_180 1 77 (dk_at dksX4_taught_3 6 rfl rfl)
theorem dX4_taught_80 : decode cX4_taught 80 = .ok (.irem, 1) := dk_112 (dk_at dksX4_taught_3 9 rfl rfl)
theorem dX4_taught_81 : decode cX4_taught 81 = .ok (.iaload, 1) := dk_46 (dk_at dksX4_taught_3 10 rfl rfl)
theorem dX4_taught_82 : decode cX4_taught 82 = .ok (.invokevirtual 351, 3) := dk_182 1 95 (dk_at dksX4_taught_3 11 rfl rfl)
theorem dX4_taught_85 : decode cX4_taught 85 = .ok (.iadd, 1) := dk_96 (dk_at dksX4_taught_3 14 rfl rfl)
theorem dX4_taught_86 : decode cX4_taught 86 = .ok (.istore 4, 2) := dk_54 4 (dk_at dksX4_taught_3 15 rfl rfl)
theorem dX4_taught_88 : decode cX4_taught 88 = .ok (.iinc 5 1, 3) := dk_132 5 1 (dk_at dksX4_taught_3 17 rfl rfl)
theorem dX4_taught_91 : decode cX4_taught 91 = .ok (.goto (-31), 3) := dk_167 255 225 (dk_at dksX4_taught_3 20 rfl rfl)
theorem dX4_taught_94 : decode cX4_taught 94 = .ok (.aload_n 0, 1) := dk_42 (dk_at dksX4_taught_3 23 rfl rfl)
theorem dX4_taught_95 : decode cX4_taught 95 = .ok (.iload_n 1, 1) := dk_27 (dk_at dksX4_taught_4 0 rfl rfl)
theorem dX4_taught_96 : decode cX4_taught 96 = .ok (.invokevirtual 191, 3) := dk_182 0 191 (dk_at dksX4_taught_4 1 rfl rfl)
theorem dX4_taught_99 : decode cX4_taught 99 = .ok (.istore 5, 2) := dk_54 5 (dk_at dksX4_taught_4 4 rfl rfl)
theorem dX4_taught_101 : decode cX4_taught 101 = .ok (.aload_n 0, 1) := dk_42 (dk_at dksX4_taught_4 6 rfl rfl)
theorem dX4_taught_102 : decode cX4_taught 102 = .ok (.iload_n 1, 1) := dk_27 (dk_at dksX4_taught_4 7 rfl rfl)
theorem dX4_taught_103 : decode cX4_taught 103 = .ok (.invokevirtual 354, 3) := dk_182 1 98 (dk_at dksX4_taught_4 8 rfl rfl)
theorem dX4_taught_106 : decode cX4_taught 106 = .ok (.iload_n 3, 1) := dk_29 (dk_at dksX4_taught_4 11 rfl rfl)
theorem dX4_taught_107 : decode cX4_taught 107 = .ok (.ifCond .ne 8, 3) := dk_154 0 8 (dk_at dksX4_taught_4 12 rfl rfl)
theorem dX4_taught_110 : decode cX4_taught 110 = .ok (.iload 4, 2) := dk_21 4 (dk_at dksX4_taught_4 15 rfl rfl)
theorem dX4_taught_112 : decode cX4_taught 112 = .ok (.goto 5, 3) := dk_167 0 5 (dk_at dksX4_taught_4 17 rfl rfl)
theorem dX4_taught_115 : decode cX4_taught 115 = .ok (.iload 5, 2) := dk_21 5 (dk_at dksX4_taught_4 20 rfl rfl)
theorem dX4_taught_117 : decode cX4_taught 117 = .ok (.ireturn, 1) := dk_172 (dk_at dksX4_taught_4 22 rfl rfl)
abbrev cX4_isListBad : ByteArray := prog_34_method_76_code
def yX4_isListBad : MethodName := ⟨RX4, "isListBad", "()Z"⟩
def dkwX4_isListBad_1 : List UInt8 := [132, 1, 1, 167, 255, 231, 3, 172]
abbrev dktX4_isListBad_1 : List UInt8 := dkwX4_isListBad_1 ++ []
def dkwX4_isListBad_0 : List UInt8 := [3, 60, 27, 42, 180, 1, 77, 162, 0, 23, 42, 180, 0, 73, 27, 46, 184, 0, 202, 154, 0, 5, 4, 172]
abbrev dktX4_isListBad_0 : List UInt8 := dkwX4_isListBad_0 ++ dktX4_isListBad_1
theorem dksX4_isListBad_0 : cX4_isListBad.data.toList.drop 0 = dktX4_isListBad_0 := by decide +kernel
theorem dksX4_isListBad_1 : cX4_isListBad.data.toList.drop 24 = dktX4_isListBad_1 := dk_seg dksX4_isListBad_0 24 rfl rfl
theorem dX4_isListBad_0 : decode cX4_isListBad 0 = .ok (.iconst 0, 1) := dk_3 (dk_at dksX4_isListBad_0 0 rfl rfl)
theorem dX4_isListBad_1 : decode cX4_isListBad 1 = .ok (.istore_n 1, 1) := dk_60 (dk_at dksX4_isListBad_0 1 rfl rfl)
theorem dX4_isListBad_2 : decode cX4_isListBad 2 = .ok (.iload_n 1, 1) := dk_27 (dk_at dksX4_isListBad_0 2 rfl rfl)
theorem dX4_isListBad_3 : decode cX4_isListBad 3 = .ok (.aload_n 0, 1) := dk_42 (dk_at dksX4_isListBad_0 3 rfl rfl)
theorem dX4_isListBad_4 : decode cX4_isListBad 4 = .ok (.getfield 333, 3) := dk_180 1 77 (dk_at dksX4_isListBad_0 4 rfl rfl)
theorem dX4_isListBad_7 : decode cX4_isListBad 7 = .ok (.if_icmp .ge 23, 3) := dk_162 0 23 (dk_at dksX4_isListBad_0 7 rfl rfl)
theorem dX4_isListBad_10 : decode cX4_isListBad 10 = .ok (.aload_n 0, 1) := dk_42 (dk_at dksX4_isListBad_0 10 rfl rfl)
theorem dX4_isListBad_11 : decode cX4_isListBad 11 = .ok (.getfield 73, 3) := dk_180 0 73 (dk_at dksX4_isListBad_0 11 rfl rfl)
theorem dX4_isListBad_14 : decode cX4_isListBad 14 = .ok (.iload_n 1, 1) := dk_27 (dk_at dksX4_isListBad_0 14 rfl rfl)
theorem dX4_isListBad_15 : decode cX4_isListBad 15 = .ok (.iaload, 1) := dk_46 (dk_at dksX4_isListBad_0 15 rfl rfl)
theorem dX4_isListBad_16 : decode cX4_isListBad 16 = .ok (.invokestatic 202, 3) := dk_184 0 202 (dk_at dksX4_isListBad_0 16 rfl rfl)
theorem dX4_isListBad_19 : decode cX4_isListBad 19 = .ok (.ifCond .ne 5, 3) := dk_154 0 5 (dk_at dksX4_isListBad_0 19 rfl rfl)
theorem dX4_isListBad_22 : decode cX4_isListBad 22 = .ok (.iconst 1, 1) := dk_4 (dk_at dksX4_isListBad_0 22 rfl rfl)
theorem dX4_isListBad_23 : decode cX4_isListBad 23 = .ok (.ireturn, 1) := dk_172 (dk_at dksX4_isListBad_0 23 rfl rfl)
theorem dX4_isListBad_24 : decode cX4_isListBad 24 = .ok (.iinc 1 1, 3) := dk_132 1 1 (dk_at dksX4_isListBad_1 0 rfl rfl)
theorem dX4_isListBad_27 : decode cX4_isListBad 27 = .ok (.goto (-25), 3) := dk_167 255 231 (dk_at dksX4_isListBad_1 3 rfl rfl)
theorem dX4_isListBad_30 : decode cX4_isListBad 30 = .ok (.iconst 0, 1) := dk_3 (dk_at dksX4_isListBad_1 6 rfl rfl)
theorem dX4_isListBad_31 : decode cX4_isListBad 31 = .ok (.ireturn, 1) := dk_172 (dk_at dksX4_isListBad_1 7 rfl rfl)
abbrev cX4_keeps : ByteArray := prog_34_method_73_code
def yX4_keeps : MethodName := ⟨RX4, "keeps", "(I)V"⟩
def dkwX4_keeps_1 : List UInt8 := [180, 0, 40, 16, 60, 27, 104, 28, 96, 46, 79, 132, 2, 1, 167, 255, 230, 177]
abbrev dktX4_keeps_1 : List UInt8 := dkwX4_keeps_1 ++ []
def dkwX4_keeps_0 : List UInt8 := [42, 42, 180, 0, 34, 27, 46, 181, 1, 82, 3, 61, 28, 16, 60, 162, 0, 26, 42, 180, 0, 76, 28, 42]
abbrev dktX4_keeps_0 : List UInt8 := dkwX4_keeps_0 ++ dktX4_keeps_1
theorem dksX4_keeps_0 : cX4_keeps.data.toList.drop 0 = dktX4_keeps_0 := by decide +kernel
theorem dksX4_keeps_1 : cX4_keeps.data.toList.drop 24 = dktX4_keeps_1 := dk_seg dksX4_keeps_0 24 rfl rfl
theorem dX4_keeps_0 : decode cX4_keeps 0 = .ok (.aload_n 0, 1) := dk_42 (dk_at dksX4_keeps_0 0 rfl rfl)
theorem dX4_keeps_1 : decode cX4_keeps 1 = .ok (.aload_n 0, 1) := dk_42 (dk_at dksX4_keeps_0 1 rfl rfl)
theorem dX4_keeps_2 : decode cX4_keeps 2 = .ok (.getfield 34, 3) := dk_180 0 34 (dk_at dksX4_keeps_0 2 rfl rfl)
theorem dX4_keeps_5 : decode cX4_keeps 5 = .ok (.iload_n 1, 1) := dk_27 (dk_at dksX4_keeps_0 5 rfl rfl)
theorem dX4_keeps_6 : decode cX4_keeps 6 = .ok (.iaload, 1) := dk_46 (dk_at dksX4_keeps_0 6 rfl rfl)
theorem dX4_keeps_7 : decode cX4_keeps 7 = .ok (.putfield 338, 3) := dk_181 1 82 (dk_at dksX4_keeps_0 7 rfl rfl)
theorem dX4_keeps_10 : decode cX4_keeps 10 = .ok (.iconst 0, 1) := dk_3 (dk_at dksX4_keeps_0 10 rfl rfl)
theorem dX4_keeps_11 : decode cX4_keeps 11 = .ok (.istore_n 2, 1) := dk_61 (dk_at dksX4_keeps_0 11 rfl rfl)
theorem dX4_keeps_12 : decode cX4_keeps 12 = .ok (.iload_n 2, 1) := dk_28 (dk_at dksX4_keeps_0 12 rfl rfl)
theorem dX4_keeps_13 : decode cX4_keeps 13 = .ok (.bipush 60, 2) := dk_16 60 (dk_at dksX4_keeps_0 13 rfl rfl)
theorem dX4_keeps_15 : decode cX4_keeps 15 = .ok (.if_icmp .ge 26, 3) := dk_162 0 26 (dk_at dksX4_keeps_0 15 rfl rfl)
theorem dX4_keeps_18 : decode cX4_keeps 18 = .ok (.aload_n 0, 1) := dk_42 (dk_at dksX4_keeps_0 18 rfl rfl)
theorem dX4_keeps_19 : decode cX4_keeps 19 = .ok (.getfield 76, 3) := dk_180 0 76 (dk_at dksX4_keeps_0 19 rfl rfl)
theorem dX4_keeps_22 : decode cX4_keeps 22 = .ok (.iload_n 2, 1) := dk_28 (dk_at dksX4_keeps_0 22 rfl rfl)
theorem dX4_keeps_23 : decode cX4_keeps 23 = .ok (.aload_n 0, 1) := dk_42 (dk_at dksX4_keeps_0 23 rfl rfl)
theorem dX4_keeps_24 : decode cX4_keeps 24 = .ok (.getfield 40, 3) := dk_180 0 40 (dk_at dksX4_keeps_1 0 rfl rfl)
theorem dX4_keeps_27 : decode cX4_keeps 27 = .ok (.bipush 60, 2) := dk_16 60 (dk_at dksX4_keeps_1 3 rfl rfl)
theorem dX4_keeps_29 : decode cX4_keeps 29 = .ok (.iload_n 1, 1) := dk_27 (dk_at dksX4_keeps_1 5 rfl rfl)
theorem dX4_keeps_30 : decode cX4_keeps 30 = .ok (.imul, 1) := dk_104 (dk_at dksX4_keeps_1 6 rfl rfl)
theorem dX4_keeps_31 : decode cX4_keeps 31 = .ok (.iload_n 2, 1) := dk_28 (dk_at dksX4_keeps_1 7 rfl rfl)
theorem dX4_keeps_32 : decode cX4_keeps 32 = .ok (.iadd, 1) := dk_96 (dk_at dksX4_keeps_1 8 rfl rfl)
theorem dX4_keeps_33 : decode cX4_keeps 33 = .ok (.iaload, 1) := dk_46 (dk_at dksX4_keeps_1 9 rfl rfl)
theorem dX4_keeps_34 : decode cX4_keeps 34 = .ok (.iastore, 1) := dk_79 (dk_at dksX4_keeps_1 10 rfl rfl)
theorem dX4_keeps_35 : decode cX4_keeps 35 = .ok (.iinc 2 1, 3) := dk_132 2 1 (dk_at dksX4_keeps_1 11 rfl rfl)
theorem dX4_keeps_38 : decode cX4_keeps 38 = .ok (.goto (-26), 3) := dk_167 255 230 (dk_at dksX4_keeps_1 14 rfl rfl)
theorem dX4_keeps_41 : decode cX4_keeps 41 = .ok (.return_, 1) := dk_177 (dk_at dksX4_keeps_1 17 rfl rfl)
abbrev cX4_asksOne : ByteArray := prog_34_method_75_code
def yX4_asksOne : MethodName := ⟨RX4, "asksOne", "(II)I"⟩
def dkwX4_asksOne_1 : List UInt8 := [172]
abbrev dktX4_asksOne_1 : List UInt8 := dkwX4_asksOne_1 ++ []
def dkwX4_asksOne_0 : List UInt8 := [42, 27, 28, 3, 182, 1, 41, 62, 42, 182, 1, 27, 54, 4, 42, 27, 28, 182, 0, 211, 54, 5, 21, 4]
abbrev dktX4_asksOne_0 : List UInt8 := dkwX4_asksOne_0 ++ dktX4_asksOne_1
theorem dksX4_asksOne_0 : cX4_asksOne.data.toList.drop 0 = dktX4_asksOne_0 := by decide +kernel
theorem dksX4_asksOne_1 : cX4_asksOne.data.toList.drop 24 = dktX4_asksOne_1 := dk_seg dksX4_asksOne_0 24 rfl rfl
theorem dX4_asksOne_0 : decode cX4_asksOne 0 = .ok (.aload_n 0, 1) := dk_42 (dk_at dksX4_asksOne_0 0 rfl rfl)
theorem dX4_asksOne_1 : decode cX4_asksOne 1 = .ok (.iload_n 1, 1) := dk_27 (dk_at dksX4_asksOne_0 1 rfl rfl)
theorem dX4_asksOne_2 : decode cX4_asksOne 2 = .ok (.iload_n 2, 1) := dk_28 (dk_at dksX4_asksOne_0 2 rfl rfl)
theorem dX4_asksOne_3 : decode cX4_asksOne 3 = .ok (.iconst 0, 1) := dk_3 (dk_at dksX4_asksOne_0 3 rfl rfl)
theorem dX4_asksOne_4 : decode cX4_asksOne 4 = .ok (.invokevirtual 297, 3) := dk_182 1 41 (dk_at dksX4_asksOne_0 4 rfl rfl)
theorem dX4_asksOne_7 : decode cX4_asksOne 7 = .ok (.istore_n 3, 1) := dk_62 (dk_at dksX4_asksOne_0 7 rfl rfl)
theorem dX4_asksOne_8 : decode cX4_asksOne 8 = .ok (.aload_n 0, 1) := dk_42 (dk_at dksX4_asksOne_0 8 rfl rfl)
theorem dX4_asksOne_9 : decode cX4_asksOne 9 = .ok (.invokevirtual 283, 3) := dk_182 1 27 (dk_at dksX4_asksOne_0 9 rfl rfl)
theorem dX4_asksOne_12 : decode cX4_asksOne 12 = .ok (.istore 4, 2) := dk_54 4 (dk_at dksX4_asksOne_0 12 rfl rfl)
theorem dX4_asksOne_14 : decode cX4_asksOne 14 = .ok (.aload_n 0, 1) := dk_42 (dk_at dksX4_asksOne_0 14 rfl rfl)
theorem dX4_asksOne_15 : decode cX4_asksOne 15 = .ok (.iload_n 1, 1) := dk_27 (dk_at dksX4_asksOne_0 15 rfl rfl)
theorem dX4_asksOne_16 : decode cX4_asksOne 16 = .ok (.iload_n 2, 1) := dk_28 (dk_at dksX4_asksOne_0 16 rfl rfl)
theorem dX4_asksOne_17 : decode cX4_asksOne 17 = .ok (.invokevirtual 211, 3) := dk_182 0 211 (dk_at dksX4_asksOne_0 17 rfl rfl)
theorem dX4_asksOne_20 : decode cX4_asksOne 20 = .ok (.istore 5, 2) := dk_54 5 (dk_at dksX4_asksOne_0 20 rfl rfl)
theorem dX4_asksOne_22 : decode cX4_asksOne 22 = .ok (.iload 4, 2) := dk_21 4 (dk_at dksX4_asksOne_0 22 rfl rfl)
theorem dX4_asksOne_24 : decode cX4_asksOne 24 = .ok (.ireturn, 1) := dk_172 (dk_at dksX4_asksOne_1 0 rfl rfl)
abbrev cX4_putsBack : ByteArray := prog_34_method_74_code
def yX4_putsBack : MethodName := ⟨RX4, "putsBack", "(I)V"⟩
def dkwX4_putsBack_1 : List UInt8 := [27, 104, 28, 96, 42, 180, 0, 76, 28, 46, 79, 132, 2, 1, 167, 255, 230, 177]
abbrev dktX4_putsBack_1 : List UInt8 := dkwX4_putsBack_1 ++ []
def dkwX4_putsBack_0 : List UInt8 := [42, 180, 0, 34, 27, 42, 180, 1, 82, 79, 3, 61, 28, 16, 60, 162, 0, 26, 42, 180, 0, 40, 16, 60]
abbrev dktX4_putsBack_0 : List UInt8 := dkwX4_putsBack_0 ++ dktX4_putsBack_1
theorem dksX4_putsBack_0 : cX4_putsBack.data.toList.drop 0 = dktX4_putsBack_0 := by decide +kernel
theorem dksX4_putsBack_1 : cX4_putsBack.data.toList.drop 24 = dktX4_putsBack_1 := dk_seg dksX4_putsBack_0 24 rfl rfl
theorem dX4_putsBack_0 : decode cX4_putsBack 0 = .ok (.aload_n 0, 1) := dk_42 (dk_at dksX4_putsBack_0 0 rfl rfl)
theorem dX4_putsBack_1 : decode cX4_putsBack 1 = .ok (.getfield 34, 3) := dk_180 0 34 (dk_at dksX4_putsBack_0 1 rfl rfl)
theorem dX4_putsBack_4 : decode cX4_putsBack 4 = .ok (.iload_n 1, 1) := dk_27 (dk_at dksX4_putsBack_0 4 rfl rfl)
theorem dX4_putsBack_5 : decode cX4_putsBack 5 = .ok (.aload_n 0, 1) := dk_42 (dk_at dksX4_putsBack_0 5 rfl rfl)
theorem dX4_putsBack_6 : decode cX4_putsBack 6 = .ok (.getfield 338, 3) := dk_180 1 82 (dk_at dksX4_putsBack_0 6 rfl rfl)
theorem dX4_putsBack_9 : decode cX4_putsBack 9 = .ok (.iastore, 1) := dk_79 (dk_at dksX4_putsBack_0 9 rfl rfl)
theorem dX4_putsBack_10 : decode cX4_putsBack 10 = .ok (.iconst 0, 1) := dk_3 (dk_at dksX4_putsBack_0 10 rfl rfl)
theorem dX4_putsBack_11 : decode cX4_putsBack 11 = .ok (.istore_n 2, 1) := dk_61 (dk_at dksX4_putsBack_0 11 rfl rfl)
theorem dX4_putsBack_12 : decode cX4_putsBack 12 = .ok (.iload_n 2, 1) := dk_28 (dk_at dksX4_putsBack_0 12 rfl rfl)
theorem dX4_putsBack_13 : decode cX4_putsBack 13 = .ok (.bipush 60, 2) := dk_16 60 (dk_at dksX4_putsBack_0 13 rfl rfl)
theorem dX4_putsBack_15 : decode cX4_putsBack 15 = .ok (.if_icmp .ge 26, 3) := dk_162 0 26 (dk_at dksX4_putsBack_0 15 rfl rfl)
theorem dX4_putsBack_18 : decode cX4_putsBack 18 = .ok (.aload_n 0, 1) := dk_42 (dk_at dksX4_putsBack_0 18 rfl rfl)
theorem dX4_putsBack_19 : decode cX4_putsBack 19 = .ok (.getfield 40, 3) := dk_180 0 40 (dk_at dksX4_putsBack_0 19 rfl rfl)
theorem dX4_putsBack_22 : decode cX4_putsBack 22 = .ok (.bipush 60, 2) := dk_16 60 (dk_at dksX4_putsBack_0 22 rfl rfl)
theorem dX4_putsBack_24 : decode cX4_putsBack 24 = .ok (.iload_n 1, 1) := dk_27 (dk_at dksX4_putsBack_1 0 rfl rfl)
theorem dX4_putsBack_25 : decode cX4_putsBack 25 = .ok (.imul, 1) := dk_104 (dk_at dksX4_putsBack_1 1 rfl rfl)
theorem dX4_putsBack_26 : decode cX4_putsBack 26 = .ok (.iload_n 2, 1) := dk_28 (dk_at dksX4_putsBack_1 2 rfl rfl)
theorem dX4_putsBack_27 : decode cX4_putsBack 27 = .ok (.iadd, 1) := dk_96 (dk_at dksX4_putsBack_1 3 rfl rfl)
theorem dX4_putsBack_28 : decode cX4_putsBack 28 = .ok (.aload_n 0, 1) := dk_42 (dk_at dksX4_putsBack_1 4 rfl rfl)
theorem dX4_putsBack_29 : decode cX4_putsBack 29 = .ok (.getfield 76, 3) := dk_180 0 76 (dk_at dksX4_putsBack_1 5 rfl rfl)
theorem dX4_putsBack_32 : decode cX4_putsBack 32 = .ok (.iload_n 2, 1) := dk_28 (dk_at dksX4_putsBack_1 8 rfl rfl)
theorem dX4_putsBack_33 : decode cX4_putsBack 33 = .ok (.iaload, 1) := dk_46 (dk_at dksX4_putsBack_1 9 rfl rfl)
theorem dX4_putsBack_34 : decode cX4_putsBack 34 = .ok (.iastore, 1) := dk_79 (dk_at dksX4_putsBack_1 10 rfl rfl)
theorem dX4_putsBack_35 : decode cX4_putsBack 35 = .ok (.iinc 2 1, 3) := dk_132 2 1 (dk_at dksX4_putsBack_1 11 rfl rfl)
theorem dX4_putsBack_38 : decode cX4_putsBack 38 = .ok (.goto (-26), 3) := dk_167 255 230 (dk_at dksX4_putsBack_1 14 rfl rfl)
theorem dX4_putsBack_41 : decode cX4_putsBack 41 = .ok (.return_, 1) := dk_177 (dk_at dksX4_putsBack_1 17 rfl rfl)
abbrev cX4_first : ByteArray := prog_34_method_79_code
def yX4_first : MethodName := ⟨RX4, "first", "(II)I"⟩
def dkwX4_first_3 : List UInt8 := [182, 1, 107, 28, 154, 0, 10, 42, 180, 1, 104, 167, 0, 7, 42, 180, 1, 101, 172]
abbrev dktX4_first_3 : List UInt8 := dkwX4_first_3 ++ []
def dkwX4_first_2 : List UInt8 := [181, 1, 101, 42, 27, 42, 180, 1, 77, 8, 162, 0, 10, 42, 180, 1, 77, 167, 0, 4, 8, 3, 3, 3]
abbrev dktX4_first_2 : List UInt8 := dkwX4_first_2 ++ dktX4_first_3
def dkwX4_first_1 : List UInt8 := [153, 0, 5, 2, 172, 42, 180, 1, 77, 154, 0, 6, 16, 251, 172, 42, 27, 182, 1, 91, 42, 2]
abbrev dktX4_first_1 : List UInt8 := dkwX4_first_1 ++ dktX4_first_2
def dkwX4_first_0 : List UInt8 := [42, 27, 182, 0, 188, 153, 0, 20, 28, 133, 9, 10, 184, 0, 113, 153, 0, 10, 42, 182, 1, 87]
abbrev dktX4_first_0 : List UInt8 := dkwX4_first_0 ++ dktX4_first_1
theorem dksX4_first_0 : cX4_first.data.toList.drop 0 = dktX4_first_0 := by decide +kernel
theorem dksX4_first_1 : cX4_first.data.toList.drop 22 = dktX4_first_1 := dk_seg dksX4_first_0 22 rfl rfl
theorem dksX4_first_2 : cX4_first.data.toList.drop 44 = dktX4_first_2 := dk_seg dksX4_first_1 22 rfl rfl
theorem dksX4_first_3 : cX4_first.data.toList.drop 68 = dktX4_first_3 := dk_seg dksX4_first_2 24 rfl rfl
theorem dX4_first_0 : decode cX4_first 0 = .ok (.aload_n 0, 1) := dk_42 (dk_at dksX4_first_0 0 rfl rfl)
theorem dX4_first_1 : decode cX4_first 1 = .ok (.iload_n 1, 1) := dk_27 (dk_at dksX4_first_0 1 rfl rfl)
theorem dX4_first_2 : decode cX4_first 2 = .ok (.invokevirtual 188, 3) := dk_182 0 188 (dk_at dksX4_first_0 2 rfl rfl)
theorem dX4_first_5 : decode cX4_first 5 = .ok (.ifCond .eq 20, 3) := dk_153 0 20 (dk_at dksX4_first_0 5 rfl rfl)
theorem dX4_first_8 : decode cX4_first 8 = .ok (.iload_n 2, 1) := dk_28 (dk_at dksX4_first_0 8 rfl rfl)
theorem dX4_first_9 : decode cX4_first 9 = .ok (.i2l, 1) := dk_133 (dk_at dksX4_first_0 9 rfl rfl)
theorem dX4_first_10 : decode cX4_first 10 = .ok (.lconst 0, 1) := dk_9 (dk_at dksX4_first_0 10 rfl rfl)
theorem dX4_first_11 : decode cX4_first 11 = .ok (.lconst 1, 1) := dk_10 (dk_at dksX4_first_0 11 rfl rfl)
theorem dX4_first_12 : decode cX4_first 12 = .ok (.invokestatic 113, 3) := dk_184 0 113 (dk_at dksX4_first_0 12 rfl rfl)
theorem dX4_first_15 : decode cX4_first 15 = .ok (.ifCond .eq 10, 3) := dk_153 0 10 (dk_at dksX4_first_0 15 rfl rfl)
theorem dX4_first_18 : decode cX4_first 18 = .ok (.aload_n 0, 1) := dk_42 (dk_at dksX4_first_0 18 rfl rfl)
theorem dX4_first_19 : decode cX4_first 19 = .ok (.invokevirtual 343, 3) := dk_182 1 87 (dk_at dksX4_first_0 19 rfl rfl)
theorem dX4_first_22 : decode cX4_first 22 = .ok (.ifCond .eq 5, 3) := dk_153 0 5 (dk_at dksX4_first_1 0 rfl rfl)
theorem dX4_first_25 : decode cX4_first 25 = .ok (.iconst (-1), 1) := dk_2 (dk_at dksX4_first_1 3 rfl rfl)
theorem dX4_first_26 : decode cX4_first 26 = .ok (.ireturn, 1) := dk_172 (dk_at dksX4_first_1 4 rfl rfl)
theorem dX4_first_27 : decode cX4_first 27 = .ok (.aload_n 0, 1) := dk_42 (dk_at dksX4_first_1 5 rfl rfl)
theorem dX4_first_28 : decode cX4_first 28 = .ok (.getfield 333, 3) := dk_180 1 77 (dk_at dksX4_first_1 6 rfl rfl)
theorem dX4_first_31 : decode cX4_first 31 = .ok (.ifCond .ne 6, 3) := dk_154 0 6 (dk_at dksX4_first_1 9 rfl rfl)
theorem dX4_first_34 : decode cX4_first 34 = .ok (.bipush (-5), 2) := dk_16 251 (dk_at dksX4_first_1 12 rfl rfl)
theorem dX4_first_36 : decode cX4_first 36 = .ok (.ireturn, 1) := dk_172 (dk_at dksX4_first_1 14 rfl rfl)
theorem dX4_first_37 : decode cX4_first 37 = .ok (.aload_n 0, 1) := dk_42 (dk_at dksX4_first_1 15 rfl rfl)
theorem dX4_first_38 : decode cX4_first 38 = .ok (.iload_n 1, 1) := dk_27 (dk_at dksX4_first_1 16 rfl rfl)
theorem dX4_first_39 : decode cX4_first 39 = .ok (.invokevirtual 347, 3) := dk_182 1 91 (dk_at dksX4_first_1 17 rfl rfl)
theorem dX4_first_42 : decode cX4_first 42 = .ok (.aload_n 0, 1) := dk_42 (dk_at dksX4_first_1 20 rfl rfl)
theorem dX4_first_43 : decode cX4_first 43 = .ok (.iconst (-1), 1) := dk_2 (dk_at dksX4_first_1 21 rfl rfl)
theorem dX4_first_44 : decode cX4_first 44 = .ok (.putfield 357, 3) := dk_181 1 101 (dk_at dksX4_first_2 0 rfl rfl)
theorem dX4_first_47 : decode cX4_first 47 = .ok (.aload_n 0, 1) := dk_42 (dk_at dksX4_first_2 3 rfl rfl)
theorem dX4_first_48 : decode cX4_first 48 = .ok (.iload_n 1, 1) := dk_27 (dk_at dksX4_first_2 4 rfl rfl)
theorem dX4_first_49 : decode cX4_first 49 = .ok (.aload_n 0, 1) := dk_42 (dk_at dksX4_first_2 5 rfl rfl)
theorem dX4_first_50 : decode cX4_first 50 = .ok (.getfield 333, 3) := dk_180 1 77 (dk_at dksX4_first_2 6 rfl rfl)
theorem dX4_first_53 : decode cX4_first 53 = .ok (.iconst 5, 1) := dk_8 (dk_at dksX4_first_2 9 rfl rfl)
theorem dX4_first_54 : decode cX4_first 54 = .ok (.if_icmp .ge 10, 3) := dk_162 0 10 (dk_at dksX4_first_2 10 rfl rfl)
theorem dX4_first_57 : decode cX4_first 57 = .ok (.aload_n 0, 1) := dk_42 (dk_at dksX4_first_2 13 rfl rfl)
theorem dX4_first_58 : decode cX4_first 58 = .ok (.getfield 333, 3) := dk_180 1 77 (dk_at dksX4_first_2 14 rfl rfl)
theorem dX4_first_61 : decode cX4_first 61 = .ok (.goto 4, 3) := dk_167 0 4 (dk_at dksX4_first_2 17 rfl rfl)
theorem dX4_first_64 : decode cX4_first 64 = .ok (.iconst 5, 1) := dk_8 (dk_at dksX4_first_2 20 rfl rfl)
theorem dX4_first_65 : decode cX4_first 65 = .ok (.iconst 0, 1) := dk_3 (dk_at dksX4_first_2 21 rfl rfl)
theorem dX4_first_66 : decode cX4_first 66 = .ok (.iconst 0, 1) := dk_3 (dk_at dksX4_first_2 22 rfl rfl)
theorem dX4_first_67 : decode cX4_first 67 = .ok (.iconst 0, 1) := dk_3 (dk_at dksX4_first_2 23 rfl rfl)
theorem dX4_first_68 : decode cX4_first 68 = .ok (.invokevirtual 363, 3) := dk_182 1 107 (dk_at dksX4_first_3 0 rfl rfl)
theorem dX4_first_71 : decode cX4_first 71 = .ok (.iload_n 2, 1) := dk_28 (dk_at dksX4_first_3 3 rfl rfl)
theorem dX4_first_72 : decode cX4_first 72 = .ok (.ifCond .ne 10, 3) := dk_154 0 10 (dk_at dksX4_first_3 4 rfl rfl)
theorem dX4_first_75 : decode cX4_first 75 = .ok (.aload_n 0, 1) := dk_42 (dk_at dksX4_first_3 7 rfl rfl)
theorem dX4_first_76 : decode cX4_first 76 = .ok (.getfield 360, 3) := dk_180 1 104 (dk_at dksX4_first_3 8 rfl rfl)
theorem dX4_first_79 : decode cX4_first 79 = .ok (.goto 7, 3) := dk_167 0 7 (dk_at dksX4_first_3 11 rfl rfl)
theorem dX4_first_82 : decode cX4_first 82 = .ok (.aload_n 0, 1) := dk_42 (dk_at dksX4_first_3 14 rfl rfl)
theorem dX4_first_83 : decode cX4_first 83 = .ok (.getfield 357, 3) := dk_180 1 101 (dk_at dksX4_first_3 15 rfl rfl)
theorem dX4_first_86 : decode cX4_first 86 = .ok (.ireturn, 1) := dk_172 (dk_at dksX4_first_3 18 rfl rfl)
abbrev cX4_ordersFrom : ByteArray := prog_34_method_78_code
def yX4_ordersFrom : MethodName := ⟨RX4, "ordersFrom", "(IIIII)V"⟩
def dkwX4_ordersFrom_6 : List UInt8 := [177]
abbrev dktX4_ordersFrom_6 : List UInt8 := dkwX4_ordersFrom_6 ++ []
def dkwX4_ordersFrom_5 : List UInt8 := [4, 21, 6, 120, 128, 16, 10, 21, 5, 104, 21, 6, 96, 4, 96, 182, 1, 107, 132, 6, 1, 167, 255, 203]
abbrev dktX4_ordersFrom_5 : List UInt8 := dkwX4_ordersFrom_5 ++ dktX4_ordersFrom_6
def dkwX4_ordersFrom_4 : List UInt8 := [21, 6, 122, 4, 126, 154, 0, 37, 42, 180, 0, 79, 29, 21, 6, 79, 42, 27, 28, 29, 4, 96, 21, 4]
abbrev dktX4_ordersFrom_4 : List UInt8 := dkwX4_ordersFrom_4 ++ dktX4_ordersFrom_5
def dkwX4_ordersFrom_3 : List UInt8 := [42, 21, 6, 181, 1, 101, 42, 21, 5, 181, 1, 104, 177, 3, 54, 6, 21, 6, 28, 162, 0, 53, 21, 4]
abbrev dktX4_ordersFrom_3 : List UInt8 := dkwX4_ordersFrom_3 ++ dktX4_ordersFrom_4
def dkwX4_ordersFrom_2 : List UInt8 := [167, 255, 221, 42, 27, 182, 1, 98, 42, 180, 1, 101, 155, 0, 12, 21, 6, 42, 180, 1, 101, 162, 0, 15]
abbrev dktX4_ordersFrom_2 : List UInt8 := dkwX4_ordersFrom_2 ++ dktX4_ordersFrom_3
def dkwX4_ordersFrom_1 : List UInt8 := [180, 0, 73, 42, 180, 0, 79, 21, 7, 6, 108, 46, 46, 182, 1, 95, 96, 54, 6, 132, 7, 1]
abbrev dktX4_ordersFrom_1 : List UInt8 := dkwX4_ordersFrom_1 ++ dktX4_ordersFrom_2
def dkwX4_ordersFrom_0 : List UInt8 := [29, 28, 160, 0, 81, 3, 54, 6, 3, 54, 7, 21, 7, 6, 28, 104, 162, 0, 33, 21, 6, 42, 27, 42]
abbrev dktX4_ordersFrom_0 : List UInt8 := dkwX4_ordersFrom_0 ++ dktX4_ordersFrom_1
theorem dksX4_ordersFrom_0 : cX4_ordersFrom.data.toList.drop 0 = dktX4_ordersFrom_0 := by decide +kernel
theorem dksX4_ordersFrom_1 : cX4_ordersFrom.data.toList.drop 24 = dktX4_ordersFrom_1 := dk_seg dksX4_ordersFrom_0 24 rfl rfl
theorem dksX4_ordersFrom_2 : cX4_ordersFrom.data.toList.drop 46 = dktX4_ordersFrom_2 := dk_seg dksX4_ordersFrom_1 22 rfl rfl
theorem dksX4_ordersFrom_3 : cX4_ordersFrom.data.toList.drop 70 = dktX4_ordersFrom_3 := dk_seg dksX4_ordersFrom_2 24 rfl rfl
theorem dksX4_ordersFrom_4 : cX4_ordersFrom.data.toList.drop 94 = dktX4_ordersFrom_4 := dk_seg dksX4_ordersFrom_3 24 rfl rfl
theorem dksX4_ordersFrom_5 : cX4_ordersFrom.data.toList.drop 118 = dktX4_ordersFrom_5 := dk_seg dksX4_ordersFrom_4 24 rfl rfl
theorem dksX4_ordersFrom_6 : cX4_ordersFrom.data.toList.drop 142 = dktX4_ordersFrom_6 := dk_seg dksX4_ordersFrom_5 24 rfl rfl
theorem dX4_ordersFrom_0 : decode cX4_ordersFrom 0 = .ok (.iload_n 3, 1) := dk_29 (dk_at dksX4_ordersFrom_0 0 rfl rfl)
theorem dX4_ordersFrom_1 : decode cX4_ordersFrom 1 = .ok (.iload_n 2, 1) := dk_28 (dk_at dksX4_ordersFrom_0 1 rfl rfl)
theorem dX4_ordersFrom_2 : decode cX4_ordersFrom 2 = .ok (.if_icmp .ne 81, 3) := dk_160 0 81 (dk_at dksX4_ordersFrom_0 2 rfl rfl)
theorem dX4_ordersFrom_5 : decode cX4_ordersFrom 5 = .ok (.iconst 0, 1) := dk_3 (dk_at dksX4_ordersFrom_0 5 rfl rfl)
theorem dX4_ordersFrom_6 : decode cX4_ordersFrom 6 = .ok (.istore 6, 2) := dk_54 6 (dk_at dksX4_ordersFrom_0 6 rfl rfl)
theorem dX4_ordersFrom_8 : decode cX4_ordersFrom 8 = .ok (.iconst 0, 1) := dk_3 (dk_at dksX4_ordersFrom_0 8 rfl rfl)
theorem dX4_ordersFrom_9 : decode cX4_ordersFrom 9 = .ok (.istore 7, 2) := dk_54 7 (dk_at dksX4_ordersFrom_0 9 rfl rfl)
theorem dX4_ordersFrom_11 : decode cX4_ordersFrom 11 = .ok (.iload 7, 2) := dk_21 7 (dk_at dksX4_ordersFrom_0 11 rfl rfl)
theorem dX4_ordersFrom_13 : decode cX4_ordersFrom 13 = .ok (.iconst 3, 1) := dk_6 (dk_at dksX4_ordersFrom_0 13 rfl rfl)
theorem dX4_ordersFrom_14 : decode cX4_ordersFrom 14 = .ok (.iload_n 2, 1) := dk_28 (dk_at dksX4_ordersFrom_0 14 rfl rfl)
theorem dX4_ordersFrom_15 : decode cX4_ordersFrom 15 = .ok (.imul, 1) := dk_104 (dk_at dksX4_ordersFrom_0 15 rfl rfl)
theorem dX4_ordersFrom_16 : decode cX4_ordersFrom 16 = .ok (.if_icmp .ge 33, 3) := dk_162 0 33 (dk_at dksX4_ordersFrom_0 16 rfl rfl)
theorem dX4_ordersFrom_19 : decode cX4_ordersFrom 19 = .ok (.iload 6, 2) := dk_21 6 (dk_at dksX4_ordersFrom_0 19 rfl rfl)
theorem dX4_ordersFrom_21 : decode cX4_ordersFrom 21 = .ok (.aload_n 0, 1) := dk_42 (dk_at dksX4_ordersFrom_0 21 rfl rfl)
theorem dX4_ordersFrom_22 : decode cX4_ordersFrom 22 = .ok (.iload_n 1, 1) := dk_27 (dk_at dksX4_ordersFrom_0 22 rfl rfl)
theorem dX4_ordersFrom_23 : decode cX4_ordersFrom 23 = .ok (.aload_n 0, 1) := dk_42 (dk_at dksX4_ordersFrom_0 23 rfl rfl)
theorem dX4_ordersFrom_24 : decode cX4_ordersFrom 24 = .ok (.getfield 73, 3) := dk_180 0 73 (dk_at dksX4_ordersFrom_1 0 rfl rfl)
theorem dX4_ordersFrom_27 : decode cX4_ordersFrom 27 = .ok (.aload_n 0, 1) := dk_42 (dk_at dksX4_ordersFrom_1 3 rfl rfl)
theorem dX4_ordersFrom_28 : decode cX4_ordersFrom 28 = .ok (.getfield 79, 3) := dk_180 0 79 (dk_at dksX4_ordersFrom_1 4 rfl rfl)
theorem dX4_ordersFrom_31 : decode cX4_ordersFrom 31 = .ok (.iload 7, 2) := dk_21 7 (dk_at dksX4_ordersFrom_1 7 rfl rfl)
theorem dX4_ordersFrom_33 : decode cX4_ordersFrom 33 = .ok (.iconst 3, 1) := dk_6 (dk_at dksX4_ordersFrom_1 9 rfl rfl)
theorem dX4_ordersFrom_34 : decode cX4_ordersFrom 34 = .ok (.idiv, 1) := dk_108 (dk_at dksX4_ordersFrom_1 10 rfl rfl)
theorem dX4_ordersFrom_35 : decode cX4_ordersFrom 35 = .ok (.iaload, 1) := dk_46 (dk_at dksX4_ordersFrom_1 11 rfl rfl)
theorem dX4_ordersFrom_36 : decode cX4_ordersFrom 36 = .ok (.iaload, 1) := dk_46 (dk_at dksX4_ordersFrom_1 12 rfl rfl)
theorem dX4_ordersFrom_37 : decode cX4_ordersFrom 37 = .ok (.invokevirtual 351, 3) := dk_182 1 95 (dk_at dksX4_ordersFrom_1 13 rfl rfl)
theorem dX4_ordersFrom_40 : decode cX4_ordersFrom 40 = .ok (.iadd, 1) := dk_96 (dk_at dksX4_ordersFrom_1 16 rfl rfl)
theorem dX4_ordersFrom_41 : decode cX4_ordersFrom 41 = .ok (.istore 6, 2) := dk_54 6 (dk_at dksX4_ordersFrom_1 17 rfl rfl)
theorem dX4_ordersFrom_43 : decode cX4_ordersFrom 43 = .ok (.iinc 7 1, 3) := dk_132 7 1 (dk_at dksX4_ordersFrom_1 19 rfl rfl)
theorem dX4_ordersFrom_46 : decode cX4_ordersFrom 46 = .ok (.goto (-35), 3) := dk_167 255 221 (dk_at dksX4_ordersFrom_2 0 rfl rfl)
theorem dX4_ordersFrom_49 : decode cX4_ordersFrom 49 = .ok (.aload_n 0, 1) := dk_42 (dk_at dksX4_ordersFrom_2 3 rfl rfl)
theorem dX4_ordersFrom_50 : decode cX4_ordersFrom 50 = .ok (.iload_n 1, 1) := dk_27 (dk_at dksX4_ordersFrom_2 4 rfl rfl)
theorem dX4_ordersFrom_51 : decode cX4_ordersFrom 51 = .ok (.invokevirtual 354, 3) := dk_182 1 98 (dk_at dksX4_ordersFrom_2 5 rfl rfl)
theorem dX4_ordersFrom_54 : decode cX4_ordersFrom 54 = .ok (.aload_n 0, 1) := dk_42 (dk_at dksX4_ordersFrom_2 8 rfl rfl)
theorem dX4_ordersFrom_55 : decode cX4_ordersFrom 55 = .ok (.getfield 357, 3) := dk_180 1 101 (dk_at dksX4_ordersFrom_2 9 rfl rfl)
theorem dX4_ordersFrom_58 : decode cX4_ordersFrom 58 = .ok (.ifCond .lt 12, 3) := dk_155 0 12 (dk_at dksX4_ordersFrom_2 12 rfl rfl)
theorem dX4_ordersFrom_61 : decode cX4_ordersFrom 61 = .ok (.iload 6, 2) := dk_21 6 (dk_at dksX4_ordersFrom_2 15 rfl rfl)
theorem dX4_ordersFrom_63 : decode cX4_ordersFrom 63 = .ok (.aload_n 0, 1) := dk_42 (dk_at dksX4_ordersFrom_2 17 rfl rfl)
theorem dX4_ordersFrom_64 : decode cX4_ordersFrom 64 = .ok (.getfield 357, 3) := dk_180 1 101 (dk_at dksX4_ordersFrom_2 18 rfl rfl)
theorem dX4_ordersFrom_67 : decode cX4_ordersFrom 67 = .ok (.if_icmp .ge 15, 3) := dk_162 0 15 (dk_at dksX4_ordersFrom_2 21 rfl rfl)
theorem dX4_ordersFrom_70 : decode cX4_ordersFrom 70 = .ok (.aload_n 0, 1) := dk_42 (dk_at dksX4_ordersFrom_3 0 rfl rfl)
theorem dX4_ordersFrom_71 : decode cX4_ordersFrom 71 = .ok (.iload 6, 2) := dk_21 6 (dk_at dksX4_ordersFrom_3 1 rfl rfl)
theorem dX4_ordersFrom_73 : decode cX4_ordersFrom 73 = .ok (.putfield 357, 3) := dk_181 1 101 (dk_at dksX4_ordersFrom_3 3 rfl rfl)
theorem dX4_ordersFrom_76 : decode cX4_ordersFrom 76 = .ok (.aload_n 0, 1) := dk_42 (dk_at dksX4_ordersFrom_3 6 rfl rfl)
theorem dX4_ordersFrom_77 : decode cX4_ordersFrom 77 = .ok (.iload 5, 2) := dk_21 5 (dk_at dksX4_ordersFrom_3 7 rfl rfl)
theorem dX4_ordersFrom_79 : decode cX4_ordersFrom 79 = .ok (.putfield 360, 3) := dk_181 1 104 (dk_at dksX4_ordersFrom_3 9 rfl rfl)
theorem dX4_ordersFrom_82 : decode cX4_ordersFrom 82 = .ok (.return_, 1) := dk_177 (dk_at dksX4_ordersFrom_3 12 rfl rfl)
theorem dX4_ordersFrom_83 : decode cX4_ordersFrom 83 = .ok (.iconst 0, 1) := dk_3 (dk_at dksX4_ordersFrom_3 13 rfl rfl)
theorem dX4_ordersFrom_84 : decode cX4_ordersFrom 84 = .ok (.istore 6, 2) := dk_54 6 (dk_at dksX4_ordersFrom_3 14 rfl rfl)
theorem dX4_ordersFrom_86 : decode cX4_ordersFrom 86 = .ok (.iload 6, 2) := dk_21 6 (dk_at dksX4_ordersFrom_3 16 rfl rfl)
theorem dX4_ordersFrom_88 : decode cX4_ordersFrom 88 = .ok (.iload_n 2, 1) := dk_28 (dk_at dksX4_ordersFrom_3 18 rfl rfl)
theorem dX4_ordersFrom_89 : decode cX4_ordersFrom 89 = .ok (.if_icmp .ge 53, 3) := dk_162 0 53 (dk_at dksX4_ordersFrom_3 19 rfl rfl)
theorem dX4_ordersFrom_92 : decode cX4_ordersFrom 92 = .ok (.iload 4, 2) := dk_21 4 (dk_at dksX4_ordersFrom_3 22 rfl rfl)
theorem dX4_ordersFrom_94 : decode cX4_ordersFrom 94 = .ok (.iload 6, 2) := dk_21 6 (dk_at dksX4_ordersFrom_4 0 rfl rfl)
theorem dX4_ordersFrom_96 : decode cX4_ordersFrom 96 = .ok (.ishr, 1) := dk_122 (dk_at dksX4_ordersFrom_4 2 rfl rfl)
theorem dX4_ordersFrom_97 : decode cX4_ordersFrom 97 = .ok (.iconst 1, 1) := dk_4 (dk_at dksX4_ordersFrom_4 3 rfl rfl)
theorem dX4_ordersFrom_98 : decode cX4_ordersFrom 98 = .ok (.iand, 1) := dk_126 (dk_at dksX4_ordersFrom_4 4 rfl rfl)
theorem dX4_ordersFrom_99 : decode cX4_ordersFrom 99 = .ok (.ifCond .ne 37, 3) := dk_154 0 37 (dk_at dksX4_ordersFrom_4 5 rfl rfl)
theorem dX4_ordersFrom_102 : decode cX4_ordersFrom 102 = .ok (.aload_n 0, 1) := dk_42 (dk_at dksX4_ordersFrom_4 8 rfl rfl)
theorem dX4_ordersFrom_103 : decode cX4_ordersFrom 103 = .ok (.getfield 79, 3) := dk_180 0 79 (dk_at dksX4_ordersFrom_4 9 rfl rfl)
theorem dX4_ordersFrom_106 : decode cX4_ordersFrom 106 = .ok (.iload_n 3, 1) := dk_29 (dk_at dksX4_ordersFrom_4 12 rfl rfl)
theorem dX4_ordersFrom_107 : decode cX4_ordersFrom 107 = .ok (.iload 6, 2) := dk_21 6 (dk_at dksX4_ordersFrom_4 13 rfl rfl)
theorem dX4_ordersFrom_109 : decode cX4_ordersFrom 109 = .ok (.iastore, 1) := dk_79 (dk_at dksX4_ordersFrom_4 15 rfl rfl)
theorem dX4_ordersFrom_110 : decode cX4_ordersFrom 110 = .ok (.aload_n 0, 1) := dk_42 (dk_at dksX4_ordersFrom_4 16 rfl rfl)
theorem dX4_ordersFrom_111 : decode cX4_ordersFrom 111 = .ok (.iload_n 1, 1) := dk_27 (dk_at dksX4_ordersFrom_4 17 rfl rfl)
theorem dX4_ordersFrom_112 : decode cX4_ordersFrom 112 = .ok (.iload_n 2, 1) := dk_28 (dk_at dksX4_ordersFrom_4 18 rfl rfl)
theorem dX4_ordersFrom_113 : decode cX4_ordersFrom 113 = .ok (.iload_n 3, 1) := dk_29 (dk_at dksX4_ordersFrom_4 19 rfl rfl)
theorem dX4_ordersFrom_114 : decode cX4_ordersFrom 114 = .ok (.iconst 1, 1) := dk_4 (dk_at dksX4_ordersFrom_4 20 rfl rfl)
theorem dX4_ordersFrom_115 : decode cX4_ordersFrom 115 = .ok (.iadd, 1) := dk_96 (dk_at dksX4_ordersFrom_4 21 rfl rfl)
theorem dX4_ordersFrom_116 : decode cX4_ordersFrom 116 = .ok (.iload 4, 2) := dk_21 4 (dk_at dksX4_ordersFrom_4 22 rfl rfl)
theorem dX4_ordersFrom_118 : decode cX4_ordersFrom 118 = .ok (.iconst 1, 1) := dk_4 (dk_at dksX4_ordersFrom_5 0 rfl rfl)
theorem dX4_ordersFrom_119 : decode cX4_ordersFrom 119 = .ok (.iload 6, 2) := dk_21 6 (dk_at dksX4_ordersFrom_5 1 rfl rfl)
theorem dX4_ordersFrom_121 : decode cX4_ordersFrom 121 = .ok (.ishl, 1) := dk_120 (dk_at dksX4_ordersFrom_5 3 rfl rfl)
theorem dX4_ordersFrom_122 : decode cX4_ordersFrom 122 = .ok (.ior, 1) := dk_128 (dk_at dksX4_ordersFrom_5 4 rfl rfl)
theorem dX4_ordersFrom_123 : decode cX4_ordersFrom 123 = .ok (.bipush 10, 2) := dk_16 10 (dk_at dksX4_ordersFrom_5 5 rfl rfl)
theorem dX4_ordersFrom_125 : decode cX4_ordersFrom 125 = .ok (.iload 5, 2) := dk_21 5 (dk_at dksX4_ordersFrom_5 7 rfl rfl)
theorem dX4_ordersFrom_127 : decode cX4_ordersFrom 127 = .ok (.imul, 1) := dk_104 (dk_at dksX4_ordersFrom_5 9 rfl rfl)
theorem dX4_ordersFrom_128 : decode cX4_ordersFrom 128 = .ok (.iload 6, 2) := dk_21 6 (dk_at dksX4_ordersFrom_5 10 rfl rfl)
theorem dX4_ordersFrom_130 : decode cX4_ordersFrom 130 = .ok (.iadd, 1) := dk_96 (dk_at dksX4_ordersFrom_5 12 rfl rfl)
theorem dX4_ordersFrom_131 : decode cX4_ordersFrom 131 = .ok (.iconst 1, 1) := dk_4 (dk_at dksX4_ordersFrom_5 13 rfl rfl)
theorem dX4_ordersFrom_132 : decode cX4_ordersFrom 132 = .ok (.iadd, 1) := dk_96 (dk_at dksX4_ordersFrom_5 14 rfl rfl)
theorem dX4_ordersFrom_133 : decode cX4_ordersFrom 133 = .ok (.invokevirtual 363, 3) := dk_182 1 107 (dk_at dksX4_ordersFrom_5 15 rfl rfl)
theorem dX4_ordersFrom_136 : decode cX4_ordersFrom 136 = .ok (.iinc 6 1, 3) := dk_132 6 1 (dk_at dksX4_ordersFrom_5 18 rfl rfl)
theorem dX4_ordersFrom_139 : decode cX4_ordersFrom 139 = .ok (.goto (-53), 3) := dk_167 255 203 (dk_at dksX4_ordersFrom_5 21 rfl rfl)
theorem dX4_ordersFrom_142 : decode cX4_ordersFrom 142 = .ok (.return_, 1) := dk_177 (dk_at dksX4_ordersFrom_6 0 rfl rfl)
abbrev cX4_root : ByteArray := prog_34_method_85_code
def yX4_root : MethodName := ⟨RX4, "root", "(JI)I"⟩
def dkwX4_root_0 : List UInt8 := [31, 29, 184, 1, 127, 153, 0, 11, 31, 29, 184, 1, 131, 167, 0, 4, 2, 172]
abbrev dktX4_root_0 : List UInt8 := dkwX4_root_0 ++ []
theorem dksX4_root_0 : cX4_root.data.toList.drop 0 = dktX4_root_0 := by decide +kernel
theorem dX4_root_0 : decode cX4_root 0 = .ok (.lload_n 1, 1) := dk_31 (dk_at dksX4_root_0 0 rfl rfl)
theorem dX4_root_1 : decode cX4_root 1 = .ok (.iload_n 3, 1) := dk_29 (dk_at dksX4_root_0 1 rfl rfl)
theorem dX4_root_2 : decode cX4_root 2 = .ok (.invokestatic 383, 3) := dk_184 1 127 (dk_at dksX4_root_0 2 rfl rfl)
theorem dX4_root_5 : decode cX4_root 5 = .ok (.ifCond .eq 11, 3) := dk_153 0 11 (dk_at dksX4_root_0 5 rfl rfl)
theorem dX4_root_8 : decode cX4_root 8 = .ok (.lload_n 1, 1) := dk_31 (dk_at dksX4_root_0 8 rfl rfl)
theorem dX4_root_9 : decode cX4_root 9 = .ok (.iload_n 3, 1) := dk_29 (dk_at dksX4_root_0 9 rfl rfl)
theorem dX4_root_10 : decode cX4_root 10 = .ok (.invokestatic 387, 3) := dk_184 1 131 (dk_at dksX4_root_0 10 rfl rfl)
theorem dX4_root_13 : decode cX4_root 13 = .ok (.goto 4, 3) := dk_167 0 4 (dk_at dksX4_root_0 13 rfl rfl)
theorem dX4_root_16 : decode cX4_root 16 = .ok (.iconst (-1), 1) := dk_2 (dk_at dksX4_root_0 16 rfl rfl)
theorem dX4_root_17 : decode cX4_root 17 = .ok (.ireturn, 1) := dk_172 (dk_at dksX4_root_0 17 rfl rfl)
abbrev cX4_isNumber : ByteArray := prog_34_method_83_code
def yX4_isNumber : MethodName := ⟨RX4, "isNumber", "(JI)Z"⟩
def dkwX4_isNumber_0 : List UInt8 := [30, 10, 20, 1, 111, 184, 0, 113, 153, 0, 14, 28, 184, 1, 121, 153, 0, 7, 4, 167, 0, 4, 3, 172]
abbrev dktX4_isNumber_0 : List UInt8 := dkwX4_isNumber_0 ++ []
theorem dksX4_isNumber_0 : cX4_isNumber.data.toList.drop 0 = dktX4_isNumber_0 := by decide +kernel
theorem dX4_isNumber_0 : decode cX4_isNumber 0 = .ok (.lload_n 0, 1) := dk_30 (dk_at dksX4_isNumber_0 0 rfl rfl)
theorem dX4_isNumber_1 : decode cX4_isNumber 1 = .ok (.lconst 1, 1) := dk_10 (dk_at dksX4_isNumber_0 1 rfl rfl)
theorem dX4_isNumber_2 : decode cX4_isNumber 2 = .ok (.ldc2_w 367, 3) := dk_20 1 111 (dk_at dksX4_isNumber_0 2 rfl rfl)
theorem dX4_isNumber_5 : decode cX4_isNumber 5 = .ok (.invokestatic 113, 3) := dk_184 0 113 (dk_at dksX4_isNumber_0 5 rfl rfl)
theorem dX4_isNumber_8 : decode cX4_isNumber 8 = .ok (.ifCond .eq 14, 3) := dk_153 0 14 (dk_at dksX4_isNumber_0 8 rfl rfl)
theorem dX4_isNumber_11 : decode cX4_isNumber 11 = .ok (.iload_n 2, 1) := dk_28 (dk_at dksX4_isNumber_0 11 rfl rfl)
theorem dX4_isNumber_12 : decode cX4_isNumber 12 = .ok (.invokestatic 377, 3) := dk_184 1 121 (dk_at dksX4_isNumber_0 12 rfl rfl)
theorem dX4_isNumber_15 : decode cX4_isNumber 15 = .ok (.ifCond .eq 7, 3) := dk_153 0 7 (dk_at dksX4_isNumber_0 15 rfl rfl)
theorem dX4_isNumber_18 : decode cX4_isNumber 18 = .ok (.iconst 1, 1) := dk_4 (dk_at dksX4_isNumber_0 18 rfl rfl)
theorem dX4_isNumber_19 : decode cX4_isNumber 19 = .ok (.goto 4, 3) := dk_167 0 4 (dk_at dksX4_isNumber_0 19 rfl rfl)
theorem dX4_isNumber_22 : decode cX4_isNumber 22 = .ok (.iconst 0, 1) := dk_3 (dk_at dksX4_isNumber_0 22 rfl rfl)
theorem dX4_isNumber_23 : decode cX4_isNumber 23 = .ok (.ireturn, 1) := dk_172 (dk_at dksX4_isNumber_0 23 rfl rfl)
abbrev cX4_isPower : ByteArray := prog_34_method_80_code
def yX4_isPower : MethodName := ⟨RX4, "isPower", "(I)Z"⟩
def dkwX4_isPower_0 : List UInt8 := [26, 5, 159, 0, 13, 26, 6, 159, 0, 8, 26, 8, 160, 0, 7, 4, 167, 0, 4, 3, 172]
abbrev dktX4_isPower_0 : List UInt8 := dkwX4_isPower_0 ++ []
theorem dksX4_isPower_0 : cX4_isPower.data.toList.drop 0 = dktX4_isPower_0 := by decide +kernel
theorem dX4_isPower_0 : decode cX4_isPower 0 = .ok (.iload_n 0, 1) := dk_26 (dk_at dksX4_isPower_0 0 rfl rfl)
theorem dX4_isPower_1 : decode cX4_isPower 1 = .ok (.iconst 2, 1) := dk_5 (dk_at dksX4_isPower_0 1 rfl rfl)
theorem dX4_isPower_2 : decode cX4_isPower 2 = .ok (.if_icmp .eq 13, 3) := dk_159 0 13 (dk_at dksX4_isPower_0 2 rfl rfl)
theorem dX4_isPower_5 : decode cX4_isPower 5 = .ok (.iload_n 0, 1) := dk_26 (dk_at dksX4_isPower_0 5 rfl rfl)
theorem dX4_isPower_6 : decode cX4_isPower 6 = .ok (.iconst 3, 1) := dk_6 (dk_at dksX4_isPower_0 6 rfl rfl)
theorem dX4_isPower_7 : decode cX4_isPower 7 = .ok (.if_icmp .eq 8, 3) := dk_159 0 8 (dk_at dksX4_isPower_0 7 rfl rfl)
theorem dX4_isPower_10 : decode cX4_isPower 10 = .ok (.iload_n 0, 1) := dk_26 (dk_at dksX4_isPower_0 10 rfl rfl)
theorem dX4_isPower_11 : decode cX4_isPower 11 = .ok (.iconst 5, 1) := dk_8 (dk_at dksX4_isPower_0 11 rfl rfl)
theorem dX4_isPower_12 : decode cX4_isPower 12 = .ok (.if_icmp .ne 7, 3) := dk_160 0 7 (dk_at dksX4_isPower_0 12 rfl rfl)
theorem dX4_isPower_15 : decode cX4_isPower 15 = .ok (.iconst 1, 1) := dk_4 (dk_at dksX4_isPower_0 15 rfl rfl)
theorem dX4_isPower_16 : decode cX4_isPower 16 = .ok (.goto 4, 3) := dk_167 0 4 (dk_at dksX4_isPower_0 16 rfl rfl)
theorem dX4_isPower_19 : decode cX4_isPower 19 = .ok (.iconst 0, 1) := dk_3 (dk_at dksX4_isPower_0 19 rfl rfl)
theorem dX4_isPower_20 : decode cX4_isPower 20 = .ok (.ireturn, 1) := dk_172 (dk_at dksX4_isPower_0 20 rfl rfl)
abbrev cX4_rootOf : ByteArray := prog_34_method_84_code
def yX4_rootOf : MethodName := ⟨RX4, "rootOf", "(JI)I"⟩
def dkwX4_rootOf_0 : List UInt8 := [30, 28, 184, 1, 124, 66, 33, 28, 184, 1, 117, 30, 148, 154, 0, 8, 33, 136, 167, 0, 4, 3, 172]
abbrev dktX4_rootOf_0 : List UInt8 := dkwX4_rootOf_0 ++ []
theorem dksX4_rootOf_0 : cX4_rootOf.data.toList.drop 0 = dktX4_rootOf_0 := by decide +kernel
theorem dX4_rootOf_0 : decode cX4_rootOf 0 = .ok (.lload_n 0, 1) := dk_30 (dk_at dksX4_rootOf_0 0 rfl rfl)
theorem dX4_rootOf_1 : decode cX4_rootOf 1 = .ok (.iload_n 2, 1) := dk_28 (dk_at dksX4_rootOf_0 1 rfl rfl)
theorem dX4_rootOf_2 : decode cX4_rootOf 2 = .ok (.invokestatic 380, 3) := dk_184 1 124 (dk_at dksX4_rootOf_0 2 rfl rfl)
theorem dX4_rootOf_5 : decode cX4_rootOf 5 = .ok (.lstore_n 3, 1) := dk_66 (dk_at dksX4_rootOf_0 5 rfl rfl)
theorem dX4_rootOf_6 : decode cX4_rootOf 6 = .ok (.lload_n 3, 1) := dk_33 (dk_at dksX4_rootOf_0 6 rfl rfl)
theorem dX4_rootOf_7 : decode cX4_rootOf 7 = .ok (.iload_n 2, 1) := dk_28 (dk_at dksX4_rootOf_0 7 rfl rfl)
theorem dX4_rootOf_8 : decode cX4_rootOf 8 = .ok (.invokestatic 373, 3) := dk_184 1 117 (dk_at dksX4_rootOf_0 8 rfl rfl)
theorem dX4_rootOf_11 : decode cX4_rootOf 11 = .ok (.lload_n 0, 1) := dk_30 (dk_at dksX4_rootOf_0 11 rfl rfl)
theorem dX4_rootOf_12 : decode cX4_rootOf 12 = .ok (.lcmp, 1) := dk_148 (dk_at dksX4_rootOf_0 12 rfl rfl)
theorem dX4_rootOf_13 : decode cX4_rootOf 13 = .ok (.ifCond .ne 8, 3) := dk_154 0 8 (dk_at dksX4_rootOf_0 13 rfl rfl)
theorem dX4_rootOf_16 : decode cX4_rootOf 16 = .ok (.lload_n 3, 1) := dk_33 (dk_at dksX4_rootOf_0 16 rfl rfl)
theorem dX4_rootOf_17 : decode cX4_rootOf 17 = .ok (.l2i, 1) := dk_136 (dk_at dksX4_rootOf_0 17 rfl rfl)
theorem dX4_rootOf_18 : decode cX4_rootOf 18 = .ok (.goto 4, 3) := dk_167 0 4 (dk_at dksX4_rootOf_0 18 rfl rfl)
theorem dX4_rootOf_21 : decode cX4_rootOf 21 = .ok (.iconst 0, 1) := dk_3 (dk_at dksX4_rootOf_0 21 rfl rfl)
theorem dX4_rootOf_22 : decode cX4_rootOf 22 = .ok (.ireturn, 1) := dk_172 (dk_at dksX4_rootOf_0 22 rfl rfl)
abbrev cX4_leastOf : ByteArray := prog_34_method_82_code
def yX4_leastOf : MethodName := ⟨RX4, "leastOf", "(JI)J"⟩
def dkwX4_leastOf_2 : List UInt8 := [167, 255, 216, 22, 5, 173]
abbrev dktX4_leastOf_2 : List UInt8 := dkwX4_leastOf_2 ++ []
def dkwX4_leastOf_1 : List UInt8 := [55, 7, 22, 7, 28, 184, 1, 117, 30, 148, 155, 0, 10, 22, 7, 55, 5, 167, 0, 6, 22, 7, 66]
abbrev dktX4_leastOf_1 : List UInt8 := dkwX4_leastOf_1 ++ dktX4_leastOf_2
def dkwX4_leastOf_0 : List UInt8 := [9, 66, 20, 1, 115, 55, 5, 22, 5, 33, 101, 10, 148, 158, 0, 37, 33, 22, 5, 97, 20, 1, 21, 109]
abbrev dktX4_leastOf_0 : List UInt8 := dkwX4_leastOf_0 ++ dktX4_leastOf_1
theorem dksX4_leastOf_0 : cX4_leastOf.data.toList.drop 0 = dktX4_leastOf_0 := by decide +kernel
theorem dksX4_leastOf_1 : cX4_leastOf.data.toList.drop 24 = dktX4_leastOf_1 := dk_seg dksX4_leastOf_0 24 rfl rfl
theorem dksX4_leastOf_2 : cX4_leastOf.data.toList.drop 47 = dktX4_leastOf_2 := dk_seg dksX4_leastOf_1 23 rfl rfl
theorem dX4_leastOf_0 : decode cX4_leastOf 0 = .ok (.lconst 0, 1) := dk_9 (dk_at dksX4_leastOf_0 0 rfl rfl)
theorem dX4_leastOf_1 : decode cX4_leastOf 1 = .ok (.lstore_n 3, 1) := dk_66 (dk_at dksX4_leastOf_0 1 rfl rfl)
theorem dX4_leastOf_2 : decode cX4_leastOf 2 = .ok (.ldc2_w 371, 3) := dk_20 1 115 (dk_at dksX4_leastOf_0 2 rfl rfl)
theorem dX4_leastOf_5 : decode cX4_leastOf 5 = .ok (.lstore 5, 2) := dk_55 5 (dk_at dksX4_leastOf_0 5 rfl rfl)
theorem dX4_leastOf_7 : decode cX4_leastOf 7 = .ok (.lload 5, 2) := dk_22 5 (dk_at dksX4_leastOf_0 7 rfl rfl)
theorem dX4_leastOf_9 : decode cX4_leastOf 9 = .ok (.lload_n 3, 1) := dk_33 (dk_at dksX4_leastOf_0 9 rfl rfl)
theorem dX4_leastOf_10 : decode cX4_leastOf 10 = .ok (.lsub, 1) := dk_101 (dk_at dksX4_leastOf_0 10 rfl rfl)
theorem dX4_leastOf_11 : decode cX4_leastOf 11 = .ok (.lconst 1, 1) := dk_10 (dk_at dksX4_leastOf_0 11 rfl rfl)
theorem dX4_leastOf_12 : decode cX4_leastOf 12 = .ok (.lcmp, 1) := dk_148 (dk_at dksX4_leastOf_0 12 rfl rfl)
theorem dX4_leastOf_13 : decode cX4_leastOf 13 = .ok (.ifCond .le 37, 3) := dk_158 0 37 (dk_at dksX4_leastOf_0 13 rfl rfl)
theorem dX4_leastOf_16 : decode cX4_leastOf 16 = .ok (.lload_n 3, 1) := dk_33 (dk_at dksX4_leastOf_0 16 rfl rfl)
theorem dX4_leastOf_17 : decode cX4_leastOf 17 = .ok (.lload 5, 2) := dk_22 5 (dk_at dksX4_leastOf_0 17 rfl rfl)
theorem dX4_leastOf_19 : decode cX4_leastOf 19 = .ok (.ladd, 1) := dk_97 (dk_at dksX4_leastOf_0 19 rfl rfl)
theorem dX4_leastOf_20 : decode cX4_leastOf 20 = .ok (.ldc2_w 277, 3) := dk_20 1 21 (dk_at dksX4_leastOf_0 20 rfl rfl)
theorem dX4_leastOf_23 : decode cX4_leastOf 23 = .ok (.ldiv, 1) := dk_109 (dk_at dksX4_leastOf_0 23 rfl rfl)
theorem dX4_leastOf_24 : decode cX4_leastOf 24 = .ok (.lstore 7, 2) := dk_55 7 (dk_at dksX4_leastOf_1 0 rfl rfl)
theorem dX4_leastOf_26 : decode cX4_leastOf 26 = .ok (.lload 7, 2) := dk_22 7 (dk_at dksX4_leastOf_1 2 rfl rfl)
theorem dX4_leastOf_28 : decode cX4_leastOf 28 = .ok (.iload_n 2, 1) := dk_28 (dk_at dksX4_leastOf_1 4 rfl rfl)
theorem dX4_leastOf_29 : decode cX4_leastOf 29 = .ok (.invokestatic 373, 3) := dk_184 1 117 (dk_at dksX4_leastOf_1 5 rfl rfl)
theorem dX4_leastOf_32 : decode cX4_leastOf 32 = .ok (.lload_n 0, 1) := dk_30 (dk_at dksX4_leastOf_1 8 rfl rfl)
theorem dX4_leastOf_33 : decode cX4_leastOf 33 = .ok (.lcmp, 1) := dk_148 (dk_at dksX4_leastOf_1 9 rfl rfl)
theorem dX4_leastOf_34 : decode cX4_leastOf 34 = .ok (.ifCond .lt 10, 3) := dk_155 0 10 (dk_at dksX4_leastOf_1 10 rfl rfl)
theorem dX4_leastOf_37 : decode cX4_leastOf 37 = .ok (.lload 7, 2) := dk_22 7 (dk_at dksX4_leastOf_1 13 rfl rfl)
theorem dX4_leastOf_39 : decode cX4_leastOf 39 = .ok (.lstore 5, 2) := dk_55 5 (dk_at dksX4_leastOf_1 15 rfl rfl)
theorem dX4_leastOf_41 : decode cX4_leastOf 41 = .ok (.goto 6, 3) := dk_167 0 6 (dk_at dksX4_leastOf_1 17 rfl rfl)
theorem dX4_leastOf_44 : decode cX4_leastOf 44 = .ok (.lload 7, 2) := dk_22 7 (dk_at dksX4_leastOf_1 20 rfl rfl)
theorem dX4_leastOf_46 : decode cX4_leastOf 46 = .ok (.lstore_n 3, 1) := dk_66 (dk_at dksX4_leastOf_1 22 rfl rfl)
theorem dX4_leastOf_47 : decode cX4_leastOf 47 = .ok (.goto (-40), 3) := dk_167 255 216 (dk_at dksX4_leastOf_2 0 rfl rfl)
theorem dX4_leastOf_50 : decode cX4_leastOf 50 = .ok (.lload 5, 2) := dk_22 5 (dk_at dksX4_leastOf_2 3 rfl rfl)
theorem dX4_leastOf_52 : decode cX4_leastOf 52 = .ok (.lreturn, 1) := dk_173 (dk_at dksX4_leastOf_2 5 rfl rfl)
abbrev cX4_powerOf : ByteArray := prog_34_method_81_code
def yX4_powerOf : MethodName := ⟨RX4, "powerOf", "(JI)J"⟩
def dkwX4_powerOf_1 : List UInt8 := [173, 33, 30, 105, 66, 132, 5, 1, 167, 255, 229, 33, 173]
abbrev dktX4_powerOf_1 : List UInt8 := dkwX4_powerOf_1 ++ []
def dkwX4_powerOf_0 : List UInt8 := [10, 66, 3, 54, 5, 21, 5, 28, 162, 0, 27, 33, 20, 1, 111, 30, 109, 148, 158, 0, 7, 20, 1, 113]
abbrev dktX4_powerOf_0 : List UInt8 := dkwX4_powerOf_0 ++ dktX4_powerOf_1
theorem dksX4_powerOf_0 : cX4_powerOf.data.toList.drop 0 = dktX4_powerOf_0 := by decide +kernel
theorem dksX4_powerOf_1 : cX4_powerOf.data.toList.drop 24 = dktX4_powerOf_1 := dk_seg dksX4_powerOf_0 24 rfl rfl
theorem dX4_powerOf_0 : decode cX4_powerOf 0 = .ok (.lconst 1, 1) := dk_10 (dk_at dksX4_powerOf_0 0 rfl rfl)
theorem dX4_powerOf_1 : decode cX4_powerOf 1 = .ok (.lstore_n 3, 1) := dk_66 (dk_at dksX4_powerOf_0 1 rfl rfl)
theorem dX4_powerOf_2 : decode cX4_powerOf 2 = .ok (.iconst 0, 1) := dk_3 (dk_at dksX4_powerOf_0 2 rfl rfl)
theorem dX4_powerOf_3 : decode cX4_powerOf 3 = .ok (.istore 5, 2) := dk_54 5 (dk_at dksX4_powerOf_0 3 rfl rfl)
theorem dX4_powerOf_5 : decode cX4_powerOf 5 = .ok (.iload 5, 2) := dk_21 5 (dk_at dksX4_powerOf_0 5 rfl rfl)
theorem dX4_powerOf_7 : decode cX4_powerOf 7 = .ok (.iload_n 2, 1) := dk_28 (dk_at dksX4_powerOf_0 7 rfl rfl)
theorem dX4_powerOf_8 : decode cX4_powerOf 8 = .ok (.if_icmp .ge 27, 3) := dk_162 0 27 (dk_at dksX4_powerOf_0 8 rfl rfl)
theorem dX4_powerOf_11 : decode cX4_powerOf 11 = .ok (.lload_n 3, 1) := dk_33 (dk_at dksX4_powerOf_0 11 rfl rfl)
theorem dX4_powerOf_12 : decode cX4_powerOf 12 = .ok (.ldc2_w 367, 3) := dk_20 1 111 (dk_at dksX4_powerOf_0 12 rfl rfl)
theorem dX4_powerOf_15 : decode cX4_powerOf 15 = .ok (.lload_n 0, 1) := dk_30 (dk_at dksX4_powerOf_0 15 rfl rfl)
theorem dX4_powerOf_16 : decode cX4_powerOf 16 = .ok (.ldiv, 1) := dk_109 (dk_at dksX4_powerOf_0 16 rfl rfl)
theorem dX4_powerOf_17 : decode cX4_powerOf 17 = .ok (.lcmp, 1) := dk_148 (dk_at dksX4_powerOf_0 17 rfl rfl)
theorem dX4_powerOf_18 : decode cX4_powerOf 18 = .ok (.ifCond .le 7, 3) := dk_158 0 7 (dk_at dksX4_powerOf_0 18 rfl rfl)
theorem dX4_powerOf_21 : decode cX4_powerOf 21 = .ok (.ldc2_w 369, 3) := dk_20 1 113 (dk_at dksX4_powerOf_0 21 rfl rfl)
theorem dX4_powerOf_24 : decode cX4_powerOf 24 = .ok (.lreturn, 1) := dk_173 (dk_at dksX4_powerOf_1 0 rfl rfl)
theorem dX4_powerOf_25 : decode cX4_powerOf 25 = .ok (.lload_n 3, 1) := dk_33 (dk_at dksX4_powerOf_1 1 rfl rfl)
theorem dX4_powerOf_26 : decode cX4_powerOf 26 = .ok (.lload_n 0, 1) := dk_30 (dk_at dksX4_powerOf_1 2 rfl rfl)
theorem dX4_powerOf_27 : decode cX4_powerOf 27 = .ok (.lmul, 1) := dk_105 (dk_at dksX4_powerOf_1 3 rfl rfl)
theorem dX4_powerOf_28 : decode cX4_powerOf 28 = .ok (.lstore_n 3, 1) := dk_66 (dk_at dksX4_powerOf_1 4 rfl rfl)
theorem dX4_powerOf_29 : decode cX4_powerOf 29 = .ok (.iinc 5 1, 3) := dk_132 5 1 (dk_at dksX4_powerOf_1 5 rfl rfl)
theorem dX4_powerOf_32 : decode cX4_powerOf 32 = .ok (.goto (-27), 3) := dk_167 255 229 (dk_at dksX4_powerOf_1 8 rfl rfl)
theorem dX4_powerOf_35 : decode cX4_powerOf 35 = .ok (.lload_n 3, 1) := dk_33 (dk_at dksX4_powerOf_1 11 rfl rfl)
theorem dX4_powerOf_36 : decode cX4_powerOf 36 = .ok (.lreturn, 1) := dk_173 (dk_at dksX4_powerOf_1 12 rfl rfl)
abbrev cX4_firsts : ByteArray := prog_34_method_90_code
def yX4_firsts : MethodName := ⟨RX4, "firsts", "(JII)I"⟩
def dkwX4_firsts_3 : List UInt8 := [167, 0, 8, 42, 180, 1, 141, 136, 172]
abbrev dktX4_firsts_3 : List UInt8 := dkwX4_firsts_3 ++ []
def dkwX4_firsts_2 : List UInt8 := [31, 29, 16, 100, 108, 29, 16, 100, 112, 182, 1, 151, 55, 5, 21, 4, 154, 0, 9, 22, 5, 136]
abbrev dktX4_firsts_2 : List UInt8 := dkwX4_firsts_2 ++ dktX4_firsts_3
def dkwX4_firsts_1 : List UInt8 := [184, 1, 137, 133, 184, 0, 113, 153, 0, 14, 21, 4, 133, 9, 10, 184, 0, 113, 154, 0, 5, 2, 172, 42]
abbrev dktX4_firsts_1 : List UInt8 := dkwX4_firsts_1 ++ dktX4_firsts_2
def dkwX4_firsts_0 : List UInt8 := [29, 155, 0, 42, 31, 29, 16, 100, 108, 184, 1, 127, 153, 0, 31, 29, 16, 100, 112, 133, 10, 31]
abbrev dktX4_firsts_0 : List UInt8 := dkwX4_firsts_0 ++ dktX4_firsts_1
theorem dksX4_firsts_0 : cX4_firsts.data.toList.drop 0 = dktX4_firsts_0 := by decide +kernel
theorem dksX4_firsts_1 : cX4_firsts.data.toList.drop 22 = dktX4_firsts_1 := dk_seg dksX4_firsts_0 22 rfl rfl
theorem dksX4_firsts_2 : cX4_firsts.data.toList.drop 46 = dktX4_firsts_2 := dk_seg dksX4_firsts_1 24 rfl rfl
theorem dksX4_firsts_3 : cX4_firsts.data.toList.drop 68 = dktX4_firsts_3 := dk_seg dksX4_firsts_2 22 rfl rfl
theorem dX4_firsts_0 : decode cX4_firsts 0 = .ok (.iload_n 3, 1) := dk_29 (dk_at dksX4_firsts_0 0 rfl rfl)
theorem dX4_firsts_1 : decode cX4_firsts 1 = .ok (.ifCond .lt 42, 3) := dk_155 0 42 (dk_at dksX4_firsts_0 1 rfl rfl)
theorem dX4_firsts_4 : decode cX4_firsts 4 = .ok (.lload_n 1, 1) := dk_31 (dk_at dksX4_firsts_0 4 rfl rfl)
theorem dX4_firsts_5 : decode cX4_firsts 5 = .ok (.iload_n 3, 1) := dk_29 (dk_at dksX4_firsts_0 5 rfl rfl)
theorem dX4_firsts_6 : decode cX4_firsts 6 = .ok (.bipush 100, 2) := dk_16 100 (dk_at dksX4_firsts_0 6 rfl rfl)
theorem dX4_firsts_8 : decode cX4_firsts 8 = .ok (.idiv, 1) := dk_108 (dk_at dksX4_firsts_0 8 rfl rfl)
theorem dX4_firsts_9 : decode cX4_firsts 9 = .ok (.invokestatic 383, 3) := dk_184 1 127 (dk_at dksX4_firsts_0 9 rfl rfl)
theorem dX4_firsts_12 : decode cX4_firsts 12 = .ok (.ifCond .eq 31, 3) := dk_153 0 31 (dk_at dksX4_firsts_0 12 rfl rfl)
theorem dX4_firsts_15 : decode cX4_firsts 15 = .ok (.iload_n 3, 1) := dk_29 (dk_at dksX4_firsts_0 15 rfl rfl)
theorem dX4_firsts_16 : decode cX4_firsts 16 = .ok (.bipush 100, 2) := dk_16 100 (dk_at dksX4_firsts_0 16 rfl rfl)
theorem dX4_firsts_18 : decode cX4_firsts 18 = .ok (.irem, 1) := dk_112 (dk_at dksX4_firsts_0 18 rfl rfl)
theorem dX4_firsts_19 : decode cX4_firsts 19 = .ok (.i2l, 1) := dk_133 (dk_at dksX4_firsts_0 19 rfl rfl)
theorem dX4_firsts_20 : decode cX4_firsts 20 = .ok (.lconst 1, 1) := dk_10 (dk_at dksX4_firsts_0 20 rfl rfl)
theorem dX4_firsts_21 : decode cX4_firsts 21 = .ok (.lload_n 1, 1) := dk_31 (dk_at dksX4_firsts_0 21 rfl rfl)
theorem dX4_firsts_22 : decode cX4_firsts 22 = .ok (.invokestatic 393, 3) := dk_184 1 137 (dk_at dksX4_firsts_1 0 rfl rfl)
theorem dX4_firsts_25 : decode cX4_firsts 25 = .ok (.i2l, 1) := dk_133 (dk_at dksX4_firsts_1 3 rfl rfl)
theorem dX4_firsts_26 : decode cX4_firsts 26 = .ok (.invokestatic 113, 3) := dk_184 0 113 (dk_at dksX4_firsts_1 4 rfl rfl)
theorem dX4_firsts_29 : decode cX4_firsts 29 = .ok (.ifCond .eq 14, 3) := dk_153 0 14 (dk_at dksX4_firsts_1 7 rfl rfl)
theorem dX4_firsts_32 : decode cX4_firsts 32 = .ok (.iload 4, 2) := dk_21 4 (dk_at dksX4_firsts_1 10 rfl rfl)
theorem dX4_firsts_34 : decode cX4_firsts 34 = .ok (.i2l, 1) := dk_133 (dk_at dksX4_firsts_1 12 rfl rfl)
theorem dX4_firsts_35 : decode cX4_firsts 35 = .ok (.lconst 0, 1) := dk_9 (dk_at dksX4_firsts_1 13 rfl rfl)
theorem dX4_firsts_36 : decode cX4_firsts 36 = .ok (.lconst 1, 1) := dk_10 (dk_at dksX4_firsts_1 14 rfl rfl)
theorem dX4_firsts_37 : decode cX4_firsts 37 = .ok (.invokestatic 113, 3) := dk_184 0 113 (dk_at dksX4_firsts_1 15 rfl rfl)
theorem dX4_firsts_40 : decode cX4_firsts 40 = .ok (.ifCond .ne 5, 3) := dk_154 0 5 (dk_at dksX4_firsts_1 18 rfl rfl)
theorem dX4_firsts_43 : decode cX4_firsts 43 = .ok (.iconst (-1), 1) := dk_2 (dk_at dksX4_firsts_1 21 rfl rfl)
theorem dX4_firsts_44 : decode cX4_firsts 44 = .ok (.ireturn, 1) := dk_172 (dk_at dksX4_firsts_1 22 rfl rfl)
theorem dX4_firsts_45 : decode cX4_firsts 45 = .ok (.aload_n 0, 1) := dk_42 (dk_at dksX4_firsts_1 23 rfl rfl)
theorem dX4_firsts_46 : decode cX4_firsts 46 = .ok (.lload_n 1, 1) := dk_31 (dk_at dksX4_firsts_2 0 rfl rfl)
theorem dX4_firsts_47 : decode cX4_firsts 47 = .ok (.iload_n 3, 1) := dk_29 (dk_at dksX4_firsts_2 1 rfl rfl)
theorem dX4_firsts_48 : decode cX4_firsts 48 = .ok (.bipush 100, 2) := dk_16 100 (dk_at dksX4_firsts_2 2 rfl rfl)
theorem dX4_firsts_50 : decode cX4_firsts 50 = .ok (.idiv, 1) := dk_108 (dk_at dksX4_firsts_2 4 rfl rfl)
theorem dX4_firsts_51 : decode cX4_firsts 51 = .ok (.iload_n 3, 1) := dk_29 (dk_at dksX4_firsts_2 5 rfl rfl)
theorem dX4_firsts_52 : decode cX4_firsts 52 = .ok (.bipush 100, 2) := dk_16 100 (dk_at dksX4_firsts_2 6 rfl rfl)
theorem dX4_firsts_54 : decode cX4_firsts 54 = .ok (.irem, 1) := dk_112 (dk_at dksX4_firsts_2 8 rfl rfl)
theorem dX4_firsts_55 : decode cX4_firsts 55 = .ok (.invokevirtual 407, 3) := dk_182 1 151 (dk_at dksX4_firsts_2 9 rfl rfl)
theorem dX4_firsts_58 : decode cX4_firsts 58 = .ok (.lstore 5, 2) := dk_55 5 (dk_at dksX4_firsts_2 12 rfl rfl)
theorem dX4_firsts_60 : decode cX4_firsts 60 = .ok (.iload 4, 2) := dk_21 4 (dk_at dksX4_firsts_2 14 rfl rfl)
theorem dX4_firsts_62 : decode cX4_firsts 62 = .ok (.ifCond .ne 9, 3) := dk_154 0 9 (dk_at dksX4_firsts_2 16 rfl rfl)
theorem dX4_firsts_65 : decode cX4_firsts 65 = .ok (.lload 5, 2) := dk_22 5 (dk_at dksX4_firsts_2 19 rfl rfl)
theorem dX4_firsts_67 : decode cX4_firsts 67 = .ok (.l2i, 1) := dk_136 (dk_at dksX4_firsts_2 21 rfl rfl)
theorem dX4_firsts_68 : decode cX4_firsts 68 = .ok (.goto 8, 3) := dk_167 0 8 (dk_at dksX4_firsts_3 0 rfl rfl)
theorem dX4_firsts_71 : decode cX4_firsts 71 = .ok (.aload_n 0, 1) := dk_42 (dk_at dksX4_firsts_3 3 rfl rfl)
theorem dX4_firsts_72 : decode cX4_firsts 72 = .ok (.getfield 397, 3) := dk_180 1 141 (dk_at dksX4_firsts_3 4 rfl rfl)
theorem dX4_firsts_75 : decode cX4_firsts 75 = .ok (.l2i, 1) := dk_136 (dk_at dksX4_firsts_3 7 rfl rfl)
theorem dX4_firsts_76 : decode cX4_firsts 76 = .ok (.ireturn, 1) := dk_172 (dk_at dksX4_firsts_3 8 rfl rfl)
abbrev cX4_digitsOf : ByteArray := prog_34_method_86_code
def yX4_digitsOf : MethodName := ⟨RX4, "digitsOf", "(J)I"⟩
def dkwX4_digitsOf_0 : List UInt8 := [3, 61, 30, 66, 33, 9, 148, 158, 0, 15, 132, 2, 1, 33, 20, 1, 135, 109, 66, 167, 255, 241, 28, 172]
abbrev dktX4_digitsOf_0 : List UInt8 := dkwX4_digitsOf_0 ++ []
theorem dksX4_digitsOf_0 : cX4_digitsOf.data.toList.drop 0 = dktX4_digitsOf_0 := by decide +kernel
theorem dX4_digitsOf_0 : decode cX4_digitsOf 0 = .ok (.iconst 0, 1) := dk_3 (dk_at dksX4_digitsOf_0 0 rfl rfl)
theorem dX4_digitsOf_1 : decode cX4_digitsOf 1 = .ok (.istore_n 2, 1) := dk_61 (dk_at dksX4_digitsOf_0 1 rfl rfl)
theorem dX4_digitsOf_2 : decode cX4_digitsOf 2 = .ok (.lload_n 0, 1) := dk_30 (dk_at dksX4_digitsOf_0 2 rfl rfl)
theorem dX4_digitsOf_3 : decode cX4_digitsOf 3 = .ok (.lstore_n 3, 1) := dk_66 (dk_at dksX4_digitsOf_0 3 rfl rfl)
theorem dX4_digitsOf_4 : decode cX4_digitsOf 4 = .ok (.lload_n 3, 1) := dk_33 (dk_at dksX4_digitsOf_0 4 rfl rfl)
theorem dX4_digitsOf_5 : decode cX4_digitsOf 5 = .ok (.lconst 0, 1) := dk_9 (dk_at dksX4_digitsOf_0 5 rfl rfl)
theorem dX4_digitsOf_6 : decode cX4_digitsOf 6 = .ok (.lcmp, 1) := dk_148 (dk_at dksX4_digitsOf_0 6 rfl rfl)
theorem dX4_digitsOf_7 : decode cX4_digitsOf 7 = .ok (.ifCond .le 15, 3) := dk_158 0 15 (dk_at dksX4_digitsOf_0 7 rfl rfl)
theorem dX4_digitsOf_10 : decode cX4_digitsOf 10 = .ok (.iinc 2 1, 3) := dk_132 2 1 (dk_at dksX4_digitsOf_0 10 rfl rfl)
theorem dX4_digitsOf_13 : decode cX4_digitsOf 13 = .ok (.lload_n 3, 1) := dk_33 (dk_at dksX4_digitsOf_0 13 rfl rfl)
theorem dX4_digitsOf_14 : decode cX4_digitsOf 14 = .ok (.ldc2_w 391, 3) := dk_20 1 135 (dk_at dksX4_digitsOf_0 14 rfl rfl)
theorem dX4_digitsOf_17 : decode cX4_digitsOf 17 = .ok (.ldiv, 1) := dk_109 (dk_at dksX4_digitsOf_0 17 rfl rfl)
theorem dX4_digitsOf_18 : decode cX4_digitsOf 18 = .ok (.lstore_n 3, 1) := dk_66 (dk_at dksX4_digitsOf_0 18 rfl rfl)
theorem dX4_digitsOf_19 : decode cX4_digitsOf 19 = .ok (.goto (-15), 3) := dk_167 255 241 (dk_at dksX4_digitsOf_0 19 rfl rfl)
theorem dX4_digitsOf_22 : decode cX4_digitsOf 22 = .ok (.iload_n 2, 1) := dk_28 (dk_at dksX4_digitsOf_0 22 rfl rfl)
theorem dX4_digitsOf_23 : decode cX4_digitsOf 23 = .ok (.ireturn, 1) := dk_172 (dk_at dksX4_digitsOf_0 23 rfl rfl)
abbrev cX4_manyFirsts : ByteArray := prog_34_method_89_code
def yX4_manyFirsts : MethodName := ⟨RX4, "manyFirsts", "(JII)J"⟩
def dkwX4_manyFirsts_10 : List UInt8 := [173]
abbrev dktX4_manyFirsts_10 : List UInt8 := dkwX4_manyFirsts_10 ++ []
def dkwX4_manyFirsts_9 : List UInt8 := [22, 18, 42, 180, 1, 141, 148, 156, 0, 9, 42, 22, 18, 181, 1, 141, 132, 17, 1, 167, 255, 156, 22, 15]
abbrev dktX4_manyFirsts_9 : List UInt8 := dkwX4_manyFirsts_9 ++ dktX4_manyFirsts_10
def dkwX4_manyFirsts_8 : List UInt8 := [20, 1, 135, 113, 97, 55, 18, 22, 18, 22, 12, 148, 156, 0, 28, 42, 180, 1, 141, 9, 148, 153, 0, 13]
abbrev dktX4_manyFirsts_8 : List UInt8 := dkwX4_manyFirsts_8 ++ dktX4_manyFirsts_9
def dkwX4_manyFirsts_7 : List UInt8 := [184, 1, 148, 101, 97, 55, 15, 22, 10, 21, 17, 133, 22, 10, 101, 20, 1, 135, 113, 20, 1, 135, 97]
abbrev dktX4_manyFirsts_7 : List UInt8 := dkwX4_manyFirsts_7 ++ dktX4_manyFirsts_8
def dkwX4_manyFirsts_6 : List UInt8 := [184, 1, 145, 21, 14, 159, 0, 6, 167, 0, 79, 22, 15, 22, 12, 21, 17, 184, 1, 148, 22, 10, 21, 17]
abbrev dktX4_manyFirsts_6 : List UInt8 := dkwX4_manyFirsts_6 ++ dktX4_manyFirsts_7
def dkwX4_manyFirsts_5 : List UInt8 := [136, 54, 14, 9, 55, 15, 42, 9, 181, 1, 141, 3, 54, 17, 21, 17, 16, 10, 162, 0, 99, 21, 17, 29]
abbrev dktX4_manyFirsts_5 : List UInt8 := dkwX4_manyFirsts_5 ++ dktX4_manyFirsts_6
def dkwX4_manyFirsts_4 : List UInt8 := [167, 0, 4, 9, 97, 167, 0, 12, 22, 8, 22, 6, 97, 29, 184, 1, 124, 55, 12, 31, 20, 1, 135, 113]
abbrev dktX4_manyFirsts_4 : List UInt8 := dkwX4_manyFirsts_4 ++ dktX4_manyFirsts_5
def dkwX4_manyFirsts_3 : List UInt8 := [184, 1, 124, 20, 1, 111, 29, 184, 1, 124, 29, 184, 1, 117, 20, 1, 111, 148, 157, 0, 7, 10]
abbrev dktX4_manyFirsts_3 : List UInt8 := dkwX4_manyFirsts_3 ++ dktX4_manyFirsts_4
def dkwX4_manyFirsts_2 : List UInt8 := [184, 1, 124, 55, 10, 22, 8, 22, 6, 97, 10, 101, 20, 1, 111, 148, 155, 0, 37, 20, 1, 111, 29]
abbrev dktX4_manyFirsts_2 : List UInt8 := dkwX4_manyFirsts_2 ++ dktX4_manyFirsts_3
def dkwX4_manyFirsts_1 : List UInt8 := [20, 1, 135, 105, 55, 6, 132, 8, 1, 167, 255, 235, 31, 22, 6, 109, 22, 6, 105, 55, 8, 22, 8, 29]
abbrev dktX4_manyFirsts_1 : List UInt8 := dkwX4_manyFirsts_1 ++ dktX4_manyFirsts_2
def dkwX4_manyFirsts_0 : List UInt8 := [31, 184, 1, 137, 54, 5, 10, 55, 6, 3, 54, 8, 21, 8, 21, 5, 21, 4, 100, 162, 0, 17, 22, 6]
abbrev dktX4_manyFirsts_0 : List UInt8 := dkwX4_manyFirsts_0 ++ dktX4_manyFirsts_1
theorem dksX4_manyFirsts_0 : cX4_manyFirsts.data.toList.drop 0 = dktX4_manyFirsts_0 := by decide +kernel
theorem dksX4_manyFirsts_1 : cX4_manyFirsts.data.toList.drop 24 = dktX4_manyFirsts_1 := dk_seg dksX4_manyFirsts_0 24 rfl rfl
theorem dksX4_manyFirsts_2 : cX4_manyFirsts.data.toList.drop 48 = dktX4_manyFirsts_2 := dk_seg dksX4_manyFirsts_1 24 rfl rfl
theorem dksX4_manyFirsts_3 : cX4_manyFirsts.data.toList.drop 71 = dktX4_manyFirsts_3 := dk_seg dksX4_manyFirsts_2 23 rfl rfl
theorem dksX4_manyFirsts_4 : cX4_manyFirsts.data.toList.drop 93 = dktX4_manyFirsts_4 := dk_seg dksX4_manyFirsts_3 22 rfl rfl
theorem dksX4_manyFirsts_5 : cX4_manyFirsts.data.toList.drop 117 = dktX4_manyFirsts_5 := dk_seg dksX4_manyFirsts_4 24 rfl rfl
theorem dksX4_manyFirsts_6 : cX4_manyFirsts.data.toList.drop 141 = dktX4_manyFirsts_6 := dk_seg dksX4_manyFirsts_5 24 rfl rfl
theorem dksX4_manyFirsts_7 : cX4_manyFirsts.data.toList.drop 165 = dktX4_manyFirsts_7 := dk_seg dksX4_manyFirsts_6 24 rfl rfl
theorem dksX4_manyFirsts_8 : cX4_manyFirsts.data.toList.drop 188 = dktX4_manyFirsts_8 := dk_seg dksX4_manyFirsts_7 23 rfl rfl
theorem dksX4_manyFirsts_9 : cX4_manyFirsts.data.toList.drop 212 = dktX4_manyFirsts_9 := dk_seg dksX4_manyFirsts_8 24 rfl rfl
theorem dksX4_manyFirsts_10 : cX4_manyFirsts.data.toList.drop 236 = dktX4_manyFirsts_10 := dk_seg dksX4_manyFirsts_9 24 rfl rfl
theorem dX4_manyFirsts_0 : decode cX4_manyFirsts 0 = .ok (.lload_n 1, 1) := dk_31 (dk_at dksX4_manyFirsts_0 0 rfl rfl)
theorem dX4_manyFirsts_1 : decode cX4_manyFirsts 1 = .ok (.invokestatic 393, 3) := dk_184 1 137 (dk_at dksX4_manyFirsts_0 1 rfl rfl)
theorem dX4_manyFirsts_4 : decode cX4_manyFirsts 4 = .ok (.istore 5, 2) := dk_54 5 (dk_at dksX4_manyFirsts_0 4 rfl rfl)
theorem dX4_manyFirsts_6 : decode cX4_manyFirsts 6 = .ok (.lconst 1, 1) := dk_10 (dk_at dksX4_manyFirsts_0 6 rfl rfl)
theorem dX4_manyFirsts_7 : decode cX4_manyFirsts 7 = .ok (.lstore 6, 2) := dk_55 6 (dk_at dksX4_manyFirsts_0 7 rfl rfl)
theorem dX4_manyFirsts_9 : decode cX4_manyFirsts 9 = .ok (.iconst 0, 1) := dk_3 (dk_at dksX4_manyFirsts_0 9 rfl rfl)
theorem dX4_manyFirsts_10 : decode cX4_manyFirsts 10 = .ok (.istore 8, 2) := dk_54 8 (dk_at dksX4_manyFirsts_0 10 rfl rfl)
theorem dX4_manyFirsts_12 : decode cX4_manyFirsts 12 = .ok (.iload 8, 2) := dk_21 8 (dk_at dksX4_manyFirsts_0 12 rfl rfl)
theorem dX4_manyFirsts_14 : decode cX4_manyFirsts 14 = .ok (.iload 5, 2) := dk_21 5 (dk_at dksX4_manyFirsts_0 14 rfl rfl)
theorem dX4_manyFirsts_16 : decode cX4_manyFirsts 16 = .ok (.iload 4, 2) := dk_21 4 (dk_at dksX4_manyFirsts_0 16 rfl rfl)
theorem dX4_manyFirsts_18 : decode cX4_manyFirsts 18 = .ok (.isub, 1) := dk_100 (dk_at dksX4_manyFirsts_0 18 rfl rfl)
theorem dX4_manyFirsts_19 : decode cX4_manyFirsts 19 = .ok (.if_icmp .ge 17, 3) := dk_162 0 17 (dk_at dksX4_manyFirsts_0 19 rfl rfl)
theorem dX4_manyFirsts_22 : decode cX4_manyFirsts 22 = .ok (.lload 6, 2) := dk_22 6 (dk_at dksX4_manyFirsts_0 22 rfl rfl)
theorem dX4_manyFirsts_24 : decode cX4_manyFirsts 24 = .ok (.ldc2_w 391, 3) := dk_20 1 135 (dk_at dksX4_manyFirsts_1 0 rfl rfl)
theorem dX4_manyFirsts_27 : decode cX4_manyFirsts 27 = .ok (.lmul, 1) := dk_105 (dk_at dksX4_manyFirsts_1 3 rfl rfl)
theorem dX4_manyFirsts_28 : decode cX4_manyFirsts 28 = .ok (.lstore 6, 2) := dk_55 6 (dk_at dksX4_manyFirsts_1 4 rfl rfl)
theorem dX4_manyFirsts_30 : decode cX4_manyFirsts 30 = .ok (.iinc 8 1, 3) := dk_132 8 1 (dk_at dksX4_manyFirsts_1 6 rfl rfl)
theorem dX4_manyFirsts_33 : decode cX4_manyFirsts 33 = .ok (.goto (-21), 3) := dk_167 255 235 (dk_at dksX4_manyFirsts_1 9 rfl rfl)
theorem dX4_manyFirsts_36 : decode cX4_manyFirsts 36 = .ok (.lload_n 1, 1) := dk_31 (dk_at dksX4_manyFirsts_1 12 rfl rfl)
theorem dX4_manyFirsts_37 : decode cX4_manyFirsts 37 = .ok (.lload 6, 2) := dk_22 6 (dk_at dksX4_manyFirsts_1 13 rfl rfl)
theorem dX4_manyFirsts_39 : decode cX4_manyFirsts 39 = .ok (.ldiv, 1) := dk_109 (dk_at dksX4_manyFirsts_1 15 rfl rfl)
theorem dX4_manyFirsts_40 : decode cX4_manyFirsts 40 = .ok (.lload 6, 2) := dk_22 6 (dk_at dksX4_manyFirsts_1 16 rfl rfl)
theorem dX4_manyFirsts_42 : decode cX4_manyFirsts 42 = .ok (.lmul, 1) := dk_105 (dk_at dksX4_manyFirsts_1 18 rfl rfl)
theorem dX4_manyFirsts_43 : decode cX4_manyFirsts 43 = .ok (.lstore 8, 2) := dk_55 8 (dk_at dksX4_manyFirsts_1 19 rfl rfl)
theorem dX4_manyFirsts_45 : decode cX4_manyFirsts 45 = .ok (.lload 8, 2) := dk_22 8 (dk_at dksX4_manyFirsts_1 21 rfl rfl)
theorem dX4_manyFirsts_47 : decode cX4_manyFirsts 47 = .ok (.iload_n 3, 1) := dk_29 (dk_at dksX4_manyFirsts_1 23 rfl rfl)
theorem dX4_manyFirsts_48 : decode cX4_manyFirsts 48 = .ok (.invokestatic 380, 3) := dk_184 1 124 (dk_at dksX4_manyFirsts_2 0 rfl rfl)
theorem dX4_manyFirsts_51 : decode cX4_manyFirsts 51 = .ok (.lstore 10, 2) := dk_55 10 (dk_at dksX4_manyFirsts_2 3 rfl rfl)
theorem dX4_manyFirsts_53 : decode cX4_manyFirsts 53 = .ok (.lload 8, 2) := dk_22 8 (dk_at dksX4_manyFirsts_2 5 rfl rfl)
theorem dX4_manyFirsts_55 : decode cX4_manyFirsts 55 = .ok (.lload 6, 2) := dk_22 6 (dk_at dksX4_manyFirsts_2 7 rfl rfl)
theorem dX4_manyFirsts_57 : decode cX4_manyFirsts 57 = .ok (.ladd, 1) := dk_97 (dk_at dksX4_manyFirsts_2 9 rfl rfl)
theorem dX4_manyFirsts_58 : decode cX4_manyFirsts 58 = .ok (.lconst 1, 1) := dk_10 (dk_at dksX4_manyFirsts_2 10 rfl rfl)
theorem dX4_manyFirsts_59 : decode cX4_manyFirsts 59 = .ok (.lsub, 1) := dk_101 (dk_at dksX4_manyFirsts_2 11 rfl rfl)
theorem dX4_manyFirsts_60 : decode cX4_manyFirsts 60 = .ok (.ldc2_w 367, 3) := dk_20 1 111 (dk_at dksX4_manyFirsts_2 12 rfl rfl)
theorem dX4_manyFirsts_63 : decode cX4_manyFirsts 63 = .ok (.lcmp, 1) := dk_148 (dk_at dksX4_manyFirsts_2 15 rfl rfl)
theorem dX4_manyFirsts_64 : decode cX4_manyFirsts 64 = .ok (.ifCond .lt 37, 3) := dk_155 0 37 (dk_at dksX4_manyFirsts_2 16 rfl rfl)
theorem dX4_manyFirsts_67 : decode cX4_manyFirsts 67 = .ok (.ldc2_w 367, 3) := dk_20 1 111 (dk_at dksX4_manyFirsts_2 19 rfl rfl)
theorem dX4_manyFirsts_70 : decode cX4_manyFirsts 70 = .ok (.iload_n 3, 1) := dk_29 (dk_at dksX4_manyFirsts_2 22 rfl rfl)
theorem dX4_manyFirsts_71 : decode cX4_manyFirsts 71 = .ok (.invokestatic 380, 3) := dk_184 1 124 (dk_at dksX4_manyFirsts_3 0 rfl rfl)
theorem dX4_manyFirsts_74 : decode cX4_manyFirsts 74 = .ok (.ldc2_w 367, 3) := dk_20 1 111 (dk_at dksX4_manyFirsts_3 3 rfl rfl)
theorem dX4_manyFirsts_77 : decode cX4_manyFirsts 77 = .ok (.iload_n 3, 1) := dk_29 (dk_at dksX4_manyFirsts_3 6 rfl rfl)
theorem dX4_manyFirsts_78 : decode cX4_manyFirsts 78 = .ok (.invokestatic 380, 3) := dk_184 1 124 (dk_at dksX4_manyFirsts_3 7 rfl rfl)
theorem dX4_manyFirsts_81 : decode cX4_manyFirsts 81 = .ok (.iload_n 3, 1) := dk_29 (dk_at dksX4_manyFirsts_3 10 rfl rfl)
theorem dX4_manyFirsts_82 : decode cX4_manyFirsts 82 = .ok (.invokestatic 373, 3) := dk_184 1 117 (dk_at dksX4_manyFirsts_3 11 rfl rfl)
theorem dX4_manyFirsts_85 : decode cX4_manyFirsts 85 = .ok (.ldc2_w 367, 3) := dk_20 1 111 (dk_at dksX4_manyFirsts_3 14 rfl rfl)
theorem dX4_manyFirsts_88 : decode cX4_manyFirsts 88 = .ok (.lcmp, 1) := dk_148 (dk_at dksX4_manyFirsts_3 17 rfl rfl)
theorem dX4_manyFirsts_89 : decode cX4_manyFirsts 89 = .ok (.ifCond .gt 7, 3) := dk_157 0 7 (dk_at dksX4_manyFirsts_3 18 rfl rfl)
theorem dX4_manyFirsts_92 : decode cX4_manyFirsts 92 = .ok (.lconst 1, 1) := dk_10 (dk_at dksX4_manyFirsts_3 21 rfl rfl)
theorem dX4_manyFirsts_93 : decode cX4_manyFirsts 93 = .ok (.goto 4, 3) := dk_167 0 4 (dk_at dksX4_manyFirsts_4 0 rfl rfl)
theorem dX4_manyFirsts_96 : decode cX4_manyFirsts 96 = .ok (.lconst 0, 1) := dk_9 (dk_at dksX4_manyFirsts_4 3 rfl rfl)
theorem dX4_manyFirsts_97 : decode cX4_manyFirsts 97 = .ok (.ladd, 1) := dk_97 (dk_at dksX4_manyFirsts_4 4 rfl rfl)
theorem dX4_manyFirsts_98 : decode cX4_manyFirsts 98 = .ok (.goto 12, 3) := dk_167 0 12 (dk_at dksX4_manyFirsts_4 5 rfl rfl)
theorem dX4_manyFirsts_101 : decode cX4_manyFirsts 101 = .ok (.lload 8, 2) := dk_22 8 (dk_at dksX4_manyFirsts_4 8 rfl rfl)
theorem dX4_manyFirsts_103 : decode cX4_manyFirsts 103 = .ok (.lload 6, 2) := dk_22 6 (dk_at dksX4_manyFirsts_4 10 rfl rfl)
theorem dX4_manyFirsts_105 : decode cX4_manyFirsts 105 = .ok (.ladd, 1) := dk_97 (dk_at dksX4_manyFirsts_4 12 rfl rfl)
theorem dX4_manyFirsts_106 : decode cX4_manyFirsts 106 = .ok (.iload_n 3, 1) := dk_29 (dk_at dksX4_manyFirsts_4 13 rfl rfl)
theorem dX4_manyFirsts_107 : decode cX4_manyFirsts 107 = .ok (.invokestatic 380, 3) := dk_184 1 124 (dk_at dksX4_manyFirsts_4 14 rfl rfl)
theorem dX4_manyFirsts_110 : decode cX4_manyFirsts 110 = .ok (.lstore 12, 2) := dk_55 12 (dk_at dksX4_manyFirsts_4 17 rfl rfl)
theorem dX4_manyFirsts_112 : decode cX4_manyFirsts 112 = .ok (.lload_n 1, 1) := dk_31 (dk_at dksX4_manyFirsts_4 19 rfl rfl)
theorem dX4_manyFirsts_113 : decode cX4_manyFirsts 113 = .ok (.ldc2_w 391, 3) := dk_20 1 135 (dk_at dksX4_manyFirsts_4 20 rfl rfl)
theorem dX4_manyFirsts_116 : decode cX4_manyFirsts 116 = .ok (.lrem, 1) := dk_113 (dk_at dksX4_manyFirsts_4 23 rfl rfl)
theorem dX4_manyFirsts_117 : decode cX4_manyFirsts 117 = .ok (.l2i, 1) := dk_136 (dk_at dksX4_manyFirsts_5 0 rfl rfl)
theorem dX4_manyFirsts_118 : decode cX4_manyFirsts 118 = .ok (.istore 14, 2) := dk_54 14 (dk_at dksX4_manyFirsts_5 1 rfl rfl)
theorem dX4_manyFirsts_120 : decode cX4_manyFirsts 120 = .ok (.lconst 0, 1) := dk_9 (dk_at dksX4_manyFirsts_5 3 rfl rfl)
theorem dX4_manyFirsts_121 : decode cX4_manyFirsts 121 = .ok (.lstore 15, 2) := dk_55 15 (dk_at dksX4_manyFirsts_5 4 rfl rfl)
theorem dX4_manyFirsts_123 : decode cX4_manyFirsts 123 = .ok (.aload_n 0, 1) := dk_42 (dk_at dksX4_manyFirsts_5 6 rfl rfl)
theorem dX4_manyFirsts_124 : decode cX4_manyFirsts 124 = .ok (.lconst 0, 1) := dk_9 (dk_at dksX4_manyFirsts_5 7 rfl rfl)
theorem dX4_manyFirsts_125 : decode cX4_manyFirsts 125 = .ok (.putfield 397, 3) := dk_181 1 141 (dk_at dksX4_manyFirsts_5 8 rfl rfl)
theorem dX4_manyFirsts_128 : decode cX4_manyFirsts 128 = .ok (.iconst 0, 1) := dk_3 (dk_at dksX4_manyFirsts_5 11 rfl rfl)
theorem dX4_manyFirsts_129 : decode cX4_manyFirsts 129 = .ok (.istore 17, 2) := dk_54 17 (dk_at dksX4_manyFirsts_5 12 rfl rfl)
theorem dX4_manyFirsts_131 : decode cX4_manyFirsts 131 = .ok (.iload 17, 2) := dk_21 17 (dk_at dksX4_manyFirsts_5 14 rfl rfl)
theorem dX4_manyFirsts_133 : decode cX4_manyFirsts 133 = .ok (.bipush 10, 2) := dk_16 10 (dk_at dksX4_manyFirsts_5 16 rfl rfl)
theorem dX4_manyFirsts_135 : decode cX4_manyFirsts 135 = .ok (.if_icmp .ge 99, 3) := dk_162 0 99 (dk_at dksX4_manyFirsts_5 18 rfl rfl)
theorem dX4_manyFirsts_138 : decode cX4_manyFirsts 138 = .ok (.iload 17, 2) := dk_21 17 (dk_at dksX4_manyFirsts_5 21 rfl rfl)
theorem dX4_manyFirsts_140 : decode cX4_manyFirsts 140 = .ok (.iload_n 3, 1) := dk_29 (dk_at dksX4_manyFirsts_5 23 rfl rfl)
theorem dX4_manyFirsts_141 : decode cX4_manyFirsts 141 = .ok (.invokestatic 401, 3) := dk_184 1 145 (dk_at dksX4_manyFirsts_6 0 rfl rfl)
theorem dX4_manyFirsts_144 : decode cX4_manyFirsts 144 = .ok (.iload 14, 2) := dk_21 14 (dk_at dksX4_manyFirsts_6 3 rfl rfl)
theorem dX4_manyFirsts_146 : decode cX4_manyFirsts 146 = .ok (.if_icmp .eq 6, 3) := dk_159 0 6 (dk_at dksX4_manyFirsts_6 5 rfl rfl)
theorem dX4_manyFirsts_149 : decode cX4_manyFirsts 149 = .ok (.goto 79, 3) := dk_167 0 79 (dk_at dksX4_manyFirsts_6 8 rfl rfl)
theorem dX4_manyFirsts_152 : decode cX4_manyFirsts 152 = .ok (.lload 15, 2) := dk_22 15 (dk_at dksX4_manyFirsts_6 11 rfl rfl)
theorem dX4_manyFirsts_154 : decode cX4_manyFirsts 154 = .ok (.lload 12, 2) := dk_22 12 (dk_at dksX4_manyFirsts_6 13 rfl rfl)
theorem dX4_manyFirsts_156 : decode cX4_manyFirsts 156 = .ok (.iload 17, 2) := dk_21 17 (dk_at dksX4_manyFirsts_6 15 rfl rfl)
theorem dX4_manyFirsts_158 : decode cX4_manyFirsts 158 = .ok (.invokestatic 404, 3) := dk_184 1 148 (dk_at dksX4_manyFirsts_6 17 rfl rfl)
theorem dX4_manyFirsts_161 : decode cX4_manyFirsts 161 = .ok (.lload 10, 2) := dk_22 10 (dk_at dksX4_manyFirsts_6 20 rfl rfl)
theorem dX4_manyFirsts_163 : decode cX4_manyFirsts 163 = .ok (.iload 17, 2) := dk_21 17 (dk_at dksX4_manyFirsts_6 22 rfl rfl)
theorem dX4_manyFirsts_165 : decode cX4_manyFirsts 165 = .ok (.invokestatic 404, 3) := dk_184 1 148 (dk_at dksX4_manyFirsts_7 0 rfl rfl)
theorem dX4_manyFirsts_168 : decode cX4_manyFirsts 168 = .ok (.lsub, 1) := dk_101 (dk_at dksX4_manyFirsts_7 3 rfl rfl)
theorem dX4_manyFirsts_169 : decode cX4_manyFirsts 169 = .ok (.ladd, 1) := dk_97 (dk_at dksX4_manyFirsts_7 4 rfl rfl)
theorem dX4_manyFirsts_170 : decode cX4_manyFirsts 170 = .ok (.lstore 15, 2) := dk_55 15 (dk_at dksX4_manyFirsts_7 5 rfl rfl)
theorem dX4_manyFirsts_172 : decode cX4_manyFirsts 172 = .ok (.lload 10, 2) := dk_22 10 (dk_at dksX4_manyFirsts_7 7 rfl rfl)
theorem dX4_manyFirsts_174 : decode cX4_manyFirsts 174 = .ok (.iload 17, 2) := dk_21 17 (dk_at dksX4_manyFirsts_7 9 rfl rfl)
theorem dX4_manyFirsts_176 : decode cX4_manyFirsts 176 = .ok (.i2l, 1) := dk_133 (dk_at dksX4_manyFirsts_7 11 rfl rfl)
theorem dX4_manyFirsts_177 : decode cX4_manyFirsts 177 = .ok (.lload 10, 2) := dk_22 10 (dk_at dksX4_manyFirsts_7 12 rfl rfl)
theorem dX4_manyFirsts_179 : decode cX4_manyFirsts 179 = .ok (.lsub, 1) := dk_101 (dk_at dksX4_manyFirsts_7 14 rfl rfl)
theorem dX4_manyFirsts_180 : decode cX4_manyFirsts 180 = .ok (.ldc2_w 391, 3) := dk_20 1 135 (dk_at dksX4_manyFirsts_7 15 rfl rfl)
theorem dX4_manyFirsts_183 : decode cX4_manyFirsts 183 = .ok (.lrem, 1) := dk_113 (dk_at dksX4_manyFirsts_7 18 rfl rfl)
theorem dX4_manyFirsts_184 : decode cX4_manyFirsts 184 = .ok (.ldc2_w 391, 3) := dk_20 1 135 (dk_at dksX4_manyFirsts_7 19 rfl rfl)
theorem dX4_manyFirsts_187 : decode cX4_manyFirsts 187 = .ok (.ladd, 1) := dk_97 (dk_at dksX4_manyFirsts_7 22 rfl rfl)
theorem dX4_manyFirsts_188 : decode cX4_manyFirsts 188 = .ok (.ldc2_w 391, 3) := dk_20 1 135 (dk_at dksX4_manyFirsts_8 0 rfl rfl)
theorem dX4_manyFirsts_191 : decode cX4_manyFirsts 191 = .ok (.lrem, 1) := dk_113 (dk_at dksX4_manyFirsts_8 3 rfl rfl)
theorem dX4_manyFirsts_192 : decode cX4_manyFirsts 192 = .ok (.ladd, 1) := dk_97 (dk_at dksX4_manyFirsts_8 4 rfl rfl)
theorem dX4_manyFirsts_193 : decode cX4_manyFirsts 193 = .ok (.lstore 18, 2) := dk_55 18 (dk_at dksX4_manyFirsts_8 5 rfl rfl)
theorem dX4_manyFirsts_195 : decode cX4_manyFirsts 195 = .ok (.lload 18, 2) := dk_22 18 (dk_at dksX4_manyFirsts_8 7 rfl rfl)
theorem dX4_manyFirsts_197 : decode cX4_manyFirsts 197 = .ok (.lload 12, 2) := dk_22 12 (dk_at dksX4_manyFirsts_8 9 rfl rfl)
theorem dX4_manyFirsts_199 : decode cX4_manyFirsts 199 = .ok (.lcmp, 1) := dk_148 (dk_at dksX4_manyFirsts_8 11 rfl rfl)
theorem dX4_manyFirsts_200 : decode cX4_manyFirsts 200 = .ok (.ifCond .ge 28, 3) := dk_156 0 28 (dk_at dksX4_manyFirsts_8 12 rfl rfl)
theorem dX4_manyFirsts_203 : decode cX4_manyFirsts 203 = .ok (.aload_n 0, 1) := dk_42 (dk_at dksX4_manyFirsts_8 15 rfl rfl)
theorem dX4_manyFirsts_204 : decode cX4_manyFirsts 204 = .ok (.getfield 397, 3) := dk_180 1 141 (dk_at dksX4_manyFirsts_8 16 rfl rfl)
theorem dX4_manyFirsts_207 : decode cX4_manyFirsts 207 = .ok (.lconst 0, 1) := dk_9 (dk_at dksX4_manyFirsts_8 19 rfl rfl)
theorem dX4_manyFirsts_208 : decode cX4_manyFirsts 208 = .ok (.lcmp, 1) := dk_148 (dk_at dksX4_manyFirsts_8 20 rfl rfl)
theorem dX4_manyFirsts_209 : decode cX4_manyFirsts 209 = .ok (.ifCond .eq 13, 3) := dk_153 0 13 (dk_at dksX4_manyFirsts_8 21 rfl rfl)
theorem dX4_manyFirsts_212 : decode cX4_manyFirsts 212 = .ok (.lload 18, 2) := dk_22 18 (dk_at dksX4_manyFirsts_9 0 rfl rfl)
theorem dX4_manyFirsts_214 : decode cX4_manyFirsts 214 = .ok (.aload_n 0, 1) := dk_42 (dk_at dksX4_manyFirsts_9 2 rfl rfl)
theorem dX4_manyFirsts_215 : decode cX4_manyFirsts 215 = .ok (.getfield 397, 3) := dk_180 1 141 (dk_at dksX4_manyFirsts_9 3 rfl rfl)
theorem dX4_manyFirsts_218 : decode cX4_manyFirsts 218 = .ok (.lcmp, 1) := dk_148 (dk_at dksX4_manyFirsts_9 6 rfl rfl)
theorem dX4_manyFirsts_219 : decode cX4_manyFirsts 219 = .ok (.ifCond .ge 9, 3) := dk_156 0 9 (dk_at dksX4_manyFirsts_9 7 rfl rfl)
theorem dX4_manyFirsts_222 : decode cX4_manyFirsts 222 = .ok (.aload_n 0, 1) := dk_42 (dk_at dksX4_manyFirsts_9 10 rfl rfl)
theorem dX4_manyFirsts_223 : decode cX4_manyFirsts 223 = .ok (.lload 18, 2) := dk_22 18 (dk_at dksX4_manyFirsts_9 11 rfl rfl)
theorem dX4_manyFirsts_225 : decode cX4_manyFirsts 225 = .ok (.putfield 397, 3) := dk_181 1 141 (dk_at dksX4_manyFirsts_9 13 rfl rfl)
theorem dX4_manyFirsts_228 : decode cX4_manyFirsts 228 = .ok (.iinc 17 1, 3) := dk_132 17 1 (dk_at dksX4_manyFirsts_9 16 rfl rfl)
theorem dX4_manyFirsts_231 : decode cX4_manyFirsts 231 = .ok (.goto (-100), 3) := dk_167 255 156 (dk_at dksX4_manyFirsts_9 19 rfl rfl)
theorem dX4_manyFirsts_234 : decode cX4_manyFirsts 234 = .ok (.lload 15, 2) := dk_22 15 (dk_at dksX4_manyFirsts_9 22 rfl rfl)
theorem dX4_manyFirsts_236 : decode cX4_manyFirsts 236 = .ok (.lreturn, 1) := dk_173 (dk_at dksX4_manyFirsts_10 0 rfl rfl)
abbrev cX4_lastOf : ByteArray := prog_34_method_87_code
def yX4_lastOf : MethodName := ⟨RX4, "lastOf", "(II)I"⟩
def dkwX4_lastOf_0 : List UInt8 := [4, 61, 3, 62, 29, 27, 162, 0, 16, 28, 26, 104, 16, 10, 112, 61, 132, 3, 1, 167, 255, 241, 28, 172]
abbrev dktX4_lastOf_0 : List UInt8 := dkwX4_lastOf_0 ++ []
theorem dksX4_lastOf_0 : cX4_lastOf.data.toList.drop 0 = dktX4_lastOf_0 := by decide +kernel
theorem dX4_lastOf_0 : decode cX4_lastOf 0 = .ok (.iconst 1, 1) := dk_4 (dk_at dksX4_lastOf_0 0 rfl rfl)
theorem dX4_lastOf_1 : decode cX4_lastOf 1 = .ok (.istore_n 2, 1) := dk_61 (dk_at dksX4_lastOf_0 1 rfl rfl)
theorem dX4_lastOf_2 : decode cX4_lastOf 2 = .ok (.iconst 0, 1) := dk_3 (dk_at dksX4_lastOf_0 2 rfl rfl)
theorem dX4_lastOf_3 : decode cX4_lastOf 3 = .ok (.istore_n 3, 1) := dk_62 (dk_at dksX4_lastOf_0 3 rfl rfl)
theorem dX4_lastOf_4 : decode cX4_lastOf 4 = .ok (.iload_n 3, 1) := dk_29 (dk_at dksX4_lastOf_0 4 rfl rfl)
theorem dX4_lastOf_5 : decode cX4_lastOf 5 = .ok (.iload_n 1, 1) := dk_27 (dk_at dksX4_lastOf_0 5 rfl rfl)
theorem dX4_lastOf_6 : decode cX4_lastOf 6 = .ok (.if_icmp .ge 16, 3) := dk_162 0 16 (dk_at dksX4_lastOf_0 6 rfl rfl)
theorem dX4_lastOf_9 : decode cX4_lastOf 9 = .ok (.iload_n 2, 1) := dk_28 (dk_at dksX4_lastOf_0 9 rfl rfl)
theorem dX4_lastOf_10 : decode cX4_lastOf 10 = .ok (.iload_n 0, 1) := dk_26 (dk_at dksX4_lastOf_0 10 rfl rfl)
theorem dX4_lastOf_11 : decode cX4_lastOf 11 = .ok (.imul, 1) := dk_104 (dk_at dksX4_lastOf_0 11 rfl rfl)
theorem dX4_lastOf_12 : decode cX4_lastOf 12 = .ok (.bipush 10, 2) := dk_16 10 (dk_at dksX4_lastOf_0 12 rfl rfl)
theorem dX4_lastOf_14 : decode cX4_lastOf 14 = .ok (.irem, 1) := dk_112 (dk_at dksX4_lastOf_0 14 rfl rfl)
theorem dX4_lastOf_15 : decode cX4_lastOf 15 = .ok (.istore_n 2, 1) := dk_61 (dk_at dksX4_lastOf_0 15 rfl rfl)
theorem dX4_lastOf_16 : decode cX4_lastOf 16 = .ok (.iinc 3 1, 3) := dk_132 3 1 (dk_at dksX4_lastOf_0 16 rfl rfl)
theorem dX4_lastOf_19 : decode cX4_lastOf 19 = .ok (.goto (-15), 3) := dk_167 255 241 (dk_at dksX4_lastOf_0 19 rfl rfl)
theorem dX4_lastOf_22 : decode cX4_lastOf 22 = .ok (.iload_n 2, 1) := dk_28 (dk_at dksX4_lastOf_0 22 rfl rfl)
theorem dX4_lastOf_23 : decode cX4_lastOf 23 = .ok (.ireturn, 1) := dk_172 (dk_at dksX4_lastOf_0 23 rfl rfl)
abbrev cX4_endingBelow : ByteArray := prog_34_method_88_code
def yX4_endingBelow : MethodName := ⟨RX4, "endingBelow", "(JI)J"⟩
def dkwX4_endingBelow_0 : List UInt8 := [30, 28, 133, 148, 157, 0, 7, 9, 167, 0, 15, 30, 10, 101, 28, 133, 101, 20, 1, 135, 109, 10, 97, 173]
abbrev dktX4_endingBelow_0 : List UInt8 := dkwX4_endingBelow_0 ++ []
theorem dksX4_endingBelow_0 : cX4_endingBelow.data.toList.drop 0 = dktX4_endingBelow_0 := by decide +kernel
theorem dX4_endingBelow_0 : decode cX4_endingBelow 0 = .ok (.lload_n 0, 1) := dk_30 (dk_at dksX4_endingBelow_0 0 rfl rfl)
theorem dX4_endingBelow_1 : decode cX4_endingBelow 1 = .ok (.iload_n 2, 1) := dk_28 (dk_at dksX4_endingBelow_0 1 rfl rfl)
theorem dX4_endingBelow_2 : decode cX4_endingBelow 2 = .ok (.i2l, 1) := dk_133 (dk_at dksX4_endingBelow_0 2 rfl rfl)
theorem dX4_endingBelow_3 : decode cX4_endingBelow 3 = .ok (.lcmp, 1) := dk_148 (dk_at dksX4_endingBelow_0 3 rfl rfl)
theorem dX4_endingBelow_4 : decode cX4_endingBelow 4 = .ok (.ifCond .gt 7, 3) := dk_157 0 7 (dk_at dksX4_endingBelow_0 4 rfl rfl)
theorem dX4_endingBelow_7 : decode cX4_endingBelow 7 = .ok (.lconst 0, 1) := dk_9 (dk_at dksX4_endingBelow_0 7 rfl rfl)
theorem dX4_endingBelow_8 : decode cX4_endingBelow 8 = .ok (.goto 15, 3) := dk_167 0 15 (dk_at dksX4_endingBelow_0 8 rfl rfl)
theorem dX4_endingBelow_11 : decode cX4_endingBelow 11 = .ok (.lload_n 0, 1) := dk_30 (dk_at dksX4_endingBelow_0 11 rfl rfl)
theorem dX4_endingBelow_12 : decode cX4_endingBelow 12 = .ok (.lconst 1, 1) := dk_10 (dk_at dksX4_endingBelow_0 12 rfl rfl)
theorem dX4_endingBelow_13 : decode cX4_endingBelow 13 = .ok (.lsub, 1) := dk_101 (dk_at dksX4_endingBelow_0 13 rfl rfl)
theorem dX4_endingBelow_14 : decode cX4_endingBelow 14 = .ok (.iload_n 2, 1) := dk_28 (dk_at dksX4_endingBelow_0 14 rfl rfl)
theorem dX4_endingBelow_15 : decode cX4_endingBelow 15 = .ok (.i2l, 1) := dk_133 (dk_at dksX4_endingBelow_0 15 rfl rfl)
theorem dX4_endingBelow_16 : decode cX4_endingBelow 16 = .ok (.lsub, 1) := dk_101 (dk_at dksX4_endingBelow_0 16 rfl rfl)
theorem dX4_endingBelow_17 : decode cX4_endingBelow 17 = .ok (.ldc2_w 391, 3) := dk_20 1 135 (dk_at dksX4_endingBelow_0 17 rfl rfl)
theorem dX4_endingBelow_20 : decode cX4_endingBelow 20 = .ok (.ldiv, 1) := dk_109 (dk_at dksX4_endingBelow_0 20 rfl rfl)
theorem dX4_endingBelow_21 : decode cX4_endingBelow 21 = .ok (.lconst 1, 1) := dk_10 (dk_at dksX4_endingBelow_0 21 rfl rfl)
theorem dX4_endingBelow_22 : decode cX4_endingBelow 22 = .ok (.ladd, 1) := dk_97 (dk_at dksX4_endingBelow_0 22 rfl rfl)
theorem dX4_endingBelow_23 : decode cX4_endingBelow 23 = .ok (.lreturn, 1) := dk_173 (dk_at dksX4_endingBelow_0 23 rfl rfl)
abbrev cX4_enough : ByteArray := prog_34_method_91_code
def yX4_enough : MethodName := ⟨RX4, "enough", "(JI)I"⟩
def dkwX4_enough_1 : List UInt8 := [42, 31, 29, 21, 4, 182, 1, 151, 10, 148, 158, 0, 9, 132, 4, 1, 167, 255, 240, 21, 4, 172]
abbrev dktX4_enough_1 : List UInt8 := dkwX4_enough_1 ++ []
def dkwX4_enough_0 : List UInt8 := [31, 29, 184, 1, 127, 154, 0, 5, 2, 172, 31, 29, 184, 1, 131, 154, 0, 6, 16, 254, 172, 4, 54, 4]
abbrev dktX4_enough_0 : List UInt8 := dkwX4_enough_0 ++ dktX4_enough_1
theorem dksX4_enough_0 : cX4_enough.data.toList.drop 0 = dktX4_enough_0 := by decide +kernel
theorem dksX4_enough_1 : cX4_enough.data.toList.drop 24 = dktX4_enough_1 := dk_seg dksX4_enough_0 24 rfl rfl
theorem dX4_enough_0 : decode cX4_enough 0 = .ok (.lload_n 1, 1) := dk_31 (dk_at dksX4_enough_0 0 rfl rfl)
theorem dX4_enough_1 : decode cX4_enough 1 = .ok (.iload_n 3, 1) := dk_29 (dk_at dksX4_enough_0 1 rfl rfl)
theorem dX4_enough_2 : decode cX4_enough 2 = .ok (.invokestatic 383, 3) := dk_184 1 127 (dk_at dksX4_enough_0 2 rfl rfl)
theorem dX4_enough_5 : decode cX4_enough 5 = .ok (.ifCond .ne 5, 3) := dk_154 0 5 (dk_at dksX4_enough_0 5 rfl rfl)
theorem dX4_enough_8 : decode cX4_enough 8 = .ok (.iconst (-1), 1) := dk_2 (dk_at dksX4_enough_0 8 rfl rfl)
theorem dX4_enough_9 : decode cX4_enough 9 = .ok (.ireturn, 1) := dk_172 (dk_at dksX4_enough_0 9 rfl rfl)
theorem dX4_enough_10 : decode cX4_enough 10 = .ok (.lload_n 1, 1) := dk_31 (dk_at dksX4_enough_0 10 rfl rfl)
theorem dX4_enough_11 : decode cX4_enough 11 = .ok (.iload_n 3, 1) := dk_29 (dk_at dksX4_enough_0 11 rfl rfl)
theorem dX4_enough_12 : decode cX4_enough 12 = .ok (.invokestatic 387, 3) := dk_184 1 131 (dk_at dksX4_enough_0 12 rfl rfl)
theorem dX4_enough_15 : decode cX4_enough 15 = .ok (.ifCond .ne 6, 3) := dk_154 0 6 (dk_at dksX4_enough_0 15 rfl rfl)
theorem dX4_enough_18 : decode cX4_enough 18 = .ok (.bipush (-2), 2) := dk_16 254 (dk_at dksX4_enough_0 18 rfl rfl)
theorem dX4_enough_20 : decode cX4_enough 20 = .ok (.ireturn, 1) := dk_172 (dk_at dksX4_enough_0 20 rfl rfl)
theorem dX4_enough_21 : decode cX4_enough 21 = .ok (.iconst 1, 1) := dk_4 (dk_at dksX4_enough_0 21 rfl rfl)
theorem dX4_enough_22 : decode cX4_enough 22 = .ok (.istore 4, 2) := dk_54 4 (dk_at dksX4_enough_0 22 rfl rfl)
theorem dX4_enough_24 : decode cX4_enough 24 = .ok (.aload_n 0, 1) := dk_42 (dk_at dksX4_enough_1 0 rfl rfl)
theorem dX4_enough_25 : decode cX4_enough 25 = .ok (.lload_n 1, 1) := dk_31 (dk_at dksX4_enough_1 1 rfl rfl)
theorem dX4_enough_26 : decode cX4_enough 26 = .ok (.iload_n 3, 1) := dk_29 (dk_at dksX4_enough_1 2 rfl rfl)
theorem dX4_enough_27 : decode cX4_enough 27 = .ok (.iload 4, 2) := dk_21 4 (dk_at dksX4_enough_1 3 rfl rfl)
theorem dX4_enough_29 : decode cX4_enough 29 = .ok (.invokevirtual 407, 3) := dk_182 1 151 (dk_at dksX4_enough_1 5 rfl rfl)
theorem dX4_enough_32 : decode cX4_enough 32 = .ok (.lconst 1, 1) := dk_10 (dk_at dksX4_enough_1 8 rfl rfl)
theorem dX4_enough_33 : decode cX4_enough 33 = .ok (.lcmp, 1) := dk_148 (dk_at dksX4_enough_1 9 rfl rfl)
theorem dX4_enough_34 : decode cX4_enough 34 = .ok (.ifCond .le 9, 3) := dk_158 0 9 (dk_at dksX4_enough_1 10 rfl rfl)
theorem dX4_enough_37 : decode cX4_enough 37 = .ok (.iinc 4 1, 3) := dk_132 4 1 (dk_at dksX4_enough_1 13 rfl rfl)
theorem dX4_enough_40 : decode cX4_enough 40 = .ok (.goto (-16), 3) := dk_167 255 240 (dk_at dksX4_enough_1 16 rfl rfl)
theorem dX4_enough_43 : decode cX4_enough 43 = .ok (.iload 4, 2) := dk_21 4 (dk_at dksX4_enough_1 19 rfl rfl)
theorem dX4_enough_45 : decode cX4_enough 45 = .ok (.ireturn, 1) := dk_172 (dk_at dksX4_enough_1 21 rfl rfl)
abbrev cX4_body : ByteArray := prog_34_method_94_code
def yX4_body : MethodName := ⟨RX4, "body", "(I)I"⟩
def dkwX4_body_2 : List UInt8 := [180, 1, 155, 4, 100, 172]
abbrev dktX4_body_2 : List UInt8 := dkwX4_body_2 ++ []
def dkwX4_body_1 : List UInt8 := [16, 253, 172, 42, 180, 0, 82, 42, 180, 1, 155, 27, 79, 42, 89, 180, 1, 155, 4, 96, 181, 1, 155, 42]
abbrev dktX4_body_1 : List UInt8 := dkwX4_body_1 ++ dktX4_body_2
def dkwX4_body_0 : List UInt8 := [27, 133, 9, 20, 1, 158, 184, 0, 113, 154, 0, 5, 2, 172, 42, 180, 1, 155, 16, 50, 160, 0, 6]
abbrev dktX4_body_0 : List UInt8 := dkwX4_body_0 ++ dktX4_body_1
theorem dksX4_body_0 : cX4_body.data.toList.drop 0 = dktX4_body_0 := by decide +kernel
theorem dksX4_body_1 : cX4_body.data.toList.drop 23 = dktX4_body_1 := dk_seg dksX4_body_0 23 rfl rfl
theorem dksX4_body_2 : cX4_body.data.toList.drop 47 = dktX4_body_2 := dk_seg dksX4_body_1 24 rfl rfl
theorem dX4_body_0 : decode cX4_body 0 = .ok (.iload_n 1, 1) := dk_27 (dk_at dksX4_body_0 0 rfl rfl)
theorem dX4_body_1 : decode cX4_body 1 = .ok (.i2l, 1) := dk_133 (dk_at dksX4_body_0 1 rfl rfl)
theorem dX4_body_2 : decode cX4_body 2 = .ok (.lconst 0, 1) := dk_9 (dk_at dksX4_body_0 2 rfl rfl)
theorem dX4_body_3 : decode cX4_body 3 = .ok (.ldc2_w 414, 3) := dk_20 1 158 (dk_at dksX4_body_0 3 rfl rfl)
theorem dX4_body_6 : decode cX4_body 6 = .ok (.invokestatic 113, 3) := dk_184 0 113 (dk_at dksX4_body_0 6 rfl rfl)
theorem dX4_body_9 : decode cX4_body 9 = .ok (.ifCond .ne 5, 3) := dk_154 0 5 (dk_at dksX4_body_0 9 rfl rfl)
theorem dX4_body_12 : decode cX4_body 12 = .ok (.iconst (-1), 1) := dk_2 (dk_at dksX4_body_0 12 rfl rfl)
theorem dX4_body_13 : decode cX4_body 13 = .ok (.ireturn, 1) := dk_172 (dk_at dksX4_body_0 13 rfl rfl)
theorem dX4_body_14 : decode cX4_body 14 = .ok (.aload_n 0, 1) := dk_42 (dk_at dksX4_body_0 14 rfl rfl)
theorem dX4_body_15 : decode cX4_body 15 = .ok (.getfield 411, 3) := dk_180 1 155 (dk_at dksX4_body_0 15 rfl rfl)
theorem dX4_body_18 : decode cX4_body 18 = .ok (.bipush 50, 2) := dk_16 50 (dk_at dksX4_body_0 18 rfl rfl)
theorem dX4_body_20 : decode cX4_body 20 = .ok (.if_icmp .ne 6, 3) := dk_160 0 6 (dk_at dksX4_body_0 20 rfl rfl)
theorem dX4_body_23 : decode cX4_body 23 = .ok (.bipush (-3), 2) := dk_16 253 (dk_at dksX4_body_1 0 rfl rfl)
theorem dX4_body_25 : decode cX4_body 25 = .ok (.ireturn, 1) := dk_172 (dk_at dksX4_body_1 2 rfl rfl)
theorem dX4_body_26 : decode cX4_body 26 = .ok (.aload_n 0, 1) := dk_42 (dk_at dksX4_body_1 3 rfl rfl)
theorem dX4_body_27 : decode cX4_body 27 = .ok (.getfield 82, 3) := dk_180 0 82 (dk_at dksX4_body_1 4 rfl rfl)
theorem dX4_body_30 : decode cX4_body 30 = .ok (.aload_n 0, 1) := dk_42 (dk_at dksX4_body_1 7 rfl rfl)
theorem dX4_body_31 : decode cX4_body 31 = .ok (.getfield 411, 3) := dk_180 1 155 (dk_at dksX4_body_1 8 rfl rfl)
theorem dX4_body_34 : decode cX4_body 34 = .ok (.iload_n 1, 1) := dk_27 (dk_at dksX4_body_1 11 rfl rfl)
theorem dX4_body_35 : decode cX4_body 35 = .ok (.iastore, 1) := dk_79 (dk_at dksX4_body_1 12 rfl rfl)
theorem dX4_body_36 : decode cX4_body 36 = .ok (.aload_n 0, 1) := dk_42 (dk_at dksX4_body_1 13 rfl rfl)
theorem dX4_body_37 : decode cX4_body 37 = .ok (.dup, 1) := dk_89 (dk_at dksX4_body_1 14 rfl rfl)
theorem dX4_body_38 : decode cX4_body 38 = .ok (.getfield 411, 3) := dk_180 1 155 (dk_at dksX4_body_1 15 rfl rfl)
theorem dX4_body_41 : decode cX4_body 41 = .ok (.iconst 1, 1) := dk_4 (dk_at dksX4_body_1 18 rfl rfl)
theorem dX4_body_42 : decode cX4_body 42 = .ok (.iadd, 1) := dk_96 (dk_at dksX4_body_1 19 rfl rfl)
theorem dX4_body_43 : decode cX4_body 43 = .ok (.putfield 411, 3) := dk_181 1 155 (dk_at dksX4_body_1 20 rfl rfl)
theorem dX4_body_46 : decode cX4_body 46 = .ok (.aload_n 0, 1) := dk_42 (dk_at dksX4_body_1 23 rfl rfl)
theorem dX4_body_47 : decode cX4_body 47 = .ok (.getfield 411, 3) := dk_180 1 155 (dk_at dksX4_body_2 0 rfl rfl)
theorem dX4_body_50 : decode cX4_body 50 = .ok (.iconst 1, 1) := dk_4 (dk_at dksX4_body_2 3 rfl rfl)
theorem dX4_body_51 : decode cX4_body 51 = .ok (.isub, 1) := dk_100 (dk_at dksX4_body_2 4 rfl rfl)
theorem dX4_body_52 : decode cX4_body 52 = .ok (.ireturn, 1) := dk_172 (dk_at dksX4_body_2 5 rfl rfl)
abbrev cX4_act : ByteArray := prog_34_method_101_code
def yX4_act : MethodName := ⟨RX4, "act", "(III)I"⟩
def dkwX4_act_4 : List UInt8 := [180, 1, 175, 29, 182, 1, 178, 172, 42, 42, 180, 1, 175, 29, 182, 1, 181, 172, 3, 172]
abbrev dktX4_act_4 : List UInt8 := dkwX4_act_4 ++ []
def dkwX4_act_3 : List UInt8 := [42, 42, 180, 1, 175, 29, 182, 1, 166, 172, 42, 42, 180, 1, 175, 29, 182, 1, 172, 172, 42, 42]
abbrev dktX4_act_3 : List UInt8 := dkwX4_act_3 ++ dktX4_act_4
def dkwX4_act_2 : List UInt8 := [170, 0, 0, 0, 69, 0, 0, 0, 0, 0, 0, 0, 3, 0, 0, 0, 29, 0, 0, 0, 39, 0, 0, 0, 49, 0, 0, 0, 59]
abbrev dktX4_act_2 : List UInt8 := dkwX4_act_2 ++ dktX4_act_3
def dkwX4_act_1 : List UInt8 := [181, 1, 175, 42, 27, 181, 1, 169, 28]
abbrev dktX4_act_1 : List UInt8 := dkwX4_act_1 ++ dktX4_act_2
def dkwX4_act_0 : List UInt8 := [42, 3, 181, 1, 160, 42, 27, 182, 1, 184, 154, 0, 5, 3, 172, 42, 42, 180, 0, 82, 27, 46]
abbrev dktX4_act_0 : List UInt8 := dkwX4_act_0 ++ dktX4_act_1
theorem dksX4_act_0 : cX4_act.data.toList.drop 0 = dktX4_act_0 := by decide +kernel
theorem dksX4_act_1 : cX4_act.data.toList.drop 22 = dktX4_act_1 := dk_seg dksX4_act_0 22 rfl rfl
theorem dksX4_act_2 : cX4_act.data.toList.drop 31 = dktX4_act_2 := dk_seg dksX4_act_1 9 rfl rfl
theorem dksX4_act_3 : cX4_act.data.toList.drop 60 = dktX4_act_3 := dk_seg dksX4_act_2 29 rfl rfl
theorem dksX4_act_4 : cX4_act.data.toList.drop 82 = dktX4_act_4 := dk_seg dksX4_act_3 22 rfl rfl
theorem dX4_act_0 : decode cX4_act 0 = .ok (.aload_n 0, 1) := dk_42 (dk_at dksX4_act_0 0 rfl rfl)
theorem dX4_act_1 : decode cX4_act 1 = .ok (.iconst 0, 1) := dk_3 (dk_at dksX4_act_0 1 rfl rfl)
theorem dX4_act_2 : decode cX4_act 2 = .ok (.putfield 416, 3) := dk_181 1 160 (dk_at dksX4_act_0 2 rfl rfl)
theorem dX4_act_5 : decode cX4_act 5 = .ok (.aload_n 0, 1) := dk_42 (dk_at dksX4_act_0 5 rfl rfl)
theorem dX4_act_6 : decode cX4_act 6 = .ok (.iload_n 1, 1) := dk_27 (dk_at dksX4_act_0 6 rfl rfl)
theorem dX4_act_7 : decode cX4_act 7 = .ok (.invokevirtual 440, 3) := dk_182 1 184 (dk_at dksX4_act_0 7 rfl rfl)
theorem dX4_act_10 : decode cX4_act 10 = .ok (.ifCond .ne 5, 3) := dk_154 0 5 (dk_at dksX4_act_0 10 rfl rfl)
theorem dX4_act_13 : decode cX4_act 13 = .ok (.iconst 0, 1) := dk_3 (dk_at dksX4_act_0 13 rfl rfl)
theorem dX4_act_14 : decode cX4_act 14 = .ok (.ireturn, 1) := dk_172 (dk_at dksX4_act_0 14 rfl rfl)
theorem dX4_act_15 : decode cX4_act 15 = .ok (.aload_n 0, 1) := dk_42 (dk_at dksX4_act_0 15 rfl rfl)
theorem dX4_act_16 : decode cX4_act 16 = .ok (.aload_n 0, 1) := dk_42 (dk_at dksX4_act_0 16 rfl rfl)
theorem dX4_act_17 : decode cX4_act 17 = .ok (.getfield 82, 3) := dk_180 0 82 (dk_at dksX4_act_0 17 rfl rfl)
theorem dX4_act_20 : decode cX4_act 20 = .ok (.iload_n 1, 1) := dk_27 (dk_at dksX4_act_0 20 rfl rfl)
theorem dX4_act_21 : decode cX4_act 21 = .ok (.iaload, 1) := dk_46 (dk_at dksX4_act_0 21 rfl rfl)
theorem dX4_act_22 : decode cX4_act 22 = .ok (.putfield 431, 3) := dk_181 1 175 (dk_at dksX4_act_1 0 rfl rfl)
theorem dX4_act_25 : decode cX4_act 25 = .ok (.aload_n 0, 1) := dk_42 (dk_at dksX4_act_1 3 rfl rfl)
theorem dX4_act_26 : decode cX4_act 26 = .ok (.iload_n 1, 1) := dk_27 (dk_at dksX4_act_1 4 rfl rfl)
theorem dX4_act_27 : decode cX4_act 27 = .ok (.putfield 425, 3) := dk_181 1 169 (dk_at dksX4_act_1 5 rfl rfl)
theorem dX4_act_30 : decode cX4_act 30 = .ok (.iload_n 2, 1) := dk_28 (dk_at dksX4_act_1 8 rfl rfl)
theorem dX4_act_31 : decode cX4_act 31 = .ok (.tableswitch 69 0 3 #[29, 39, 49, 59], 29) := by decide +kernel
theorem dX4_act_60 : decode cX4_act 60 = .ok (.aload_n 0, 1) := dk_42 (dk_at dksX4_act_3 0 rfl rfl)
theorem dX4_act_61 : decode cX4_act 61 = .ok (.aload_n 0, 1) := dk_42 (dk_at dksX4_act_3 1 rfl rfl)
theorem dX4_act_62 : decode cX4_act 62 = .ok (.getfield 431, 3) := dk_180 1 175 (dk_at dksX4_act_3 2 rfl rfl)
theorem dX4_act_65 : decode cX4_act 65 = .ok (.iload_n 3, 1) := dk_29 (dk_at dksX4_act_3 5 rfl rfl)
theorem dX4_act_66 : decode cX4_act 66 = .ok (.invokevirtual 422, 3) := dk_182 1 166 (dk_at dksX4_act_3 6 rfl rfl)
theorem dX4_act_69 : decode cX4_act 69 = .ok (.ireturn, 1) := dk_172 (dk_at dksX4_act_3 9 rfl rfl)
theorem dX4_act_70 : decode cX4_act 70 = .ok (.aload_n 0, 1) := dk_42 (dk_at dksX4_act_3 10 rfl rfl)
theorem dX4_act_71 : decode cX4_act 71 = .ok (.aload_n 0, 1) := dk_42 (dk_at dksX4_act_3 11 rfl rfl)
theorem dX4_act_72 : decode cX4_act 72 = .ok (.getfield 431, 3) := dk_180 1 175 (dk_at dksX4_act_3 12 rfl rfl)
theorem dX4_act_75 : decode cX4_act 75 = .ok (.iload_n 3, 1) := dk_29 (dk_at dksX4_act_3 15 rfl rfl)
theorem dX4_act_76 : decode cX4_act 76 = .ok (.invokevirtual 428, 3) := dk_182 1 172 (dk_at dksX4_act_3 16 rfl rfl)
theorem dX4_act_79 : decode cX4_act 79 = .ok (.ireturn, 1) := dk_172 (dk_at dksX4_act_3 19 rfl rfl)
theorem dX4_act_80 : decode cX4_act 80 = .ok (.aload_n 0, 1) := dk_42 (dk_at dksX4_act_3 20 rfl rfl)
theorem dX4_act_81 : decode cX4_act 81 = .ok (.aload_n 0, 1) := dk_42 (dk_at dksX4_act_3 21 rfl rfl)
theorem dX4_act_82 : decode cX4_act 82 = .ok (.getfield 431, 3) := dk_180 1 175 (dk_at dksX4_act_4 0 rfl rfl)
theorem dX4_act_85 : decode cX4_act 85 = .ok (.iload_n 3, 1) := dk_29 (dk_at dksX4_act_4 3 rfl rfl)
theorem dX4_act_86 : decode cX4_act 86 = .ok (.invokevirtual 434, 3) := dk_182 1 178 (dk_at dksX4_act_4 4 rfl rfl)
theorem dX4_act_89 : decode cX4_act 89 = .ok (.ireturn, 1) := dk_172 (dk_at dksX4_act_4 7 rfl rfl)
theorem dX4_act_90 : decode cX4_act 90 = .ok (.aload_n 0, 1) := dk_42 (dk_at dksX4_act_4 8 rfl rfl)
theorem dX4_act_91 : decode cX4_act 91 = .ok (.aload_n 0, 1) := dk_42 (dk_at dksX4_act_4 9 rfl rfl)
theorem dX4_act_92 : decode cX4_act 92 = .ok (.getfield 431, 3) := dk_180 1 175 (dk_at dksX4_act_4 10 rfl rfl)
theorem dX4_act_95 : decode cX4_act 95 = .ok (.iload_n 3, 1) := dk_29 (dk_at dksX4_act_4 13 rfl rfl)
theorem dX4_act_96 : decode cX4_act 96 = .ok (.invokevirtual 437, 3) := dk_182 1 181 (dk_at dksX4_act_4 14 rfl rfl)
theorem dX4_act_99 : decode cX4_act 99 = .ok (.ireturn, 1) := dk_172 (dk_at dksX4_act_4 17 rfl rfl)
theorem dX4_act_100 : decode cX4_act 100 = .ok (.iconst 0, 1) := dk_3 (dk_at dksX4_act_4 18 rfl rfl)
theorem dX4_act_101 : decode cX4_act 101 = .ok (.ireturn, 1) := dk_172 (dk_at dksX4_act_4 19 rfl rfl)
abbrev cX4_isBody : ByteArray := prog_34_method_92_code
def yX4_isBody : MethodName := ⟨RX4, "isBody", "(I)Z"⟩
def dkwX4_isBody_0 : List UInt8 := [27, 133, 9, 42, 180, 1, 155, 4, 100, 133, 184, 0, 113, 172]
abbrev dktX4_isBody_0 : List UInt8 := dkwX4_isBody_0 ++ []
theorem dksX4_isBody_0 : cX4_isBody.data.toList.drop 0 = dktX4_isBody_0 := by decide +kernel
theorem dX4_isBody_0 : decode cX4_isBody 0 = .ok (.iload_n 1, 1) := dk_27 (dk_at dksX4_isBody_0 0 rfl rfl)
theorem dX4_isBody_1 : decode cX4_isBody 1 = .ok (.i2l, 1) := dk_133 (dk_at dksX4_isBody_0 1 rfl rfl)
theorem dX4_isBody_2 : decode cX4_isBody 2 = .ok (.lconst 0, 1) := dk_9 (dk_at dksX4_isBody_0 2 rfl rfl)
theorem dX4_isBody_3 : decode cX4_isBody 3 = .ok (.aload_n 0, 1) := dk_42 (dk_at dksX4_isBody_0 3 rfl rfl)
theorem dX4_isBody_4 : decode cX4_isBody 4 = .ok (.getfield 411, 3) := dk_180 1 155 (dk_at dksX4_isBody_0 4 rfl rfl)
theorem dX4_isBody_7 : decode cX4_isBody 7 = .ok (.iconst 1, 1) := dk_4 (dk_at dksX4_isBody_0 7 rfl rfl)
theorem dX4_isBody_8 : decode cX4_isBody 8 = .ok (.isub, 1) := dk_100 (dk_at dksX4_isBody_0 8 rfl rfl)
theorem dX4_isBody_9 : decode cX4_isBody 9 = .ok (.i2l, 1) := dk_133 (dk_at dksX4_isBody_0 9 rfl rfl)
theorem dX4_isBody_10 : decode cX4_isBody 10 = .ok (.invokestatic 113, 3) := dk_184 0 113 (dk_at dksX4_isBody_0 10 rfl rfl)
theorem dX4_isBody_13 : decode cX4_isBody 13 = .ok (.ireturn, 1) := dk_172 (dk_at dksX4_isBody_0 13 rfl rfl)
abbrev cX4_costsAs : ByteArray := prog_34_method_97_code
def yX4_costsAs : MethodName := ⟨RX4, "costsAs", "(II)I"⟩
def dkwX4_costsAs_2 : List UInt8 := [42, 180, 1, 169, 96, 172]
abbrev dktX4_costsAs_2 : List UInt8 := dkwX4_costsAs_2 ++ []
def dkwX4_costsAs_1 : List UInt8 := [160, 0, 18, 42, 16, 20, 182, 1, 163, 42, 3, 28, 182, 1, 166, 6, 96, 172, 42, 4, 182, 1, 163, 28]
abbrev dktX4_costsAs_1 : List UInt8 := dkwX4_costsAs_1 ++ dktX4_costsAs_2
def dkwX4_costsAs_0 : List UInt8 := [27, 8, 160, 0, 18, 42, 16, 60, 182, 1, 163, 42, 4, 28, 4, 96, 182, 1, 166, 172, 27, 4]
abbrev dktX4_costsAs_0 : List UInt8 := dkwX4_costsAs_0 ++ dktX4_costsAs_1
theorem dksX4_costsAs_0 : cX4_costsAs.data.toList.drop 0 = dktX4_costsAs_0 := by decide +kernel
theorem dksX4_costsAs_1 : cX4_costsAs.data.toList.drop 22 = dktX4_costsAs_1 := dk_seg dksX4_costsAs_0 22 rfl rfl
theorem dksX4_costsAs_2 : cX4_costsAs.data.toList.drop 46 = dktX4_costsAs_2 := dk_seg dksX4_costsAs_1 24 rfl rfl
theorem dX4_costsAs_0 : decode cX4_costsAs 0 = .ok (.iload_n 1, 1) := dk_27 (dk_at dksX4_costsAs_0 0 rfl rfl)
theorem dX4_costsAs_1 : decode cX4_costsAs 1 = .ok (.iconst 5, 1) := dk_8 (dk_at dksX4_costsAs_0 1 rfl rfl)
theorem dX4_costsAs_2 : decode cX4_costsAs 2 = .ok (.if_icmp .ne 18, 3) := dk_160 0 18 (dk_at dksX4_costsAs_0 2 rfl rfl)
theorem dX4_costsAs_5 : decode cX4_costsAs 5 = .ok (.aload_n 0, 1) := dk_42 (dk_at dksX4_costsAs_0 5 rfl rfl)
theorem dX4_costsAs_6 : decode cX4_costsAs 6 = .ok (.bipush 60, 2) := dk_16 60 (dk_at dksX4_costsAs_0 6 rfl rfl)
theorem dX4_costsAs_8 : decode cX4_costsAs 8 = .ok (.invokevirtual 419, 3) := dk_182 1 163 (dk_at dksX4_costsAs_0 8 rfl rfl)
theorem dX4_costsAs_11 : decode cX4_costsAs 11 = .ok (.aload_n 0, 1) := dk_42 (dk_at dksX4_costsAs_0 11 rfl rfl)
theorem dX4_costsAs_12 : decode cX4_costsAs 12 = .ok (.iconst 1, 1) := dk_4 (dk_at dksX4_costsAs_0 12 rfl rfl)
theorem dX4_costsAs_13 : decode cX4_costsAs 13 = .ok (.iload_n 2, 1) := dk_28 (dk_at dksX4_costsAs_0 13 rfl rfl)
theorem dX4_costsAs_14 : decode cX4_costsAs 14 = .ok (.iconst 1, 1) := dk_4 (dk_at dksX4_costsAs_0 14 rfl rfl)
theorem dX4_costsAs_15 : decode cX4_costsAs 15 = .ok (.iadd, 1) := dk_96 (dk_at dksX4_costsAs_0 15 rfl rfl)
theorem dX4_costsAs_16 : decode cX4_costsAs 16 = .ok (.invokevirtual 422, 3) := dk_182 1 166 (dk_at dksX4_costsAs_0 16 rfl rfl)
theorem dX4_costsAs_19 : decode cX4_costsAs 19 = .ok (.ireturn, 1) := dk_172 (dk_at dksX4_costsAs_0 19 rfl rfl)
theorem dX4_costsAs_20 : decode cX4_costsAs 20 = .ok (.iload_n 1, 1) := dk_27 (dk_at dksX4_costsAs_0 20 rfl rfl)
theorem dX4_costsAs_21 : decode cX4_costsAs 21 = .ok (.iconst 1, 1) := dk_4 (dk_at dksX4_costsAs_0 21 rfl rfl)
theorem dX4_costsAs_22 : decode cX4_costsAs 22 = .ok (.if_icmp .ne 18, 3) := dk_160 0 18 (dk_at dksX4_costsAs_1 0 rfl rfl)
theorem dX4_costsAs_25 : decode cX4_costsAs 25 = .ok (.aload_n 0, 1) := dk_42 (dk_at dksX4_costsAs_1 3 rfl rfl)
theorem dX4_costsAs_26 : decode cX4_costsAs 26 = .ok (.bipush 20, 2) := dk_16 20 (dk_at dksX4_costsAs_1 4 rfl rfl)
theorem dX4_costsAs_28 : decode cX4_costsAs 28 = .ok (.invokevirtual 419, 3) := dk_182 1 163 (dk_at dksX4_costsAs_1 6 rfl rfl)
theorem dX4_costsAs_31 : decode cX4_costsAs 31 = .ok (.aload_n 0, 1) := dk_42 (dk_at dksX4_costsAs_1 9 rfl rfl)
theorem dX4_costsAs_32 : decode cX4_costsAs 32 = .ok (.iconst 0, 1) := dk_3 (dk_at dksX4_costsAs_1 10 rfl rfl)
theorem dX4_costsAs_33 : decode cX4_costsAs 33 = .ok (.iload_n 2, 1) := dk_28 (dk_at dksX4_costsAs_1 11 rfl rfl)
theorem dX4_costsAs_34 : decode cX4_costsAs 34 = .ok (.invokevirtual 422, 3) := dk_182 1 166 (dk_at dksX4_costsAs_1 12 rfl rfl)
theorem dX4_costsAs_37 : decode cX4_costsAs 37 = .ok (.iconst 3, 1) := dk_6 (dk_at dksX4_costsAs_1 15 rfl rfl)
theorem dX4_costsAs_38 : decode cX4_costsAs 38 = .ok (.iadd, 1) := dk_96 (dk_at dksX4_costsAs_1 16 rfl rfl)
theorem dX4_costsAs_39 : decode cX4_costsAs 39 = .ok (.ireturn, 1) := dk_172 (dk_at dksX4_costsAs_1 17 rfl rfl)
theorem dX4_costsAs_40 : decode cX4_costsAs 40 = .ok (.aload_n 0, 1) := dk_42 (dk_at dksX4_costsAs_1 18 rfl rfl)
theorem dX4_costsAs_41 : decode cX4_costsAs 41 = .ok (.iconst 1, 1) := dk_4 (dk_at dksX4_costsAs_1 19 rfl rfl)
theorem dX4_costsAs_42 : decode cX4_costsAs 42 = .ok (.invokevirtual 419, 3) := dk_182 1 163 (dk_at dksX4_costsAs_1 20 rfl rfl)
theorem dX4_costsAs_45 : decode cX4_costsAs 45 = .ok (.iload_n 2, 1) := dk_28 (dk_at dksX4_costsAs_1 23 rfl rfl)
theorem dX4_costsAs_46 : decode cX4_costsAs 46 = .ok (.aload_n 0, 1) := dk_42 (dk_at dksX4_costsAs_2 0 rfl rfl)
theorem dX4_costsAs_47 : decode cX4_costsAs 47 = .ok (.getfield 425, 3) := dk_180 1 169 (dk_at dksX4_costsAs_2 1 rfl rfl)
theorem dX4_costsAs_50 : decode cX4_costsAs 50 = .ok (.iadd, 1) := dk_96 (dk_at dksX4_costsAs_2 4 rfl rfl)
theorem dX4_costsAs_51 : decode cX4_costsAs 51 = .ok (.ireturn, 1) := dk_172 (dk_at dksX4_costsAs_2 5 rfl rfl)
abbrev cX4_begins : ByteArray := prog_34_method_96_code
def yX4_begins : MethodName := ⟨RX4, "begins", "(I)V"⟩
def dkwX4_begins_1 : List UInt8 := [4, 96, 181, 1, 160, 177]
abbrev dktX4_begins_1 : List UInt8 := dkwX4_begins_1 ++ []
def dkwX4_begins_0 : List UInt8 := [42, 180, 1, 160, 16, 24, 162, 0, 13, 42, 180, 0, 85, 42, 180, 1, 160, 27, 79, 42, 89, 180, 1, 160]
abbrev dktX4_begins_0 : List UInt8 := dkwX4_begins_0 ++ dktX4_begins_1
theorem dksX4_begins_0 : cX4_begins.data.toList.drop 0 = dktX4_begins_0 := by decide +kernel
theorem dksX4_begins_1 : cX4_begins.data.toList.drop 24 = dktX4_begins_1 := dk_seg dksX4_begins_0 24 rfl rfl
theorem dX4_begins_0 : decode cX4_begins 0 = .ok (.aload_n 0, 1) := dk_42 (dk_at dksX4_begins_0 0 rfl rfl)
theorem dX4_begins_1 : decode cX4_begins 1 = .ok (.getfield 416, 3) := dk_180 1 160 (dk_at dksX4_begins_0 1 rfl rfl)
theorem dX4_begins_4 : decode cX4_begins 4 = .ok (.bipush 24, 2) := dk_16 24 (dk_at dksX4_begins_0 4 rfl rfl)
theorem dX4_begins_6 : decode cX4_begins 6 = .ok (.if_icmp .ge 13, 3) := dk_162 0 13 (dk_at dksX4_begins_0 6 rfl rfl)
theorem dX4_begins_9 : decode cX4_begins 9 = .ok (.aload_n 0, 1) := dk_42 (dk_at dksX4_begins_0 9 rfl rfl)
theorem dX4_begins_10 : decode cX4_begins 10 = .ok (.getfield 85, 3) := dk_180 0 85 (dk_at dksX4_begins_0 10 rfl rfl)
theorem dX4_begins_13 : decode cX4_begins 13 = .ok (.aload_n 0, 1) := dk_42 (dk_at dksX4_begins_0 13 rfl rfl)
theorem dX4_begins_14 : decode cX4_begins 14 = .ok (.getfield 416, 3) := dk_180 1 160 (dk_at dksX4_begins_0 14 rfl rfl)
theorem dX4_begins_17 : decode cX4_begins 17 = .ok (.iload_n 1, 1) := dk_27 (dk_at dksX4_begins_0 17 rfl rfl)
theorem dX4_begins_18 : decode cX4_begins 18 = .ok (.iastore, 1) := dk_79 (dk_at dksX4_begins_0 18 rfl rfl)
theorem dX4_begins_19 : decode cX4_begins 19 = .ok (.aload_n 0, 1) := dk_42 (dk_at dksX4_begins_0 19 rfl rfl)
theorem dX4_begins_20 : decode cX4_begins 20 = .ok (.dup, 1) := dk_89 (dk_at dksX4_begins_0 20 rfl rfl)
theorem dX4_begins_21 : decode cX4_begins 21 = .ok (.getfield 416, 3) := dk_180 1 160 (dk_at dksX4_begins_0 21 rfl rfl)
theorem dX4_begins_24 : decode cX4_begins 24 = .ok (.iconst 1, 1) := dk_4 (dk_at dksX4_begins_1 0 rfl rfl)
theorem dX4_begins_25 : decode cX4_begins 25 = .ok (.iadd, 1) := dk_96 (dk_at dksX4_begins_1 1 rfl rfl)
theorem dX4_begins_26 : decode cX4_begins 26 = .ok (.putfield 416, 3) := dk_181 1 160 (dk_at dksX4_begins_1 2 rfl rfl)
theorem dX4_begins_29 : decode cX4_begins 29 = .ok (.return_, 1) := dk_177 (dk_at dksX4_begins_1 5 rfl rfl)
abbrev cX4_keepsAs : ByteArray := prog_34_method_98_code
def yX4_keepsAs : MethodName := ⟨RX4, "keepsAs", "(II)I"⟩
def dkwX4_keepsAs_2 : List UInt8 := [16, 10, 182, 1, 163, 42, 42, 180, 1, 175, 28, 182, 1, 166, 5, 104, 172]
abbrev dktX4_keepsAs_2 : List UInt8 := dkwX4_keepsAs_2 ++ []
def dkwX4_keepsAs_1 : List UInt8 := [27, 16, 7, 160, 0, 19, 42, 16, 80, 182, 1, 163, 42, 16, 6, 28, 182, 1, 172, 5, 104, 172, 42]
abbrev dktX4_keepsAs_1 : List UInt8 := dkwX4_keepsAs_1 ++ dktX4_keepsAs_2
def dkwX4_keepsAs_0 : List UInt8 := [27, 5, 159, 0, 8, 27, 6, 160, 0, 17, 42, 16, 30, 182, 1, 163, 42, 3, 28, 182, 1, 172, 116, 172]
abbrev dktX4_keepsAs_0 : List UInt8 := dkwX4_keepsAs_0 ++ dktX4_keepsAs_1
theorem dksX4_keepsAs_0 : cX4_keepsAs.data.toList.drop 0 = dktX4_keepsAs_0 := by decide +kernel
theorem dksX4_keepsAs_1 : cX4_keepsAs.data.toList.drop 24 = dktX4_keepsAs_1 := dk_seg dksX4_keepsAs_0 24 rfl rfl
theorem dksX4_keepsAs_2 : cX4_keepsAs.data.toList.drop 47 = dktX4_keepsAs_2 := dk_seg dksX4_keepsAs_1 23 rfl rfl
theorem dX4_keepsAs_0 : decode cX4_keepsAs 0 = .ok (.iload_n 1, 1) := dk_27 (dk_at dksX4_keepsAs_0 0 rfl rfl)
theorem dX4_keepsAs_1 : decode cX4_keepsAs 1 = .ok (.iconst 2, 1) := dk_5 (dk_at dksX4_keepsAs_0 1 rfl rfl)
theorem dX4_keepsAs_2 : decode cX4_keepsAs 2 = .ok (.if_icmp .eq 8, 3) := dk_159 0 8 (dk_at dksX4_keepsAs_0 2 rfl rfl)
theorem dX4_keepsAs_5 : decode cX4_keepsAs 5 = .ok (.iload_n 1, 1) := dk_27 (dk_at dksX4_keepsAs_0 5 rfl rfl)
theorem dX4_keepsAs_6 : decode cX4_keepsAs 6 = .ok (.iconst 3, 1) := dk_6 (dk_at dksX4_keepsAs_0 6 rfl rfl)
theorem dX4_keepsAs_7 : decode cX4_keepsAs 7 = .ok (.if_icmp .ne 17, 3) := dk_160 0 17 (dk_at dksX4_keepsAs_0 7 rfl rfl)
theorem dX4_keepsAs_10 : decode cX4_keepsAs 10 = .ok (.aload_n 0, 1) := dk_42 (dk_at dksX4_keepsAs_0 10 rfl rfl)
theorem dX4_keepsAs_11 : decode cX4_keepsAs 11 = .ok (.bipush 30, 2) := dk_16 30 (dk_at dksX4_keepsAs_0 11 rfl rfl)
theorem dX4_keepsAs_13 : decode cX4_keepsAs 13 = .ok (.invokevirtual 419, 3) := dk_182 1 163 (dk_at dksX4_keepsAs_0 13 rfl rfl)
theorem dX4_keepsAs_16 : decode cX4_keepsAs 16 = .ok (.aload_n 0, 1) := dk_42 (dk_at dksX4_keepsAs_0 16 rfl rfl)
theorem dX4_keepsAs_17 : decode cX4_keepsAs 17 = .ok (.iconst 0, 1) := dk_3 (dk_at dksX4_keepsAs_0 17 rfl rfl)
theorem dX4_keepsAs_18 : decode cX4_keepsAs 18 = .ok (.iload_n 2, 1) := dk_28 (dk_at dksX4_keepsAs_0 18 rfl rfl)
theorem dX4_keepsAs_19 : decode cX4_keepsAs 19 = .ok (.invokevirtual 428, 3) := dk_182 1 172 (dk_at dksX4_keepsAs_0 19 rfl rfl)
theorem dX4_keepsAs_22 : decode cX4_keepsAs 22 = .ok (.ineg, 1) := dk_116 (dk_at dksX4_keepsAs_0 22 rfl rfl)
theorem dX4_keepsAs_23 : decode cX4_keepsAs 23 = .ok (.ireturn, 1) := dk_172 (dk_at dksX4_keepsAs_0 23 rfl rfl)
theorem dX4_keepsAs_24 : decode cX4_keepsAs 24 = .ok (.iload_n 1, 1) := dk_27 (dk_at dksX4_keepsAs_1 0 rfl rfl)
theorem dX4_keepsAs_25 : decode cX4_keepsAs 25 = .ok (.bipush 7, 2) := dk_16 7 (dk_at dksX4_keepsAs_1 1 rfl rfl)
theorem dX4_keepsAs_27 : decode cX4_keepsAs 27 = .ok (.if_icmp .ne 19, 3) := dk_160 0 19 (dk_at dksX4_keepsAs_1 3 rfl rfl)
theorem dX4_keepsAs_30 : decode cX4_keepsAs 30 = .ok (.aload_n 0, 1) := dk_42 (dk_at dksX4_keepsAs_1 6 rfl rfl)
theorem dX4_keepsAs_31 : decode cX4_keepsAs 31 = .ok (.bipush 80, 2) := dk_16 80 (dk_at dksX4_keepsAs_1 7 rfl rfl)
theorem dX4_keepsAs_33 : decode cX4_keepsAs 33 = .ok (.invokevirtual 419, 3) := dk_182 1 163 (dk_at dksX4_keepsAs_1 9 rfl rfl)
theorem dX4_keepsAs_36 : decode cX4_keepsAs 36 = .ok (.aload_n 0, 1) := dk_42 (dk_at dksX4_keepsAs_1 12 rfl rfl)
theorem dX4_keepsAs_37 : decode cX4_keepsAs 37 = .ok (.bipush 6, 2) := dk_16 6 (dk_at dksX4_keepsAs_1 13 rfl rfl)
theorem dX4_keepsAs_39 : decode cX4_keepsAs 39 = .ok (.iload_n 2, 1) := dk_28 (dk_at dksX4_keepsAs_1 15 rfl rfl)
theorem dX4_keepsAs_40 : decode cX4_keepsAs 40 = .ok (.invokevirtual 428, 3) := dk_182 1 172 (dk_at dksX4_keepsAs_1 16 rfl rfl)
theorem dX4_keepsAs_43 : decode cX4_keepsAs 43 = .ok (.iconst 2, 1) := dk_5 (dk_at dksX4_keepsAs_1 19 rfl rfl)
theorem dX4_keepsAs_44 : decode cX4_keepsAs 44 = .ok (.imul, 1) := dk_104 (dk_at dksX4_keepsAs_1 20 rfl rfl)
theorem dX4_keepsAs_45 : decode cX4_keepsAs 45 = .ok (.ireturn, 1) := dk_172 (dk_at dksX4_keepsAs_1 21 rfl rfl)
theorem dX4_keepsAs_46 : decode cX4_keepsAs 46 = .ok (.aload_n 0, 1) := dk_42 (dk_at dksX4_keepsAs_1 22 rfl rfl)
theorem dX4_keepsAs_47 : decode cX4_keepsAs 47 = .ok (.bipush 10, 2) := dk_16 10 (dk_at dksX4_keepsAs_2 0 rfl rfl)
theorem dX4_keepsAs_49 : decode cX4_keepsAs 49 = .ok (.invokevirtual 419, 3) := dk_182 1 163 (dk_at dksX4_keepsAs_2 2 rfl rfl)
theorem dX4_keepsAs_52 : decode cX4_keepsAs 52 = .ok (.aload_n 0, 1) := dk_42 (dk_at dksX4_keepsAs_2 5 rfl rfl)
theorem dX4_keepsAs_53 : decode cX4_keepsAs 53 = .ok (.aload_n 0, 1) := dk_42 (dk_at dksX4_keepsAs_2 6 rfl rfl)
theorem dX4_keepsAs_54 : decode cX4_keepsAs 54 = .ok (.getfield 431, 3) := dk_180 1 175 (dk_at dksX4_keepsAs_2 7 rfl rfl)
theorem dX4_keepsAs_57 : decode cX4_keepsAs 57 = .ok (.iload_n 2, 1) := dk_28 (dk_at dksX4_keepsAs_2 10 rfl rfl)
theorem dX4_keepsAs_58 : decode cX4_keepsAs 58 = .ok (.invokevirtual 422, 3) := dk_182 1 166 (dk_at dksX4_keepsAs_2 11 rfl rfl)
theorem dX4_keepsAs_61 : decode cX4_keepsAs 61 = .ok (.iconst 2, 1) := dk_5 (dk_at dksX4_keepsAs_2 14 rfl rfl)
theorem dX4_keepsAs_62 : decode cX4_keepsAs 62 = .ok (.imul, 1) := dk_104 (dk_at dksX4_keepsAs_2 15 rfl rfl)
theorem dX4_keepsAs_63 : decode cX4_keepsAs 63 = .ok (.ireturn, 1) := dk_172 (dk_at dksX4_keepsAs_2 16 rfl rfl)
abbrev cX4_slipsAs : ByteArray := prog_34_method_99_code
def yX4_slipsAs : MethodName := ⟨RX4, "slipsAs", "(II)I"⟩
def dkwX4_slipsAs_3 : List UInt8 := [3, 28, 182, 1, 178, 4, 100, 172, 42, 16, 11, 182, 1, 163, 28, 42, 180, 1, 169, 130, 172]
abbrev dktX4_slipsAs_3 : List UInt8 := dkwX4_slipsAs_3 ++ []
def dkwX4_slipsAs_2 : List UInt8 := [182, 1, 166, 96, 172, 27, 16, 6, 159, 0, 9, 27, 16, 7, 160, 0, 18, 42, 16, 70, 182, 1, 163, 42]
abbrev dktX4_slipsAs_2 : List UInt8 := dkwX4_slipsAs_2 ++ dktX4_slipsAs_3
def dkwX4_slipsAs_1 : List UInt8 := [160, 0, 28, 42, 16, 61, 182, 1, 163, 42, 4, 28, 182, 1, 178, 62, 29, 42, 42, 180, 1, 175, 5]
abbrev dktX4_slipsAs_1 : List UInt8 := dkwX4_slipsAs_1 ++ dktX4_slipsAs_2
def dkwX4_slipsAs_0 : List UInt8 := [27, 6, 160, 0, 18, 42, 16, 40, 182, 1, 163, 42, 5, 28, 182, 1, 178, 6, 104, 172, 27, 8]
abbrev dktX4_slipsAs_0 : List UInt8 := dkwX4_slipsAs_0 ++ dktX4_slipsAs_1
theorem dksX4_slipsAs_0 : cX4_slipsAs.data.toList.drop 0 = dktX4_slipsAs_0 := by decide +kernel
theorem dksX4_slipsAs_1 : cX4_slipsAs.data.toList.drop 22 = dktX4_slipsAs_1 := dk_seg dksX4_slipsAs_0 22 rfl rfl
theorem dksX4_slipsAs_2 : cX4_slipsAs.data.toList.drop 45 = dktX4_slipsAs_2 := dk_seg dksX4_slipsAs_1 23 rfl rfl
theorem dksX4_slipsAs_3 : cX4_slipsAs.data.toList.drop 69 = dktX4_slipsAs_3 := dk_seg dksX4_slipsAs_2 24 rfl rfl
theorem dX4_slipsAs_0 : decode cX4_slipsAs 0 = .ok (.iload_n 1, 1) := dk_27 (dk_at dksX4_slipsAs_0 0 rfl rfl)
theorem dX4_slipsAs_1 : decode cX4_slipsAs 1 = .ok (.iconst 3, 1) := dk_6 (dk_at dksX4_slipsAs_0 1 rfl rfl)
theorem dX4_slipsAs_2 : decode cX4_slipsAs 2 = .ok (.if_icmp .ne 18, 3) := dk_160 0 18 (dk_at dksX4_slipsAs_0 2 rfl rfl)
theorem dX4_slipsAs_5 : decode cX4_slipsAs 5 = .ok (.aload_n 0, 1) := dk_42 (dk_at dksX4_slipsAs_0 5 rfl rfl)
theorem dX4_slipsAs_6 : decode cX4_slipsAs 6 = .ok (.bipush 40, 2) := dk_16 40 (dk_at dksX4_slipsAs_0 6 rfl rfl)
theorem dX4_slipsAs_8 : decode cX4_slipsAs 8 = .ok (.invokevirtual 419, 3) := dk_182 1 163 (dk_at dksX4_slipsAs_0 8 rfl rfl)
theorem dX4_slipsAs_11 : decode cX4_slipsAs 11 = .ok (.aload_n 0, 1) := dk_42 (dk_at dksX4_slipsAs_0 11 rfl rfl)
theorem dX4_slipsAs_12 : decode cX4_slipsAs 12 = .ok (.iconst 2, 1) := dk_5 (dk_at dksX4_slipsAs_0 12 rfl rfl)
theorem dX4_slipsAs_13 : decode cX4_slipsAs 13 = .ok (.iload_n 2, 1) := dk_28 (dk_at dksX4_slipsAs_0 13 rfl rfl)
theorem dX4_slipsAs_14 : decode cX4_slipsAs 14 = .ok (.invokevirtual 434, 3) := dk_182 1 178 (dk_at dksX4_slipsAs_0 14 rfl rfl)
theorem dX4_slipsAs_17 : decode cX4_slipsAs 17 = .ok (.iconst 3, 1) := dk_6 (dk_at dksX4_slipsAs_0 17 rfl rfl)
theorem dX4_slipsAs_18 : decode cX4_slipsAs 18 = .ok (.imul, 1) := dk_104 (dk_at dksX4_slipsAs_0 18 rfl rfl)
theorem dX4_slipsAs_19 : decode cX4_slipsAs 19 = .ok (.ireturn, 1) := dk_172 (dk_at dksX4_slipsAs_0 19 rfl rfl)
theorem dX4_slipsAs_20 : decode cX4_slipsAs 20 = .ok (.iload_n 1, 1) := dk_27 (dk_at dksX4_slipsAs_0 20 rfl rfl)
theorem dX4_slipsAs_21 : decode cX4_slipsAs 21 = .ok (.iconst 5, 1) := dk_8 (dk_at dksX4_slipsAs_0 21 rfl rfl)
theorem dX4_slipsAs_22 : decode cX4_slipsAs 22 = .ok (.if_icmp .ne 28, 3) := dk_160 0 28 (dk_at dksX4_slipsAs_1 0 rfl rfl)
theorem dX4_slipsAs_25 : decode cX4_slipsAs 25 = .ok (.aload_n 0, 1) := dk_42 (dk_at dksX4_slipsAs_1 3 rfl rfl)
theorem dX4_slipsAs_26 : decode cX4_slipsAs 26 = .ok (.bipush 61, 2) := dk_16 61 (dk_at dksX4_slipsAs_1 4 rfl rfl)
theorem dX4_slipsAs_28 : decode cX4_slipsAs 28 = .ok (.invokevirtual 419, 3) := dk_182 1 163 (dk_at dksX4_slipsAs_1 6 rfl rfl)
theorem dX4_slipsAs_31 : decode cX4_slipsAs 31 = .ok (.aload_n 0, 1) := dk_42 (dk_at dksX4_slipsAs_1 9 rfl rfl)
theorem dX4_slipsAs_32 : decode cX4_slipsAs 32 = .ok (.iconst 1, 1) := dk_4 (dk_at dksX4_slipsAs_1 10 rfl rfl)
theorem dX4_slipsAs_33 : decode cX4_slipsAs 33 = .ok (.iload_n 2, 1) := dk_28 (dk_at dksX4_slipsAs_1 11 rfl rfl)
theorem dX4_slipsAs_34 : decode cX4_slipsAs 34 = .ok (.invokevirtual 434, 3) := dk_182 1 178 (dk_at dksX4_slipsAs_1 12 rfl rfl)
theorem dX4_slipsAs_37 : decode cX4_slipsAs 37 = .ok (.istore_n 3, 1) := dk_62 (dk_at dksX4_slipsAs_1 15 rfl rfl)
theorem dX4_slipsAs_38 : decode cX4_slipsAs 38 = .ok (.iload_n 3, 1) := dk_29 (dk_at dksX4_slipsAs_1 16 rfl rfl)
theorem dX4_slipsAs_39 : decode cX4_slipsAs 39 = .ok (.aload_n 0, 1) := dk_42 (dk_at dksX4_slipsAs_1 17 rfl rfl)
theorem dX4_slipsAs_40 : decode cX4_slipsAs 40 = .ok (.aload_n 0, 1) := dk_42 (dk_at dksX4_slipsAs_1 18 rfl rfl)
theorem dX4_slipsAs_41 : decode cX4_slipsAs 41 = .ok (.getfield 431, 3) := dk_180 1 175 (dk_at dksX4_slipsAs_1 19 rfl rfl)
theorem dX4_slipsAs_44 : decode cX4_slipsAs 44 = .ok (.iconst 2, 1) := dk_5 (dk_at dksX4_slipsAs_1 22 rfl rfl)
theorem dX4_slipsAs_45 : decode cX4_slipsAs 45 = .ok (.invokevirtual 422, 3) := dk_182 1 166 (dk_at dksX4_slipsAs_2 0 rfl rfl)
theorem dX4_slipsAs_48 : decode cX4_slipsAs 48 = .ok (.iadd, 1) := dk_96 (dk_at dksX4_slipsAs_2 3 rfl rfl)
theorem dX4_slipsAs_49 : decode cX4_slipsAs 49 = .ok (.ireturn, 1) := dk_172 (dk_at dksX4_slipsAs_2 4 rfl rfl)
theorem dX4_slipsAs_50 : decode cX4_slipsAs 50 = .ok (.iload_n 1, 1) := dk_27 (dk_at dksX4_slipsAs_2 5 rfl rfl)
theorem dX4_slipsAs_51 : decode cX4_slipsAs 51 = .ok (.bipush 6, 2) := dk_16 6 (dk_at dksX4_slipsAs_2 6 rfl rfl)
theorem dX4_slipsAs_53 : decode cX4_slipsAs 53 = .ok (.if_icmp .eq 9, 3) := dk_159 0 9 (dk_at dksX4_slipsAs_2 8 rfl rfl)
theorem dX4_slipsAs_56 : decode cX4_slipsAs 56 = .ok (.iload_n 1, 1) := dk_27 (dk_at dksX4_slipsAs_2 11 rfl rfl)
theorem dX4_slipsAs_57 : decode cX4_slipsAs 57 = .ok (.bipush 7, 2) := dk_16 7 (dk_at dksX4_slipsAs_2 12 rfl rfl)
theorem dX4_slipsAs_59 : decode cX4_slipsAs 59 = .ok (.if_icmp .ne 18, 3) := dk_160 0 18 (dk_at dksX4_slipsAs_2 14 rfl rfl)
theorem dX4_slipsAs_62 : decode cX4_slipsAs 62 = .ok (.aload_n 0, 1) := dk_42 (dk_at dksX4_slipsAs_2 17 rfl rfl)
theorem dX4_slipsAs_63 : decode cX4_slipsAs 63 = .ok (.bipush 70, 2) := dk_16 70 (dk_at dksX4_slipsAs_2 18 rfl rfl)
theorem dX4_slipsAs_65 : decode cX4_slipsAs 65 = .ok (.invokevirtual 419, 3) := dk_182 1 163 (dk_at dksX4_slipsAs_2 20 rfl rfl)
theorem dX4_slipsAs_68 : decode cX4_slipsAs 68 = .ok (.aload_n 0, 1) := dk_42 (dk_at dksX4_slipsAs_2 23 rfl rfl)
theorem dX4_slipsAs_69 : decode cX4_slipsAs 69 = .ok (.iconst 0, 1) := dk_3 (dk_at dksX4_slipsAs_3 0 rfl rfl)
theorem dX4_slipsAs_70 : decode cX4_slipsAs 70 = .ok (.iload_n 2, 1) := dk_28 (dk_at dksX4_slipsAs_3 1 rfl rfl)
theorem dX4_slipsAs_71 : decode cX4_slipsAs 71 = .ok (.invokevirtual 434, 3) := dk_182 1 178 (dk_at dksX4_slipsAs_3 2 rfl rfl)
theorem dX4_slipsAs_74 : decode cX4_slipsAs 74 = .ok (.iconst 1, 1) := dk_4 (dk_at dksX4_slipsAs_3 5 rfl rfl)
theorem dX4_slipsAs_75 : decode cX4_slipsAs 75 = .ok (.isub, 1) := dk_100 (dk_at dksX4_slipsAs_3 6 rfl rfl)
theorem dX4_slipsAs_76 : decode cX4_slipsAs 76 = .ok (.ireturn, 1) := dk_172 (dk_at dksX4_slipsAs_3 7 rfl rfl)
theorem dX4_slipsAs_77 : decode cX4_slipsAs 77 = .ok (.aload_n 0, 1) := dk_42 (dk_at dksX4_slipsAs_3 8 rfl rfl)
theorem dX4_slipsAs_78 : decode cX4_slipsAs 78 = .ok (.bipush 11, 2) := dk_16 11 (dk_at dksX4_slipsAs_3 9 rfl rfl)
theorem dX4_slipsAs_80 : decode cX4_slipsAs 80 = .ok (.invokevirtual 419, 3) := dk_182 1 163 (dk_at dksX4_slipsAs_3 11 rfl rfl)
theorem dX4_slipsAs_83 : decode cX4_slipsAs 83 = .ok (.iload_n 2, 1) := dk_28 (dk_at dksX4_slipsAs_3 14 rfl rfl)
theorem dX4_slipsAs_84 : decode cX4_slipsAs 84 = .ok (.aload_n 0, 1) := dk_42 (dk_at dksX4_slipsAs_3 15 rfl rfl)
theorem dX4_slipsAs_85 : decode cX4_slipsAs 85 = .ok (.getfield 425, 3) := dk_180 1 169 (dk_at dksX4_slipsAs_3 16 rfl rfl)
theorem dX4_slipsAs_88 : decode cX4_slipsAs 88 = .ok (.ixor, 1) := dk_130 (dk_at dksX4_slipsAs_3 19 rfl rfl)
theorem dX4_slipsAs_89 : decode cX4_slipsAs 89 = .ok (.ireturn, 1) := dk_172 (dk_at dksX4_slipsAs_3 20 rfl rfl)
abbrev cX4_tellsAs : ByteArray := prog_34_method_100_code
def yX4_tellsAs : MethodName := ⟨RX4, "tellsAs", "(II)I"⟩
def dkwX4_tellsAs_3 : List UInt8 := [180, 1, 175, 4, 182, 1, 178, 100, 172]
abbrev dktX4_tellsAs_3 : List UInt8 := dkwX4_tellsAs_3 ++ []
def dkwX4_tellsAs_2 : List UInt8 := [182, 1, 178, 100, 172, 42, 5, 182, 1, 163, 42, 42, 180, 1, 175, 28, 182, 1, 172, 62, 29, 42, 42]
abbrev dktX4_tellsAs_2 : List UInt8 := dkwX4_tellsAs_2 ++ dktX4_tellsAs_3
def dkwX4_tellsAs_1 : List UInt8 := [160, 0, 29, 42, 16, 81, 182, 1, 163, 42, 16, 6, 28, 182, 1, 181, 62, 29, 42, 42, 180, 1, 175, 5]
abbrev dktX4_tellsAs_1 : List UInt8 := dkwX4_tellsAs_1 ++ dktX4_tellsAs_2
def dkwX4_tellsAs_0 : List UInt8 := [27, 7, 160, 0, 18, 42, 16, 50, 182, 1, 163, 42, 3, 28, 182, 1, 181, 8, 130, 172, 27, 16, 7]
abbrev dktX4_tellsAs_0 : List UInt8 := dkwX4_tellsAs_0 ++ dktX4_tellsAs_1
theorem dksX4_tellsAs_0 : cX4_tellsAs.data.toList.drop 0 = dktX4_tellsAs_0 := by decide +kernel
theorem dksX4_tellsAs_1 : cX4_tellsAs.data.toList.drop 23 = dktX4_tellsAs_1 := dk_seg dksX4_tellsAs_0 23 rfl rfl
theorem dksX4_tellsAs_2 : cX4_tellsAs.data.toList.drop 47 = dktX4_tellsAs_2 := dk_seg dksX4_tellsAs_1 24 rfl rfl
theorem dksX4_tellsAs_3 : cX4_tellsAs.data.toList.drop 70 = dktX4_tellsAs_3 := dk_seg dksX4_tellsAs_2 23 rfl rfl
theorem dX4_tellsAs_0 : decode cX4_tellsAs 0 = .ok (.iload_n 1, 1) := dk_27 (dk_at dksX4_tellsAs_0 0 rfl rfl)
theorem dX4_tellsAs_1 : decode cX4_tellsAs 1 = .ok (.iconst 4, 1) := dk_7 (dk_at dksX4_tellsAs_0 1 rfl rfl)
theorem dX4_tellsAs_2 : decode cX4_tellsAs 2 = .ok (.if_icmp .ne 18, 3) := dk_160 0 18 (dk_at dksX4_tellsAs_0 2 rfl rfl)
theorem dX4_tellsAs_5 : decode cX4_tellsAs 5 = .ok (.aload_n 0, 1) := dk_42 (dk_at dksX4_tellsAs_0 5 rfl rfl)
theorem dX4_tellsAs_6 : decode cX4_tellsAs 6 = .ok (.bipush 50, 2) := dk_16 50 (dk_at dksX4_tellsAs_0 6 rfl rfl)
theorem dX4_tellsAs_8 : decode cX4_tellsAs 8 = .ok (.invokevirtual 419, 3) := dk_182 1 163 (dk_at dksX4_tellsAs_0 8 rfl rfl)
theorem dX4_tellsAs_11 : decode cX4_tellsAs 11 = .ok (.aload_n 0, 1) := dk_42 (dk_at dksX4_tellsAs_0 11 rfl rfl)
theorem dX4_tellsAs_12 : decode cX4_tellsAs 12 = .ok (.iconst 0, 1) := dk_3 (dk_at dksX4_tellsAs_0 12 rfl rfl)
theorem dX4_tellsAs_13 : decode cX4_tellsAs 13 = .ok (.iload_n 2, 1) := dk_28 (dk_at dksX4_tellsAs_0 13 rfl rfl)
theorem dX4_tellsAs_14 : decode cX4_tellsAs 14 = .ok (.invokevirtual 437, 3) := dk_182 1 181 (dk_at dksX4_tellsAs_0 14 rfl rfl)
theorem dX4_tellsAs_17 : decode cX4_tellsAs 17 = .ok (.iconst 5, 1) := dk_8 (dk_at dksX4_tellsAs_0 17 rfl rfl)
theorem dX4_tellsAs_18 : decode cX4_tellsAs 18 = .ok (.ixor, 1) := dk_130 (dk_at dksX4_tellsAs_0 18 rfl rfl)
theorem dX4_tellsAs_19 : decode cX4_tellsAs 19 = .ok (.ireturn, 1) := dk_172 (dk_at dksX4_tellsAs_0 19 rfl rfl)
theorem dX4_tellsAs_20 : decode cX4_tellsAs 20 = .ok (.iload_n 1, 1) := dk_27 (dk_at dksX4_tellsAs_0 20 rfl rfl)
theorem dX4_tellsAs_21 : decode cX4_tellsAs 21 = .ok (.bipush 7, 2) := dk_16 7 (dk_at dksX4_tellsAs_0 21 rfl rfl)
theorem dX4_tellsAs_23 : decode cX4_tellsAs 23 = .ok (.if_icmp .ne 29, 3) := dk_160 0 29 (dk_at dksX4_tellsAs_1 0 rfl rfl)
theorem dX4_tellsAs_26 : decode cX4_tellsAs 26 = .ok (.aload_n 0, 1) := dk_42 (dk_at dksX4_tellsAs_1 3 rfl rfl)
theorem dX4_tellsAs_27 : decode cX4_tellsAs 27 = .ok (.bipush 81, 2) := dk_16 81 (dk_at dksX4_tellsAs_1 4 rfl rfl)
theorem dX4_tellsAs_29 : decode cX4_tellsAs 29 = .ok (.invokevirtual 419, 3) := dk_182 1 163 (dk_at dksX4_tellsAs_1 6 rfl rfl)
theorem dX4_tellsAs_32 : decode cX4_tellsAs 32 = .ok (.aload_n 0, 1) := dk_42 (dk_at dksX4_tellsAs_1 9 rfl rfl)
theorem dX4_tellsAs_33 : decode cX4_tellsAs 33 = .ok (.bipush 6, 2) := dk_16 6 (dk_at dksX4_tellsAs_1 10 rfl rfl)
theorem dX4_tellsAs_35 : decode cX4_tellsAs 35 = .ok (.iload_n 2, 1) := dk_28 (dk_at dksX4_tellsAs_1 12 rfl rfl)
theorem dX4_tellsAs_36 : decode cX4_tellsAs 36 = .ok (.invokevirtual 437, 3) := dk_182 1 181 (dk_at dksX4_tellsAs_1 13 rfl rfl)
theorem dX4_tellsAs_39 : decode cX4_tellsAs 39 = .ok (.istore_n 3, 1) := dk_62 (dk_at dksX4_tellsAs_1 16 rfl rfl)
theorem dX4_tellsAs_40 : decode cX4_tellsAs 40 = .ok (.iload_n 3, 1) := dk_29 (dk_at dksX4_tellsAs_1 17 rfl rfl)
theorem dX4_tellsAs_41 : decode cX4_tellsAs 41 = .ok (.aload_n 0, 1) := dk_42 (dk_at dksX4_tellsAs_1 18 rfl rfl)
theorem dX4_tellsAs_42 : decode cX4_tellsAs 42 = .ok (.aload_n 0, 1) := dk_42 (dk_at dksX4_tellsAs_1 19 rfl rfl)
theorem dX4_tellsAs_43 : decode cX4_tellsAs 43 = .ok (.getfield 431, 3) := dk_180 1 175 (dk_at dksX4_tellsAs_1 20 rfl rfl)
theorem dX4_tellsAs_46 : decode cX4_tellsAs 46 = .ok (.iconst 2, 1) := dk_5 (dk_at dksX4_tellsAs_1 23 rfl rfl)
theorem dX4_tellsAs_47 : decode cX4_tellsAs 47 = .ok (.invokevirtual 434, 3) := dk_182 1 178 (dk_at dksX4_tellsAs_2 0 rfl rfl)
theorem dX4_tellsAs_50 : decode cX4_tellsAs 50 = .ok (.isub, 1) := dk_100 (dk_at dksX4_tellsAs_2 3 rfl rfl)
theorem dX4_tellsAs_51 : decode cX4_tellsAs 51 = .ok (.ireturn, 1) := dk_172 (dk_at dksX4_tellsAs_2 4 rfl rfl)
theorem dX4_tellsAs_52 : decode cX4_tellsAs 52 = .ok (.aload_n 0, 1) := dk_42 (dk_at dksX4_tellsAs_2 5 rfl rfl)
theorem dX4_tellsAs_53 : decode cX4_tellsAs 53 = .ok (.iconst 2, 1) := dk_5 (dk_at dksX4_tellsAs_2 6 rfl rfl)
theorem dX4_tellsAs_54 : decode cX4_tellsAs 54 = .ok (.invokevirtual 419, 3) := dk_182 1 163 (dk_at dksX4_tellsAs_2 7 rfl rfl)
theorem dX4_tellsAs_57 : decode cX4_tellsAs 57 = .ok (.aload_n 0, 1) := dk_42 (dk_at dksX4_tellsAs_2 10 rfl rfl)
theorem dX4_tellsAs_58 : decode cX4_tellsAs 58 = .ok (.aload_n 0, 1) := dk_42 (dk_at dksX4_tellsAs_2 11 rfl rfl)
theorem dX4_tellsAs_59 : decode cX4_tellsAs 59 = .ok (.getfield 431, 3) := dk_180 1 175 (dk_at dksX4_tellsAs_2 12 rfl rfl)
theorem dX4_tellsAs_62 : decode cX4_tellsAs 62 = .ok (.iload_n 2, 1) := dk_28 (dk_at dksX4_tellsAs_2 15 rfl rfl)
theorem dX4_tellsAs_63 : decode cX4_tellsAs 63 = .ok (.invokevirtual 428, 3) := dk_182 1 172 (dk_at dksX4_tellsAs_2 16 rfl rfl)
theorem dX4_tellsAs_66 : decode cX4_tellsAs 66 = .ok (.istore_n 3, 1) := dk_62 (dk_at dksX4_tellsAs_2 19 rfl rfl)
theorem dX4_tellsAs_67 : decode cX4_tellsAs 67 = .ok (.iload_n 3, 1) := dk_29 (dk_at dksX4_tellsAs_2 20 rfl rfl)
theorem dX4_tellsAs_68 : decode cX4_tellsAs 68 = .ok (.aload_n 0, 1) := dk_42 (dk_at dksX4_tellsAs_2 21 rfl rfl)
theorem dX4_tellsAs_69 : decode cX4_tellsAs 69 = .ok (.aload_n 0, 1) := dk_42 (dk_at dksX4_tellsAs_2 22 rfl rfl)
theorem dX4_tellsAs_70 : decode cX4_tellsAs 70 = .ok (.getfield 431, 3) := dk_180 1 175 (dk_at dksX4_tellsAs_3 0 rfl rfl)
theorem dX4_tellsAs_73 : decode cX4_tellsAs 73 = .ok (.iconst 1, 1) := dk_4 (dk_at dksX4_tellsAs_3 3 rfl rfl)
theorem dX4_tellsAs_74 : decode cX4_tellsAs 74 = .ok (.invokevirtual 434, 3) := dk_182 1 178 (dk_at dksX4_tellsAs_3 4 rfl rfl)
theorem dX4_tellsAs_77 : decode cX4_tellsAs 77 = .ok (.isub, 1) := dk_100 (dk_at dksX4_tellsAs_3 7 rfl rfl)
theorem dX4_tellsAs_78 : decode cX4_tellsAs 78 = .ok (.ireturn, 1) := dk_172 (dk_at dksX4_tellsAs_3 8 rfl rfl)
abbrev cX4_trace : ByteArray := prog_34_method_102_code
def yX4_trace : MethodName := ⟨RX4, "trace", "(I)I"⟩
def dkwX4_trace_1 : List UInt8 := [167, 0, 4, 2, 172]
abbrev dktX4_trace_1 : List UInt8 := dkwX4_trace_1 ++ []
def dkwX4_trace_0 : List UInt8 := [27, 155, 0, 26, 27, 42, 180, 1, 160, 162, 0, 18, 27, 16, 24, 162, 0, 12, 42, 180, 0, 85, 27, 46]
abbrev dktX4_trace_0 : List UInt8 := dkwX4_trace_0 ++ dktX4_trace_1
theorem dksX4_trace_0 : cX4_trace.data.toList.drop 0 = dktX4_trace_0 := by decide +kernel
theorem dksX4_trace_1 : cX4_trace.data.toList.drop 24 = dktX4_trace_1 := dk_seg dksX4_trace_0 24 rfl rfl
theorem dX4_trace_0 : decode cX4_trace 0 = .ok (.iload_n 1, 1) := dk_27 (dk_at dksX4_trace_0 0 rfl rfl)
theorem dX4_trace_1 : decode cX4_trace 1 = .ok (.ifCond .lt 26, 3) := dk_155 0 26 (dk_at dksX4_trace_0 1 rfl rfl)
theorem dX4_trace_4 : decode cX4_trace 4 = .ok (.iload_n 1, 1) := dk_27 (dk_at dksX4_trace_0 4 rfl rfl)
theorem dX4_trace_5 : decode cX4_trace 5 = .ok (.aload_n 0, 1) := dk_42 (dk_at dksX4_trace_0 5 rfl rfl)
theorem dX4_trace_6 : decode cX4_trace 6 = .ok (.getfield 416, 3) := dk_180 1 160 (dk_at dksX4_trace_0 6 rfl rfl)
theorem dX4_trace_9 : decode cX4_trace 9 = .ok (.if_icmp .ge 18, 3) := dk_162 0 18 (dk_at dksX4_trace_0 9 rfl rfl)
theorem dX4_trace_12 : decode cX4_trace 12 = .ok (.iload_n 1, 1) := dk_27 (dk_at dksX4_trace_0 12 rfl rfl)
theorem dX4_trace_13 : decode cX4_trace 13 = .ok (.bipush 24, 2) := dk_16 24 (dk_at dksX4_trace_0 13 rfl rfl)
theorem dX4_trace_15 : decode cX4_trace 15 = .ok (.if_icmp .ge 12, 3) := dk_162 0 12 (dk_at dksX4_trace_0 15 rfl rfl)
theorem dX4_trace_18 : decode cX4_trace 18 = .ok (.aload_n 0, 1) := dk_42 (dk_at dksX4_trace_0 18 rfl rfl)
theorem dX4_trace_19 : decode cX4_trace 19 = .ok (.getfield 85, 3) := dk_180 0 85 (dk_at dksX4_trace_0 19 rfl rfl)
theorem dX4_trace_22 : decode cX4_trace 22 = .ok (.iload_n 1, 1) := dk_27 (dk_at dksX4_trace_0 22 rfl rfl)
theorem dX4_trace_23 : decode cX4_trace 23 = .ok (.iaload, 1) := dk_46 (dk_at dksX4_trace_0 23 rfl rfl)
theorem dX4_trace_24 : decode cX4_trace 24 = .ok (.goto 4, 3) := dk_167 0 4 (dk_at dksX4_trace_1 0 rfl rfl)
theorem dX4_trace_27 : decode cX4_trace 27 = .ok (.iconst (-1), 1) := dk_2 (dk_at dksX4_trace_1 3 rfl rfl)
theorem dX4_trace_28 : decode cX4_trace 28 = .ok (.ireturn, 1) := dk_172 (dk_at dksX4_trace_1 4 rfl rfl)
abbrev cX4_keep : ByteArray := prog_34_method_104_code
def yX4_keep : MethodName := ⟨RX4, "keep", "(II)I"⟩
def dkwX4_keep_1 : List UInt8 := [180, 0, 88, 27, 28, 79, 42, 180, 0, 91, 27, 3, 79, 4, 172]
abbrev dktX4_keep_1 : List UInt8 := dkwX4_keep_1 ++ []
def dkwX4_keep_0 : List UInt8 := [27, 184, 1, 53, 153, 0, 16, 28, 2, 159, 0, 13, 42, 28, 182, 1, 184, 154, 0, 5, 2, 172, 42]
abbrev dktX4_keep_0 : List UInt8 := dkwX4_keep_0 ++ dktX4_keep_1
theorem dksX4_keep_0 : cX4_keep.data.toList.drop 0 = dktX4_keep_0 := by decide +kernel
theorem dksX4_keep_1 : cX4_keep.data.toList.drop 23 = dktX4_keep_1 := dk_seg dksX4_keep_0 23 rfl rfl
theorem dX4_keep_0 : decode cX4_keep 0 = .ok (.iload_n 1, 1) := dk_27 (dk_at dksX4_keep_0 0 rfl rfl)
theorem dX4_keep_1 : decode cX4_keep 1 = .ok (.invokestatic 309, 3) := dk_184 1 53 (dk_at dksX4_keep_0 1 rfl rfl)
theorem dX4_keep_4 : decode cX4_keep 4 = .ok (.ifCond .eq 16, 3) := dk_153 0 16 (dk_at dksX4_keep_0 4 rfl rfl)
theorem dX4_keep_7 : decode cX4_keep 7 = .ok (.iload_n 2, 1) := dk_28 (dk_at dksX4_keep_0 7 rfl rfl)
theorem dX4_keep_8 : decode cX4_keep 8 = .ok (.iconst (-1), 1) := dk_2 (dk_at dksX4_keep_0 8 rfl rfl)
theorem dX4_keep_9 : decode cX4_keep 9 = .ok (.if_icmp .eq 13, 3) := dk_159 0 13 (dk_at dksX4_keep_0 9 rfl rfl)
theorem dX4_keep_12 : decode cX4_keep 12 = .ok (.aload_n 0, 1) := dk_42 (dk_at dksX4_keep_0 12 rfl rfl)
theorem dX4_keep_13 : decode cX4_keep 13 = .ok (.iload_n 2, 1) := dk_28 (dk_at dksX4_keep_0 13 rfl rfl)
theorem dX4_keep_14 : decode cX4_keep 14 = .ok (.invokevirtual 440, 3) := dk_182 1 184 (dk_at dksX4_keep_0 14 rfl rfl)
theorem dX4_keep_17 : decode cX4_keep 17 = .ok (.ifCond .ne 5, 3) := dk_154 0 5 (dk_at dksX4_keep_0 17 rfl rfl)
theorem dX4_keep_20 : decode cX4_keep 20 = .ok (.iconst (-1), 1) := dk_2 (dk_at dksX4_keep_0 20 rfl rfl)
theorem dX4_keep_21 : decode cX4_keep 21 = .ok (.ireturn, 1) := dk_172 (dk_at dksX4_keep_0 21 rfl rfl)
theorem dX4_keep_22 : decode cX4_keep 22 = .ok (.aload_n 0, 1) := dk_42 (dk_at dksX4_keep_0 22 rfl rfl)
theorem dX4_keep_23 : decode cX4_keep 23 = .ok (.getfield 88, 3) := dk_180 0 88 (dk_at dksX4_keep_1 0 rfl rfl)
theorem dX4_keep_26 : decode cX4_keep 26 = .ok (.iload_n 1, 1) := dk_27 (dk_at dksX4_keep_1 3 rfl rfl)
theorem dX4_keep_27 : decode cX4_keep 27 = .ok (.iload_n 2, 1) := dk_28 (dk_at dksX4_keep_1 4 rfl rfl)
theorem dX4_keep_28 : decode cX4_keep 28 = .ok (.iastore, 1) := dk_79 (dk_at dksX4_keep_1 5 rfl rfl)
theorem dX4_keep_29 : decode cX4_keep 29 = .ok (.aload_n 0, 1) := dk_42 (dk_at dksX4_keep_1 6 rfl rfl)
theorem dX4_keep_30 : decode cX4_keep 30 = .ok (.getfield 91, 3) := dk_180 0 91 (dk_at dksX4_keep_1 7 rfl rfl)
theorem dX4_keep_33 : decode cX4_keep 33 = .ok (.iload_n 1, 1) := dk_27 (dk_at dksX4_keep_1 10 rfl rfl)
theorem dX4_keep_34 : decode cX4_keep 34 = .ok (.iconst 0, 1) := dk_3 (dk_at dksX4_keep_1 11 rfl rfl)
theorem dX4_keep_35 : decode cX4_keep 35 = .ok (.iastore, 1) := dk_79 (dk_at dksX4_keep_1 12 rfl rfl)
theorem dX4_keep_36 : decode cX4_keep 36 = .ok (.iconst 1, 1) := dk_4 (dk_at dksX4_keep_1 13 rfl rfl)
theorem dX4_keep_37 : decode cX4_keep 37 = .ok (.ireturn, 1) := dk_172 (dk_at dksX4_keep_1 14 rfl rfl)
abbrev cX4_row : ByteArray := prog_34_method_105_code
def yX4_row : MethodName := ⟨RX4, "row", "(III)I"⟩
def dkwX4_row_3 : List UInt8 := [42, 180, 0, 94, 21, 4, 9, 80, 132, 4, 1, 167, 255, 233, 4, 172]
abbrev dktX4_row_3 : List UInt8 := dkwX4_row_3 ++ []
def dkwX4_row_2 : List UInt8 := [180, 0, 91, 27, 29, 79, 16, 60, 27, 104, 54, 4, 21, 4, 16, 60, 27, 104, 16, 60, 96, 162, 0, 17]
abbrev dktX4_row_2 : List UInt8 := dkwX4_row_2 ++ dktX4_row_3
def dkwX4_row_1 : List UInt8 := [164, 0, 5, 2, 172, 29, 156, 0, 6, 16, 242, 172, 42, 180, 0, 88, 27, 16, 50, 28, 96, 79, 42]
abbrev dktX4_row_1 : List UInt8 := dkwX4_row_1 ++ dktX4_row_2
def dkwX4_row_0 : List UInt8 := [27, 184, 1, 53, 153, 0, 21, 28, 133, 9, 20, 0, 111, 184, 0, 113, 153, 0, 9, 29, 16, 60]
abbrev dktX4_row_0 : List UInt8 := dkwX4_row_0 ++ dktX4_row_1
theorem dksX4_row_0 : cX4_row.data.toList.drop 0 = dktX4_row_0 := by decide +kernel
theorem dksX4_row_1 : cX4_row.data.toList.drop 22 = dktX4_row_1 := dk_seg dksX4_row_0 22 rfl rfl
theorem dksX4_row_2 : cX4_row.data.toList.drop 45 = dktX4_row_2 := dk_seg dksX4_row_1 23 rfl rfl
theorem dksX4_row_3 : cX4_row.data.toList.drop 69 = dktX4_row_3 := dk_seg dksX4_row_2 24 rfl rfl
theorem dX4_row_0 : decode cX4_row 0 = .ok (.iload_n 1, 1) := dk_27 (dk_at dksX4_row_0 0 rfl rfl)
theorem dX4_row_1 : decode cX4_row 1 = .ok (.invokestatic 309, 3) := dk_184 1 53 (dk_at dksX4_row_0 1 rfl rfl)
theorem dX4_row_4 : decode cX4_row 4 = .ok (.ifCond .eq 21, 3) := dk_153 0 21 (dk_at dksX4_row_0 4 rfl rfl)
theorem dX4_row_7 : decode cX4_row 7 = .ok (.iload_n 2, 1) := dk_28 (dk_at dksX4_row_0 7 rfl rfl)
theorem dX4_row_8 : decode cX4_row 8 = .ok (.i2l, 1) := dk_133 (dk_at dksX4_row_0 8 rfl rfl)
theorem dX4_row_9 : decode cX4_row 9 = .ok (.lconst 0, 1) := dk_9 (dk_at dksX4_row_0 9 rfl rfl)
theorem dX4_row_10 : decode cX4_row 10 = .ok (.ldc2_w 111, 3) := dk_20 0 111 (dk_at dksX4_row_0 10 rfl rfl)
theorem dX4_row_13 : decode cX4_row 13 = .ok (.invokestatic 113, 3) := dk_184 0 113 (dk_at dksX4_row_0 13 rfl rfl)
theorem dX4_row_16 : decode cX4_row 16 = .ok (.ifCond .eq 9, 3) := dk_153 0 9 (dk_at dksX4_row_0 16 rfl rfl)
theorem dX4_row_19 : decode cX4_row 19 = .ok (.iload_n 3, 1) := dk_29 (dk_at dksX4_row_0 19 rfl rfl)
theorem dX4_row_20 : decode cX4_row 20 = .ok (.bipush 60, 2) := dk_16 60 (dk_at dksX4_row_0 20 rfl rfl)
theorem dX4_row_22 : decode cX4_row 22 = .ok (.if_icmp .le 5, 3) := dk_164 0 5 (dk_at dksX4_row_1 0 rfl rfl)
theorem dX4_row_25 : decode cX4_row 25 = .ok (.iconst (-1), 1) := dk_2 (dk_at dksX4_row_1 3 rfl rfl)
theorem dX4_row_26 : decode cX4_row 26 = .ok (.ireturn, 1) := dk_172 (dk_at dksX4_row_1 4 rfl rfl)
theorem dX4_row_27 : decode cX4_row 27 = .ok (.iload_n 3, 1) := dk_29 (dk_at dksX4_row_1 5 rfl rfl)
theorem dX4_row_28 : decode cX4_row 28 = .ok (.ifCond .ge 6, 3) := dk_156 0 6 (dk_at dksX4_row_1 6 rfl rfl)
theorem dX4_row_31 : decode cX4_row 31 = .ok (.bipush (-14), 2) := dk_16 242 (dk_at dksX4_row_1 9 rfl rfl)
theorem dX4_row_33 : decode cX4_row 33 = .ok (.ireturn, 1) := dk_172 (dk_at dksX4_row_1 11 rfl rfl)
theorem dX4_row_34 : decode cX4_row 34 = .ok (.aload_n 0, 1) := dk_42 (dk_at dksX4_row_1 12 rfl rfl)
theorem dX4_row_35 : decode cX4_row 35 = .ok (.getfield 88, 3) := dk_180 0 88 (dk_at dksX4_row_1 13 rfl rfl)
theorem dX4_row_38 : decode cX4_row 38 = .ok (.iload_n 1, 1) := dk_27 (dk_at dksX4_row_1 16 rfl rfl)
theorem dX4_row_39 : decode cX4_row 39 = .ok (.bipush 50, 2) := dk_16 50 (dk_at dksX4_row_1 17 rfl rfl)
theorem dX4_row_41 : decode cX4_row 41 = .ok (.iload_n 2, 1) := dk_28 (dk_at dksX4_row_1 19 rfl rfl)
theorem dX4_row_42 : decode cX4_row 42 = .ok (.iadd, 1) := dk_96 (dk_at dksX4_row_1 20 rfl rfl)
theorem dX4_row_43 : decode cX4_row 43 = .ok (.iastore, 1) := dk_79 (dk_at dksX4_row_1 21 rfl rfl)
theorem dX4_row_44 : decode cX4_row 44 = .ok (.aload_n 0, 1) := dk_42 (dk_at dksX4_row_1 22 rfl rfl)
theorem dX4_row_45 : decode cX4_row 45 = .ok (.getfield 91, 3) := dk_180 0 91 (dk_at dksX4_row_2 0 rfl rfl)
theorem dX4_row_48 : decode cX4_row 48 = .ok (.iload_n 1, 1) := dk_27 (dk_at dksX4_row_2 3 rfl rfl)
theorem dX4_row_49 : decode cX4_row 49 = .ok (.iload_n 3, 1) := dk_29 (dk_at dksX4_row_2 4 rfl rfl)
theorem dX4_row_50 : decode cX4_row 50 = .ok (.iastore, 1) := dk_79 (dk_at dksX4_row_2 5 rfl rfl)
theorem dX4_row_51 : decode cX4_row 51 = .ok (.bipush 60, 2) := dk_16 60 (dk_at dksX4_row_2 6 rfl rfl)
theorem dX4_row_53 : decode cX4_row 53 = .ok (.iload_n 1, 1) := dk_27 (dk_at dksX4_row_2 8 rfl rfl)
theorem dX4_row_54 : decode cX4_row 54 = .ok (.imul, 1) := dk_104 (dk_at dksX4_row_2 9 rfl rfl)
theorem dX4_row_55 : decode cX4_row 55 = .ok (.istore 4, 2) := dk_54 4 (dk_at dksX4_row_2 10 rfl rfl)
theorem dX4_row_57 : decode cX4_row 57 = .ok (.iload 4, 2) := dk_21 4 (dk_at dksX4_row_2 12 rfl rfl)
theorem dX4_row_59 : decode cX4_row 59 = .ok (.bipush 60, 2) := dk_16 60 (dk_at dksX4_row_2 14 rfl rfl)
theorem dX4_row_61 : decode cX4_row 61 = .ok (.iload_n 1, 1) := dk_27 (dk_at dksX4_row_2 16 rfl rfl)
theorem dX4_row_62 : decode cX4_row 62 = .ok (.imul, 1) := dk_104 (dk_at dksX4_row_2 17 rfl rfl)
theorem dX4_row_63 : decode cX4_row 63 = .ok (.bipush 60, 2) := dk_16 60 (dk_at dksX4_row_2 18 rfl rfl)
theorem dX4_row_65 : decode cX4_row 65 = .ok (.iadd, 1) := dk_96 (dk_at dksX4_row_2 20 rfl rfl)
theorem dX4_row_66 : decode cX4_row 66 = .ok (.if_icmp .ge 17, 3) := dk_162 0 17 (dk_at dksX4_row_2 21 rfl rfl)
theorem dX4_row_69 : decode cX4_row 69 = .ok (.aload_n 0, 1) := dk_42 (dk_at dksX4_row_3 0 rfl rfl)
theorem dX4_row_70 : decode cX4_row 70 = .ok (.getfield 94, 3) := dk_180 0 94 (dk_at dksX4_row_3 1 rfl rfl)
theorem dX4_row_73 : decode cX4_row 73 = .ok (.iload 4, 2) := dk_21 4 (dk_at dksX4_row_3 4 rfl rfl)
theorem dX4_row_75 : decode cX4_row 75 = .ok (.lconst 0, 1) := dk_9 (dk_at dksX4_row_3 6 rfl rfl)
theorem dX4_row_76 : decode cX4_row 76 = .ok (.lastore, 1) := dk_80 (dk_at dksX4_row_3 7 rfl rfl)
theorem dX4_row_77 : decode cX4_row 77 = .ok (.iinc 4 1, 3) := dk_132 4 1 (dk_at dksX4_row_3 8 rfl rfl)
theorem dX4_row_80 : decode cX4_row 80 = .ok (.goto (-23), 3) := dk_167 255 233 (dk_at dksX4_row_3 11 rfl rfl)
theorem dX4_row_83 : decode cX4_row 83 = .ok (.iconst 1, 1) := dk_4 (dk_at dksX4_row_3 14 rfl rfl)
theorem dX4_row_84 : decode cX4_row 84 = .ok (.ireturn, 1) := dk_172 (dk_at dksX4_row_3 15 rfl rfl)
abbrev cX4_put : ByteArray := prog_34_method_108_code
def yX4_put : MethodName := ⟨RX4, "put", "(IIJ)I"⟩
def dkwX4_put_2 : List UInt8 := [172]
abbrev dktX4_put_2 : List UInt8 := dkwX4_put_2 ++ []
def dkwX4_put_1 : List UInt8 := [180, 0, 88, 27, 46, 16, 50, 100, 33, 184, 1, 192, 80, 21, 5, 154, 0, 7, 4, 167, 0, 5, 21, 5]
abbrev dktX4_put_1 : List UInt8 := dkwX4_put_1 ++ dktX4_put_2
def dkwX4_put_0 : List UInt8 := [42, 27, 28, 182, 1, 189, 54, 5, 21, 5, 154, 0, 27, 42, 180, 0, 94, 16, 60, 27, 104, 28, 96, 42]
abbrev dktX4_put_0 : List UInt8 := dkwX4_put_0 ++ dktX4_put_1
theorem dksX4_put_0 : cX4_put.data.toList.drop 0 = dktX4_put_0 := by decide +kernel
theorem dksX4_put_1 : cX4_put.data.toList.drop 24 = dktX4_put_1 := dk_seg dksX4_put_0 24 rfl rfl
theorem dksX4_put_2 : cX4_put.data.toList.drop 48 = dktX4_put_2 := dk_seg dksX4_put_1 24 rfl rfl
theorem dX4_put_0 : decode cX4_put 0 = .ok (.aload_n 0, 1) := dk_42 (dk_at dksX4_put_0 0 rfl rfl)
theorem dX4_put_1 : decode cX4_put 1 = .ok (.iload_n 1, 1) := dk_27 (dk_at dksX4_put_0 1 rfl rfl)
theorem dX4_put_2 : decode cX4_put 2 = .ok (.iload_n 2, 1) := dk_28 (dk_at dksX4_put_0 2 rfl rfl)
theorem dX4_put_3 : decode cX4_put 3 = .ok (.invokevirtual 445, 3) := dk_182 1 189 (dk_at dksX4_put_0 3 rfl rfl)
theorem dX4_put_6 : decode cX4_put 6 = .ok (.istore 5, 2) := dk_54 5 (dk_at dksX4_put_0 6 rfl rfl)
theorem dX4_put_8 : decode cX4_put 8 = .ok (.iload 5, 2) := dk_21 5 (dk_at dksX4_put_0 8 rfl rfl)
theorem dX4_put_10 : decode cX4_put 10 = .ok (.ifCond .ne 27, 3) := dk_154 0 27 (dk_at dksX4_put_0 10 rfl rfl)
theorem dX4_put_13 : decode cX4_put 13 = .ok (.aload_n 0, 1) := dk_42 (dk_at dksX4_put_0 13 rfl rfl)
theorem dX4_put_14 : decode cX4_put 14 = .ok (.getfield 94, 3) := dk_180 0 94 (dk_at dksX4_put_0 14 rfl rfl)
theorem dX4_put_17 : decode cX4_put 17 = .ok (.bipush 60, 2) := dk_16 60 (dk_at dksX4_put_0 17 rfl rfl)
theorem dX4_put_19 : decode cX4_put 19 = .ok (.iload_n 1, 1) := dk_27 (dk_at dksX4_put_0 19 rfl rfl)
theorem dX4_put_20 : decode cX4_put 20 = .ok (.imul, 1) := dk_104 (dk_at dksX4_put_0 20 rfl rfl)
theorem dX4_put_21 : decode cX4_put 21 = .ok (.iload_n 2, 1) := dk_28 (dk_at dksX4_put_0 21 rfl rfl)
theorem dX4_put_22 : decode cX4_put 22 = .ok (.iadd, 1) := dk_96 (dk_at dksX4_put_0 22 rfl rfl)
theorem dX4_put_23 : decode cX4_put 23 = .ok (.aload_n 0, 1) := dk_42 (dk_at dksX4_put_0 23 rfl rfl)
theorem dX4_put_24 : decode cX4_put 24 = .ok (.getfield 88, 3) := dk_180 0 88 (dk_at dksX4_put_1 0 rfl rfl)
theorem dX4_put_27 : decode cX4_put 27 = .ok (.iload_n 1, 1) := dk_27 (dk_at dksX4_put_1 3 rfl rfl)
theorem dX4_put_28 : decode cX4_put 28 = .ok (.iaload, 1) := dk_46 (dk_at dksX4_put_1 4 rfl rfl)
theorem dX4_put_29 : decode cX4_put 29 = .ok (.bipush 50, 2) := dk_16 50 (dk_at dksX4_put_1 5 rfl rfl)
theorem dX4_put_31 : decode cX4_put 31 = .ok (.isub, 1) := dk_100 (dk_at dksX4_put_1 7 rfl rfl)
theorem dX4_put_32 : decode cX4_put 32 = .ok (.lload_n 3, 1) := dk_33 (dk_at dksX4_put_1 8 rfl rfl)
theorem dX4_put_33 : decode cX4_put 33 = .ok (.invokestatic 448, 3) := dk_184 1 192 (dk_at dksX4_put_1 9 rfl rfl)
theorem dX4_put_36 : decode cX4_put 36 = .ok (.lastore, 1) := dk_80 (dk_at dksX4_put_1 12 rfl rfl)
theorem dX4_put_37 : decode cX4_put 37 = .ok (.iload 5, 2) := dk_21 5 (dk_at dksX4_put_1 13 rfl rfl)
theorem dX4_put_39 : decode cX4_put 39 = .ok (.ifCond .ne 7, 3) := dk_154 0 7 (dk_at dksX4_put_1 15 rfl rfl)
theorem dX4_put_42 : decode cX4_put 42 = .ok (.iconst 1, 1) := dk_4 (dk_at dksX4_put_1 18 rfl rfl)
theorem dX4_put_43 : decode cX4_put 43 = .ok (.goto 5, 3) := dk_167 0 5 (dk_at dksX4_put_1 19 rfl rfl)
theorem dX4_put_46 : decode cX4_put 46 = .ok (.iload 5, 2) := dk_21 5 (dk_at dksX4_put_1 22 rfl rfl)
theorem dX4_put_48 : decode cX4_put 48 = .ok (.ireturn, 1) := dk_172 (dk_at dksX4_put_2 0 rfl rfl)
abbrev cX4_refusal : ByteArray := prog_34_method_106_code
def yX4_refusal : MethodName := ⟨RX4, "refusal", "(II)I"⟩
def dkwX4_refusal_2 : List UInt8 := [162, 0, 7, 3, 167, 0, 5, 16, 243, 172]
abbrev dktX4_refusal_2 : List UInt8 := dkwX4_refusal_2 ++ []
def dkwX4_refusal_1 : List UInt8 := [180, 0, 88, 27, 46, 16, 50, 162, 0, 6, 16, 244, 172, 28, 155, 0, 17, 28, 42, 180, 0, 91, 27, 46]
abbrev dktX4_refusal_1 : List UInt8 := dkwX4_refusal_1 ++ dktX4_refusal_2
def dkwX4_refusal_0 : List UInt8 := [27, 184, 1, 53, 154, 0, 5, 2, 172, 42, 180, 0, 88, 27, 46, 156, 0, 6, 16, 245, 172, 42]
abbrev dktX4_refusal_0 : List UInt8 := dkwX4_refusal_0 ++ dktX4_refusal_1
theorem dksX4_refusal_0 : cX4_refusal.data.toList.drop 0 = dktX4_refusal_0 := by decide +kernel
theorem dksX4_refusal_1 : cX4_refusal.data.toList.drop 22 = dktX4_refusal_1 := dk_seg dksX4_refusal_0 22 rfl rfl
theorem dksX4_refusal_2 : cX4_refusal.data.toList.drop 46 = dktX4_refusal_2 := dk_seg dksX4_refusal_1 24 rfl rfl
theorem dX4_refusal_0 : decode cX4_refusal 0 = .ok (.iload_n 1, 1) := dk_27 (dk_at dksX4_refusal_0 0 rfl rfl)
theorem dX4_refusal_1 : decode cX4_refusal 1 = .ok (.invokestatic 309, 3) := dk_184 1 53 (dk_at dksX4_refusal_0 1 rfl rfl)
theorem dX4_refusal_4 : decode cX4_refusal 4 = .ok (.ifCond .ne 5, 3) := dk_154 0 5 (dk_at dksX4_refusal_0 4 rfl rfl)
theorem dX4_refusal_7 : decode cX4_refusal 7 = .ok (.iconst (-1), 1) := dk_2 (dk_at dksX4_refusal_0 7 rfl rfl)
theorem dX4_refusal_8 : decode cX4_refusal 8 = .ok (.ireturn, 1) := dk_172 (dk_at dksX4_refusal_0 8 rfl rfl)
theorem dX4_refusal_9 : decode cX4_refusal 9 = .ok (.aload_n 0, 1) := dk_42 (dk_at dksX4_refusal_0 9 rfl rfl)
theorem dX4_refusal_10 : decode cX4_refusal 10 = .ok (.getfield 88, 3) := dk_180 0 88 (dk_at dksX4_refusal_0 10 rfl rfl)
theorem dX4_refusal_13 : decode cX4_refusal 13 = .ok (.iload_n 1, 1) := dk_27 (dk_at dksX4_refusal_0 13 rfl rfl)
theorem dX4_refusal_14 : decode cX4_refusal 14 = .ok (.iaload, 1) := dk_46 (dk_at dksX4_refusal_0 14 rfl rfl)
theorem dX4_refusal_15 : decode cX4_refusal 15 = .ok (.ifCond .ge 6, 3) := dk_156 0 6 (dk_at dksX4_refusal_0 15 rfl rfl)
theorem dX4_refusal_18 : decode cX4_refusal 18 = .ok (.bipush (-11), 2) := dk_16 245 (dk_at dksX4_refusal_0 18 rfl rfl)
theorem dX4_refusal_20 : decode cX4_refusal 20 = .ok (.ireturn, 1) := dk_172 (dk_at dksX4_refusal_0 20 rfl rfl)
theorem dX4_refusal_21 : decode cX4_refusal 21 = .ok (.aload_n 0, 1) := dk_42 (dk_at dksX4_refusal_0 21 rfl rfl)
theorem dX4_refusal_22 : decode cX4_refusal 22 = .ok (.getfield 88, 3) := dk_180 0 88 (dk_at dksX4_refusal_1 0 rfl rfl)
theorem dX4_refusal_25 : decode cX4_refusal 25 = .ok (.iload_n 1, 1) := dk_27 (dk_at dksX4_refusal_1 3 rfl rfl)
theorem dX4_refusal_26 : decode cX4_refusal 26 = .ok (.iaload, 1) := dk_46 (dk_at dksX4_refusal_1 4 rfl rfl)
theorem dX4_refusal_27 : decode cX4_refusal 27 = .ok (.bipush 50, 2) := dk_16 50 (dk_at dksX4_refusal_1 5 rfl rfl)
theorem dX4_refusal_29 : decode cX4_refusal 29 = .ok (.if_icmp .ge 6, 3) := dk_162 0 6 (dk_at dksX4_refusal_1 7 rfl rfl)
theorem dX4_refusal_32 : decode cX4_refusal 32 = .ok (.bipush (-12), 2) := dk_16 244 (dk_at dksX4_refusal_1 10 rfl rfl)
theorem dX4_refusal_34 : decode cX4_refusal 34 = .ok (.ireturn, 1) := dk_172 (dk_at dksX4_refusal_1 12 rfl rfl)
theorem dX4_refusal_35 : decode cX4_refusal 35 = .ok (.iload_n 2, 1) := dk_28 (dk_at dksX4_refusal_1 13 rfl rfl)
theorem dX4_refusal_36 : decode cX4_refusal 36 = .ok (.ifCond .lt 17, 3) := dk_155 0 17 (dk_at dksX4_refusal_1 14 rfl rfl)
theorem dX4_refusal_39 : decode cX4_refusal 39 = .ok (.iload_n 2, 1) := dk_28 (dk_at dksX4_refusal_1 17 rfl rfl)
theorem dX4_refusal_40 : decode cX4_refusal 40 = .ok (.aload_n 0, 1) := dk_42 (dk_at dksX4_refusal_1 18 rfl rfl)
theorem dX4_refusal_41 : decode cX4_refusal 41 = .ok (.getfield 91, 3) := dk_180 0 91 (dk_at dksX4_refusal_1 19 rfl rfl)
theorem dX4_refusal_44 : decode cX4_refusal 44 = .ok (.iload_n 1, 1) := dk_27 (dk_at dksX4_refusal_1 22 rfl rfl)
theorem dX4_refusal_45 : decode cX4_refusal 45 = .ok (.iaload, 1) := dk_46 (dk_at dksX4_refusal_1 23 rfl rfl)
theorem dX4_refusal_46 : decode cX4_refusal 46 = .ok (.if_icmp .ge 7, 3) := dk_162 0 7 (dk_at dksX4_refusal_2 0 rfl rfl)
theorem dX4_refusal_49 : decode cX4_refusal 49 = .ok (.iconst 0, 1) := dk_3 (dk_at dksX4_refusal_2 3 rfl rfl)
theorem dX4_refusal_50 : decode cX4_refusal 50 = .ok (.goto 5, 3) := dk_167 0 5 (dk_at dksX4_refusal_2 4 rfl rfl)
theorem dX4_refusal_53 : decode cX4_refusal 53 = .ok (.bipush (-13), 2) := dk_16 243 (dk_at dksX4_refusal_2 7 rfl rfl)
theorem dX4_refusal_55 : decode cX4_refusal 55 = .ok (.ireturn, 1) := dk_172 (dk_at dksX4_refusal_2 9 rfl rfl)
abbrev cX4_asSort : ByteArray := prog_34_method_107_code
def yX4_asSort : MethodName := ⟨RX4, "asSort", "(IJ)J"⟩
def dkwX4_asSort_2 : List UInt8 := [167, 0, 8, 9, 167, 0, 4, 31, 173]
abbrev dktX4_asSort_2 : List UInt8 := dkwX4_asSort_2 ++ []
def dkwX4_asSort_1 : List UInt8 := [5, 160, 0, 9, 31, 136, 133, 167, 0, 23, 26, 7, 160, 0, 17, 31, 9, 148, 153, 0, 7, 10]
abbrev dktX4_asSort_1 : List UInt8 := dkwX4_asSort_1 ++ dktX4_asSort_2
def dkwX4_asSort_0 : List UInt8 := [26, 154, 0, 10, 31, 136, 145, 133, 167, 0, 46, 26, 4, 160, 0, 10, 31, 136, 147, 133, 167, 0, 34, 26]
abbrev dktX4_asSort_0 : List UInt8 := dkwX4_asSort_0 ++ dktX4_asSort_1
theorem dksX4_asSort_0 : cX4_asSort.data.toList.drop 0 = dktX4_asSort_0 := by decide +kernel
theorem dksX4_asSort_1 : cX4_asSort.data.toList.drop 24 = dktX4_asSort_1 := dk_seg dksX4_asSort_0 24 rfl rfl
theorem dksX4_asSort_2 : cX4_asSort.data.toList.drop 46 = dktX4_asSort_2 := dk_seg dksX4_asSort_1 22 rfl rfl
theorem dX4_asSort_0 : decode cX4_asSort 0 = .ok (.iload_n 0, 1) := dk_26 (dk_at dksX4_asSort_0 0 rfl rfl)
theorem dX4_asSort_1 : decode cX4_asSort 1 = .ok (.ifCond .ne 10, 3) := dk_154 0 10 (dk_at dksX4_asSort_0 1 rfl rfl)
theorem dX4_asSort_4 : decode cX4_asSort 4 = .ok (.lload_n 1, 1) := dk_31 (dk_at dksX4_asSort_0 4 rfl rfl)
theorem dX4_asSort_5 : decode cX4_asSort 5 = .ok (.l2i, 1) := dk_136 (dk_at dksX4_asSort_0 5 rfl rfl)
theorem dX4_asSort_6 : decode cX4_asSort 6 = .ok (.i2b, 1) := dk_145 (dk_at dksX4_asSort_0 6 rfl rfl)
theorem dX4_asSort_7 : decode cX4_asSort 7 = .ok (.i2l, 1) := dk_133 (dk_at dksX4_asSort_0 7 rfl rfl)
theorem dX4_asSort_8 : decode cX4_asSort 8 = .ok (.goto 46, 3) := dk_167 0 46 (dk_at dksX4_asSort_0 8 rfl rfl)
theorem dX4_asSort_11 : decode cX4_asSort 11 = .ok (.iload_n 0, 1) := dk_26 (dk_at dksX4_asSort_0 11 rfl rfl)
theorem dX4_asSort_12 : decode cX4_asSort 12 = .ok (.iconst 1, 1) := dk_4 (dk_at dksX4_asSort_0 12 rfl rfl)
theorem dX4_asSort_13 : decode cX4_asSort 13 = .ok (.if_icmp .ne 10, 3) := dk_160 0 10 (dk_at dksX4_asSort_0 13 rfl rfl)
theorem dX4_asSort_16 : decode cX4_asSort 16 = .ok (.lload_n 1, 1) := dk_31 (dk_at dksX4_asSort_0 16 rfl rfl)
theorem dX4_asSort_17 : decode cX4_asSort 17 = .ok (.l2i, 1) := dk_136 (dk_at dksX4_asSort_0 17 rfl rfl)
theorem dX4_asSort_18 : decode cX4_asSort 18 = .ok (.i2s, 1) := dk_147 (dk_at dksX4_asSort_0 18 rfl rfl)
theorem dX4_asSort_19 : decode cX4_asSort 19 = .ok (.i2l, 1) := dk_133 (dk_at dksX4_asSort_0 19 rfl rfl)
theorem dX4_asSort_20 : decode cX4_asSort 20 = .ok (.goto 34, 3) := dk_167 0 34 (dk_at dksX4_asSort_0 20 rfl rfl)
theorem dX4_asSort_23 : decode cX4_asSort 23 = .ok (.iload_n 0, 1) := dk_26 (dk_at dksX4_asSort_0 23 rfl rfl)
theorem dX4_asSort_24 : decode cX4_asSort 24 = .ok (.iconst 2, 1) := dk_5 (dk_at dksX4_asSort_1 0 rfl rfl)
theorem dX4_asSort_25 : decode cX4_asSort 25 = .ok (.if_icmp .ne 9, 3) := dk_160 0 9 (dk_at dksX4_asSort_1 1 rfl rfl)
theorem dX4_asSort_28 : decode cX4_asSort 28 = .ok (.lload_n 1, 1) := dk_31 (dk_at dksX4_asSort_1 4 rfl rfl)
theorem dX4_asSort_29 : decode cX4_asSort 29 = .ok (.l2i, 1) := dk_136 (dk_at dksX4_asSort_1 5 rfl rfl)
theorem dX4_asSort_30 : decode cX4_asSort 30 = .ok (.i2l, 1) := dk_133 (dk_at dksX4_asSort_1 6 rfl rfl)
theorem dX4_asSort_31 : decode cX4_asSort 31 = .ok (.goto 23, 3) := dk_167 0 23 (dk_at dksX4_asSort_1 7 rfl rfl)
theorem dX4_asSort_34 : decode cX4_asSort 34 = .ok (.iload_n 0, 1) := dk_26 (dk_at dksX4_asSort_1 10 rfl rfl)
theorem dX4_asSort_35 : decode cX4_asSort 35 = .ok (.iconst 4, 1) := dk_7 (dk_at dksX4_asSort_1 11 rfl rfl)
theorem dX4_asSort_36 : decode cX4_asSort 36 = .ok (.if_icmp .ne 17, 3) := dk_160 0 17 (dk_at dksX4_asSort_1 12 rfl rfl)
theorem dX4_asSort_39 : decode cX4_asSort 39 = .ok (.lload_n 1, 1) := dk_31 (dk_at dksX4_asSort_1 15 rfl rfl)
theorem dX4_asSort_40 : decode cX4_asSort 40 = .ok (.lconst 0, 1) := dk_9 (dk_at dksX4_asSort_1 16 rfl rfl)
theorem dX4_asSort_41 : decode cX4_asSort 41 = .ok (.lcmp, 1) := dk_148 (dk_at dksX4_asSort_1 17 rfl rfl)
theorem dX4_asSort_42 : decode cX4_asSort 42 = .ok (.ifCond .eq 7, 3) := dk_153 0 7 (dk_at dksX4_asSort_1 18 rfl rfl)
theorem dX4_asSort_45 : decode cX4_asSort 45 = .ok (.lconst 1, 1) := dk_10 (dk_at dksX4_asSort_1 21 rfl rfl)
theorem dX4_asSort_46 : decode cX4_asSort 46 = .ok (.goto 8, 3) := dk_167 0 8 (dk_at dksX4_asSort_2 0 rfl rfl)
theorem dX4_asSort_49 : decode cX4_asSort 49 = .ok (.lconst 0, 1) := dk_9 (dk_at dksX4_asSort_2 3 rfl rfl)
theorem dX4_asSort_50 : decode cX4_asSort 50 = .ok (.goto 4, 3) := dk_167 0 4 (dk_at dksX4_asSort_2 4 rfl rfl)
theorem dX4_asSort_53 : decode cX4_asSort 53 = .ok (.lload_n 1, 1) := dk_31 (dk_at dksX4_asSort_2 7 rfl rfl)
theorem dX4_asSort_54 : decode cX4_asSort 54 = .ok (.lreturn, 1) := dk_173 (dk_at dksX4_asSort_2 8 rfl rfl)
abbrev cX4_element : ByteArray := prog_34_method_109_code
def yX4_element : MethodName := ⟨RX4, "element", "(II)J"⟩
def dkwX4_element_1 : List UInt8 := [96, 47, 173]
abbrev dktX4_element_1 : List UInt8 := dkwX4_element_1 ++ []
def dkwX4_element_0 : List UInt8 := [42, 27, 28, 182, 1, 189, 153, 0, 9, 20, 1, 198, 167, 0, 14, 42, 180, 0, 94, 16, 60, 27, 104, 28]
abbrev dktX4_element_0 : List UInt8 := dkwX4_element_0 ++ dktX4_element_1
theorem dksX4_element_0 : cX4_element.data.toList.drop 0 = dktX4_element_0 := by decide +kernel
theorem dksX4_element_1 : cX4_element.data.toList.drop 24 = dktX4_element_1 := dk_seg dksX4_element_0 24 rfl rfl
theorem dX4_element_0 : decode cX4_element 0 = .ok (.aload_n 0, 1) := dk_42 (dk_at dksX4_element_0 0 rfl rfl)
theorem dX4_element_1 : decode cX4_element 1 = .ok (.iload_n 1, 1) := dk_27 (dk_at dksX4_element_0 1 rfl rfl)
theorem dX4_element_2 : decode cX4_element 2 = .ok (.iload_n 2, 1) := dk_28 (dk_at dksX4_element_0 2 rfl rfl)
theorem dX4_element_3 : decode cX4_element 3 = .ok (.invokevirtual 445, 3) := dk_182 1 189 (dk_at dksX4_element_0 3 rfl rfl)
theorem dX4_element_6 : decode cX4_element 6 = .ok (.ifCond .eq 9, 3) := dk_153 0 9 (dk_at dksX4_element_0 6 rfl rfl)
theorem dX4_element_9 : decode cX4_element 9 = .ok (.ldc2_w 454, 3) := dk_20 1 198 (dk_at dksX4_element_0 9 rfl rfl)
theorem dX4_element_12 : decode cX4_element 12 = .ok (.goto 14, 3) := dk_167 0 14 (dk_at dksX4_element_0 12 rfl rfl)
theorem dX4_element_15 : decode cX4_element 15 = .ok (.aload_n 0, 1) := dk_42 (dk_at dksX4_element_0 15 rfl rfl)
theorem dX4_element_16 : decode cX4_element 16 = .ok (.getfield 94, 3) := dk_180 0 94 (dk_at dksX4_element_0 16 rfl rfl)
theorem dX4_element_19 : decode cX4_element 19 = .ok (.bipush 60, 2) := dk_16 60 (dk_at dksX4_element_0 19 rfl rfl)
theorem dX4_element_21 : decode cX4_element 21 = .ok (.iload_n 1, 1) := dk_27 (dk_at dksX4_element_0 21 rfl rfl)
theorem dX4_element_22 : decode cX4_element 22 = .ok (.imul, 1) := dk_104 (dk_at dksX4_element_0 22 rfl rfl)
theorem dX4_element_23 : decode cX4_element 23 = .ok (.iload_n 2, 1) := dk_28 (dk_at dksX4_element_0 23 rfl rfl)
theorem dX4_element_24 : decode cX4_element 24 = .ok (.iadd, 1) := dk_96 (dk_at dksX4_element_1 0 rfl rfl)
theorem dX4_element_25 : decode cX4_element 25 = .ok (.laload, 1) := dk_47 (dk_at dksX4_element_1 1 rfl rfl)
theorem dX4_element_26 : decode cX4_element 26 = .ok (.lreturn, 1) := dk_173 (dk_at dksX4_element_1 2 rfl rfl)
abbrev cX4_shift : ByteArray := prog_34_method_110_code
def yX4_shift : MethodName := ⟨RX4, "shift", "(IIIII)I"⟩
def dkwX4_shift_8 : List UInt8 := [167, 255, 224, 21, 5, 172]
abbrev dktX4_shift_8 : List UInt8 := dkwX4_shift_8 ++ []
def dkwX4_shift_7 : List UInt8 := [180, 0, 94, 16, 60, 29, 104, 21, 4, 96, 21, 6, 96, 42, 180, 0, 98, 21, 6, 47, 80, 132, 6, 1]
abbrev dktX4_shift_7 : List UInt8 := dkwX4_shift_7 ++ dktX4_shift_8
def dkwX4_shift_6 : List UInt8 := [21, 6, 96, 47, 80, 132, 6, 1, 167, 255, 225, 3, 54, 6, 21, 6, 21, 5, 162, 0, 31, 42]
abbrev dktX4_shift_6 : List UInt8 := dkwX4_shift_6 ++ dktX4_shift_7
def dkwX4_shift_5 : List UInt8 := [21, 6, 21, 5, 162, 0, 30, 42, 180, 0, 98, 21, 6, 42, 180, 0, 94, 16, 60, 27, 104, 28, 96]
abbrev dktX4_shift_5 : List UInt8 := dkwX4_shift_5 ++ dktX4_shift_6
def dkwX4_shift_4 : List UInt8 := [163, 0, 17, 21, 4, 42, 180, 0, 91, 29, 46, 21, 5, 100, 164, 0, 6, 16, 243, 172, 3, 54, 6]
abbrev dktX4_shift_4 : List UInt8 := dkwX4_shift_4 ++ dktX4_shift_5
def dkwX4_shift_3 : List UInt8 := [155, 0, 39, 28, 155, 0, 35, 21, 4, 155, 0, 30, 28, 42, 180, 0, 91, 27, 46, 21, 5, 100]
abbrev dktX4_shift_3 : List UInt8 := dkwX4_shift_3 ++ dktX4_shift_4
def dkwX4_shift_2 : List UInt8 := [161, 0, 18, 42, 180, 0, 88, 27, 46, 42, 180, 0, 88, 29, 46, 159, 0, 6, 16, 244, 172, 21, 5]
abbrev dktX4_shift_2 : List UInt8 := dkwX4_shift_2 ++ dktX4_shift_3
def dkwX4_shift_1 : List UInt8 := [155, 0, 12, 42, 180, 0, 88, 29, 46, 156, 0, 6, 16, 245, 172, 42, 180, 0, 88, 27, 46, 16, 50]
abbrev dktX4_shift_1 : List UInt8 := dkwX4_shift_1 ++ dktX4_shift_2
def dkwX4_shift_0 : List UInt8 := [27, 184, 1, 53, 153, 0, 10, 29, 184, 1, 53, 154, 0, 5, 2, 172, 42, 180, 0, 88, 27, 46]
abbrev dktX4_shift_0 : List UInt8 := dkwX4_shift_0 ++ dktX4_shift_1
theorem dksX4_shift_0 : cX4_shift.data.toList.drop 0 = dktX4_shift_0 := by decide +kernel
theorem dksX4_shift_1 : cX4_shift.data.toList.drop 22 = dktX4_shift_1 := dk_seg dksX4_shift_0 22 rfl rfl
theorem dksX4_shift_2 : cX4_shift.data.toList.drop 45 = dktX4_shift_2 := dk_seg dksX4_shift_1 23 rfl rfl
theorem dksX4_shift_3 : cX4_shift.data.toList.drop 68 = dktX4_shift_3 := dk_seg dksX4_shift_2 23 rfl rfl
theorem dksX4_shift_4 : cX4_shift.data.toList.drop 90 = dktX4_shift_4 := dk_seg dksX4_shift_3 22 rfl rfl
theorem dksX4_shift_5 : cX4_shift.data.toList.drop 113 = dktX4_shift_5 := dk_seg dksX4_shift_4 23 rfl rfl
theorem dksX4_shift_6 : cX4_shift.data.toList.drop 136 = dktX4_shift_6 := dk_seg dksX4_shift_5 23 rfl rfl
theorem dksX4_shift_7 : cX4_shift.data.toList.drop 158 = dktX4_shift_7 := dk_seg dksX4_shift_6 22 rfl rfl
theorem dksX4_shift_8 : cX4_shift.data.toList.drop 182 = dktX4_shift_8 := dk_seg dksX4_shift_7 24 rfl rfl
theorem dX4_shift_0 : decode cX4_shift 0 = .ok (.iload_n 1, 1) := dk_27 (dk_at dksX4_shift_0 0 rfl rfl)
theorem dX4_shift_1 : decode cX4_shift 1 = .ok (.invokestatic 309, 3) := dk_184 1 53 (dk_at dksX4_shift_0 1 rfl rfl)
theorem dX4_shift_4 : decode cX4_shift 4 = .ok (.ifCond .eq 10, 3) := dk_153 0 10 (dk_at dksX4_shift_0 4 rfl rfl)
theorem dX4_shift_7 : decode cX4_shift 7 = .ok (.iload_n 3, 1) := dk_29 (dk_at dksX4_shift_0 7 rfl rfl)
theorem dX4_shift_8 : decode cX4_shift 8 = .ok (.invokestatic 309, 3) := dk_184 1 53 (dk_at dksX4_shift_0 8 rfl rfl)
theorem dX4_shift_11 : decode cX4_shift 11 = .ok (.ifCond .ne 5, 3) := dk_154 0 5 (dk_at dksX4_shift_0 11 rfl rfl)
theorem dX4_shift_14 : decode cX4_shift 14 = .ok (.iconst (-1), 1) := dk_2 (dk_at dksX4_shift_0 14 rfl rfl)
theorem dX4_shift_15 : decode cX4_shift 15 = .ok (.ireturn, 1) := dk_172 (dk_at dksX4_shift_0 15 rfl rfl)
theorem dX4_shift_16 : decode cX4_shift 16 = .ok (.aload_n 0, 1) := dk_42 (dk_at dksX4_shift_0 16 rfl rfl)
theorem dX4_shift_17 : decode cX4_shift 17 = .ok (.getfield 88, 3) := dk_180 0 88 (dk_at dksX4_shift_0 17 rfl rfl)
theorem dX4_shift_20 : decode cX4_shift 20 = .ok (.iload_n 1, 1) := dk_27 (dk_at dksX4_shift_0 20 rfl rfl)
theorem dX4_shift_21 : decode cX4_shift 21 = .ok (.iaload, 1) := dk_46 (dk_at dksX4_shift_0 21 rfl rfl)
theorem dX4_shift_22 : decode cX4_shift 22 = .ok (.ifCond .lt 12, 3) := dk_155 0 12 (dk_at dksX4_shift_1 0 rfl rfl)
theorem dX4_shift_25 : decode cX4_shift 25 = .ok (.aload_n 0, 1) := dk_42 (dk_at dksX4_shift_1 3 rfl rfl)
theorem dX4_shift_26 : decode cX4_shift 26 = .ok (.getfield 88, 3) := dk_180 0 88 (dk_at dksX4_shift_1 4 rfl rfl)
theorem dX4_shift_29 : decode cX4_shift 29 = .ok (.iload_n 3, 1) := dk_29 (dk_at dksX4_shift_1 7 rfl rfl)
theorem dX4_shift_30 : decode cX4_shift 30 = .ok (.iaload, 1) := dk_46 (dk_at dksX4_shift_1 8 rfl rfl)
theorem dX4_shift_31 : decode cX4_shift 31 = .ok (.ifCond .ge 6, 3) := dk_156 0 6 (dk_at dksX4_shift_1 9 rfl rfl)
theorem dX4_shift_34 : decode cX4_shift 34 = .ok (.bipush (-11), 2) := dk_16 245 (dk_at dksX4_shift_1 12 rfl rfl)
theorem dX4_shift_36 : decode cX4_shift 36 = .ok (.ireturn, 1) := dk_172 (dk_at dksX4_shift_1 14 rfl rfl)
theorem dX4_shift_37 : decode cX4_shift 37 = .ok (.aload_n 0, 1) := dk_42 (dk_at dksX4_shift_1 15 rfl rfl)
theorem dX4_shift_38 : decode cX4_shift 38 = .ok (.getfield 88, 3) := dk_180 0 88 (dk_at dksX4_shift_1 16 rfl rfl)
theorem dX4_shift_41 : decode cX4_shift 41 = .ok (.iload_n 1, 1) := dk_27 (dk_at dksX4_shift_1 19 rfl rfl)
theorem dX4_shift_42 : decode cX4_shift 42 = .ok (.iaload, 1) := dk_46 (dk_at dksX4_shift_1 20 rfl rfl)
theorem dX4_shift_43 : decode cX4_shift 43 = .ok (.bipush 50, 2) := dk_16 50 (dk_at dksX4_shift_1 21 rfl rfl)
theorem dX4_shift_45 : decode cX4_shift 45 = .ok (.if_icmp .lt 18, 3) := dk_161 0 18 (dk_at dksX4_shift_2 0 rfl rfl)
theorem dX4_shift_48 : decode cX4_shift 48 = .ok (.aload_n 0, 1) := dk_42 (dk_at dksX4_shift_2 3 rfl rfl)
theorem dX4_shift_49 : decode cX4_shift 49 = .ok (.getfield 88, 3) := dk_180 0 88 (dk_at dksX4_shift_2 4 rfl rfl)
theorem dX4_shift_52 : decode cX4_shift 52 = .ok (.iload_n 1, 1) := dk_27 (dk_at dksX4_shift_2 7 rfl rfl)
theorem dX4_shift_53 : decode cX4_shift 53 = .ok (.iaload, 1) := dk_46 (dk_at dksX4_shift_2 8 rfl rfl)
theorem dX4_shift_54 : decode cX4_shift 54 = .ok (.aload_n 0, 1) := dk_42 (dk_at dksX4_shift_2 9 rfl rfl)
theorem dX4_shift_55 : decode cX4_shift 55 = .ok (.getfield 88, 3) := dk_180 0 88 (dk_at dksX4_shift_2 10 rfl rfl)
theorem dX4_shift_58 : decode cX4_shift 58 = .ok (.iload_n 3, 1) := dk_29 (dk_at dksX4_shift_2 13 rfl rfl)
theorem dX4_shift_59 : decode cX4_shift 59 = .ok (.iaload, 1) := dk_46 (dk_at dksX4_shift_2 14 rfl rfl)
theorem dX4_shift_60 : decode cX4_shift 60 = .ok (.if_icmp .eq 6, 3) := dk_159 0 6 (dk_at dksX4_shift_2 15 rfl rfl)
theorem dX4_shift_63 : decode cX4_shift 63 = .ok (.bipush (-12), 2) := dk_16 244 (dk_at dksX4_shift_2 18 rfl rfl)
theorem dX4_shift_65 : decode cX4_shift 65 = .ok (.ireturn, 1) := dk_172 (dk_at dksX4_shift_2 20 rfl rfl)
theorem dX4_shift_66 : decode cX4_shift 66 = .ok (.iload 5, 2) := dk_21 5 (dk_at dksX4_shift_2 21 rfl rfl)
theorem dX4_shift_68 : decode cX4_shift 68 = .ok (.ifCond .lt 39, 3) := dk_155 0 39 (dk_at dksX4_shift_3 0 rfl rfl)
theorem dX4_shift_71 : decode cX4_shift 71 = .ok (.iload_n 2, 1) := dk_28 (dk_at dksX4_shift_3 3 rfl rfl)
theorem dX4_shift_72 : decode cX4_shift 72 = .ok (.ifCond .lt 35, 3) := dk_155 0 35 (dk_at dksX4_shift_3 4 rfl rfl)
theorem dX4_shift_75 : decode cX4_shift 75 = .ok (.iload 4, 2) := dk_21 4 (dk_at dksX4_shift_3 7 rfl rfl)
theorem dX4_shift_77 : decode cX4_shift 77 = .ok (.ifCond .lt 30, 3) := dk_155 0 30 (dk_at dksX4_shift_3 9 rfl rfl)
theorem dX4_shift_80 : decode cX4_shift 80 = .ok (.iload_n 2, 1) := dk_28 (dk_at dksX4_shift_3 12 rfl rfl)
theorem dX4_shift_81 : decode cX4_shift 81 = .ok (.aload_n 0, 1) := dk_42 (dk_at dksX4_shift_3 13 rfl rfl)
theorem dX4_shift_82 : decode cX4_shift 82 = .ok (.getfield 91, 3) := dk_180 0 91 (dk_at dksX4_shift_3 14 rfl rfl)
theorem dX4_shift_85 : decode cX4_shift 85 = .ok (.iload_n 1, 1) := dk_27 (dk_at dksX4_shift_3 17 rfl rfl)
theorem dX4_shift_86 : decode cX4_shift 86 = .ok (.iaload, 1) := dk_46 (dk_at dksX4_shift_3 18 rfl rfl)
theorem dX4_shift_87 : decode cX4_shift 87 = .ok (.iload 5, 2) := dk_21 5 (dk_at dksX4_shift_3 19 rfl rfl)
theorem dX4_shift_89 : decode cX4_shift 89 = .ok (.isub, 1) := dk_100 (dk_at dksX4_shift_3 21 rfl rfl)
theorem dX4_shift_90 : decode cX4_shift 90 = .ok (.if_icmp .gt 17, 3) := dk_163 0 17 (dk_at dksX4_shift_4 0 rfl rfl)
theorem dX4_shift_93 : decode cX4_shift 93 = .ok (.iload 4, 2) := dk_21 4 (dk_at dksX4_shift_4 3 rfl rfl)
theorem dX4_shift_95 : decode cX4_shift 95 = .ok (.aload_n 0, 1) := dk_42 (dk_at dksX4_shift_4 5 rfl rfl)
theorem dX4_shift_96 : decode cX4_shift 96 = .ok (.getfield 91, 3) := dk_180 0 91 (dk_at dksX4_shift_4 6 rfl rfl)
theorem dX4_shift_99 : decode cX4_shift 99 = .ok (.iload_n 3, 1) := dk_29 (dk_at dksX4_shift_4 9 rfl rfl)
theorem dX4_shift_100 : decode cX4_shift 100 = .ok (.iaload, 1) := dk_46 (dk_at dksX4_shift_4 10 rfl rfl)
theorem dX4_shift_101 : decode cX4_shift 101 = .ok (.iload 5, 2) := dk_21 5 (dk_at dksX4_shift_4 11 rfl rfl)
theorem dX4_shift_103 : decode cX4_shift 103 = .ok (.isub, 1) := dk_100 (dk_at dksX4_shift_4 13 rfl rfl)
theorem dX4_shift_104 : decode cX4_shift 104 = .ok (.if_icmp .le 6, 3) := dk_164 0 6 (dk_at dksX4_shift_4 14 rfl rfl)
theorem dX4_shift_107 : decode cX4_shift 107 = .ok (.bipush (-13), 2) := dk_16 243 (dk_at dksX4_shift_4 17 rfl rfl)
theorem dX4_shift_109 : decode cX4_shift 109 = .ok (.ireturn, 1) := dk_172 (dk_at dksX4_shift_4 19 rfl rfl)
theorem dX4_shift_110 : decode cX4_shift 110 = .ok (.iconst 0, 1) := dk_3 (dk_at dksX4_shift_4 20 rfl rfl)
theorem dX4_shift_111 : decode cX4_shift 111 = .ok (.istore 6, 2) := dk_54 6 (dk_at dksX4_shift_4 21 rfl rfl)
theorem dX4_shift_113 : decode cX4_shift 113 = .ok (.iload 6, 2) := dk_21 6 (dk_at dksX4_shift_5 0 rfl rfl)
theorem dX4_shift_115 : decode cX4_shift 115 = .ok (.iload 5, 2) := dk_21 5 (dk_at dksX4_shift_5 2 rfl rfl)
theorem dX4_shift_117 : decode cX4_shift 117 = .ok (.if_icmp .ge 30, 3) := dk_162 0 30 (dk_at dksX4_shift_5 4 rfl rfl)
theorem dX4_shift_120 : decode cX4_shift 120 = .ok (.aload_n 0, 1) := dk_42 (dk_at dksX4_shift_5 7 rfl rfl)
theorem dX4_shift_121 : decode cX4_shift 121 = .ok (.getfield 98, 3) := dk_180 0 98 (dk_at dksX4_shift_5 8 rfl rfl)
theorem dX4_shift_124 : decode cX4_shift 124 = .ok (.iload 6, 2) := dk_21 6 (dk_at dksX4_shift_5 11 rfl rfl)
theorem dX4_shift_126 : decode cX4_shift 126 = .ok (.aload_n 0, 1) := dk_42 (dk_at dksX4_shift_5 13 rfl rfl)
theorem dX4_shift_127 : decode cX4_shift 127 = .ok (.getfield 94, 3) := dk_180 0 94 (dk_at dksX4_shift_5 14 rfl rfl)
theorem dX4_shift_130 : decode cX4_shift 130 = .ok (.bipush 60, 2) := dk_16 60 (dk_at dksX4_shift_5 17 rfl rfl)
theorem dX4_shift_132 : decode cX4_shift 132 = .ok (.iload_n 1, 1) := dk_27 (dk_at dksX4_shift_5 19 rfl rfl)
theorem dX4_shift_133 : decode cX4_shift 133 = .ok (.imul, 1) := dk_104 (dk_at dksX4_shift_5 20 rfl rfl)
theorem dX4_shift_134 : decode cX4_shift 134 = .ok (.iload_n 2, 1) := dk_28 (dk_at dksX4_shift_5 21 rfl rfl)
theorem dX4_shift_135 : decode cX4_shift 135 = .ok (.iadd, 1) := dk_96 (dk_at dksX4_shift_5 22 rfl rfl)
theorem dX4_shift_136 : decode cX4_shift 136 = .ok (.iload 6, 2) := dk_21 6 (dk_at dksX4_shift_6 0 rfl rfl)
theorem dX4_shift_138 : decode cX4_shift 138 = .ok (.iadd, 1) := dk_96 (dk_at dksX4_shift_6 2 rfl rfl)
theorem dX4_shift_139 : decode cX4_shift 139 = .ok (.laload, 1) := dk_47 (dk_at dksX4_shift_6 3 rfl rfl)
theorem dX4_shift_140 : decode cX4_shift 140 = .ok (.lastore, 1) := dk_80 (dk_at dksX4_shift_6 4 rfl rfl)
theorem dX4_shift_141 : decode cX4_shift 141 = .ok (.iinc 6 1, 3) := dk_132 6 1 (dk_at dksX4_shift_6 5 rfl rfl)
theorem dX4_shift_144 : decode cX4_shift 144 = .ok (.goto (-31), 3) := dk_167 255 225 (dk_at dksX4_shift_6 8 rfl rfl)
theorem dX4_shift_147 : decode cX4_shift 147 = .ok (.iconst 0, 1) := dk_3 (dk_at dksX4_shift_6 11 rfl rfl)
theorem dX4_shift_148 : decode cX4_shift 148 = .ok (.istore 6, 2) := dk_54 6 (dk_at dksX4_shift_6 12 rfl rfl)
theorem dX4_shift_150 : decode cX4_shift 150 = .ok (.iload 6, 2) := dk_21 6 (dk_at dksX4_shift_6 14 rfl rfl)
theorem dX4_shift_152 : decode cX4_shift 152 = .ok (.iload 5, 2) := dk_21 5 (dk_at dksX4_shift_6 16 rfl rfl)
theorem dX4_shift_154 : decode cX4_shift 154 = .ok (.if_icmp .ge 31, 3) := dk_162 0 31 (dk_at dksX4_shift_6 18 rfl rfl)
theorem dX4_shift_157 : decode cX4_shift 157 = .ok (.aload_n 0, 1) := dk_42 (dk_at dksX4_shift_6 21 rfl rfl)
theorem dX4_shift_158 : decode cX4_shift 158 = .ok (.getfield 94, 3) := dk_180 0 94 (dk_at dksX4_shift_7 0 rfl rfl)
theorem dX4_shift_161 : decode cX4_shift 161 = .ok (.bipush 60, 2) := dk_16 60 (dk_at dksX4_shift_7 3 rfl rfl)
theorem dX4_shift_163 : decode cX4_shift 163 = .ok (.iload_n 3, 1) := dk_29 (dk_at dksX4_shift_7 5 rfl rfl)
theorem dX4_shift_164 : decode cX4_shift 164 = .ok (.imul, 1) := dk_104 (dk_at dksX4_shift_7 6 rfl rfl)
theorem dX4_shift_165 : decode cX4_shift 165 = .ok (.iload 4, 2) := dk_21 4 (dk_at dksX4_shift_7 7 rfl rfl)
theorem dX4_shift_167 : decode cX4_shift 167 = .ok (.iadd, 1) := dk_96 (dk_at dksX4_shift_7 9 rfl rfl)
theorem dX4_shift_168 : decode cX4_shift 168 = .ok (.iload 6, 2) := dk_21 6 (dk_at dksX4_shift_7 10 rfl rfl)
theorem dX4_shift_170 : decode cX4_shift 170 = .ok (.iadd, 1) := dk_96 (dk_at dksX4_shift_7 12 rfl rfl)
theorem dX4_shift_171 : decode cX4_shift 171 = .ok (.aload_n 0, 1) := dk_42 (dk_at dksX4_shift_7 13 rfl rfl)
theorem dX4_shift_172 : decode cX4_shift 172 = .ok (.getfield 98, 3) := dk_180 0 98 (dk_at dksX4_shift_7 14 rfl rfl)
theorem dX4_shift_175 : decode cX4_shift 175 = .ok (.iload 6, 2) := dk_21 6 (dk_at dksX4_shift_7 17 rfl rfl)
theorem dX4_shift_177 : decode cX4_shift 177 = .ok (.laload, 1) := dk_47 (dk_at dksX4_shift_7 19 rfl rfl)
theorem dX4_shift_178 : decode cX4_shift 178 = .ok (.lastore, 1) := dk_80 (dk_at dksX4_shift_7 20 rfl rfl)
theorem dX4_shift_179 : decode cX4_shift 179 = .ok (.iinc 6 1, 3) := dk_132 6 1 (dk_at dksX4_shift_7 21 rfl rfl)
theorem dX4_shift_182 : decode cX4_shift 182 = .ok (.goto (-32), 3) := dk_167 255 224 (dk_at dksX4_shift_8 0 rfl rfl)
theorem dX4_shift_185 : decode cX4_shift 185 = .ok (.iload 5, 2) := dk_21 5 (dk_at dksX4_shift_8 3 rfl rfl)
theorem dX4_shift_187 : decode cX4_shift 187 = .ok (.ireturn, 1) := dk_172 (dk_at dksX4_shift_8 5 rfl rfl)
abbrev cX4_taken : ByteArray := prog_34_method_111_code
def yX4_taken : MethodName := ⟨RX4, "taken", "(II)I"⟩
def dkwX4_taken_4 : List UInt8 := [167, 0, 5, 16, 244, 172]
abbrev dktX4_taken_4 : List UInt8 := dkwX4_taken_4 ++ []
def dkwX4_taken_3 : List UInt8 := [184, 1, 203, 62, 167, 255, 242, 29, 28, 160, 0, 16, 42, 42, 180, 0, 88, 27, 46, 182, 1, 200]
abbrev dktX4_taken_3 : List UInt8 := dkwX4_taken_3 ++ dktX4_taken_4
def dkwX4_taken_2 : List UInt8 := [172, 42, 42, 180, 0, 88, 27, 46, 182, 1, 200, 62, 29, 28, 159, 0, 15, 29, 158, 0, 11, 29]
abbrev dktX4_taken_2 : List UInt8 := dkwX4_taken_2 ++ dktX4_taken_3
def dkwX4_taken_1 : List UInt8 := [180, 0, 88, 27, 46, 156, 0, 6, 16, 245, 172, 42, 180, 0, 88, 27, 46, 16, 50, 161, 0, 6, 16, 244]
abbrev dktX4_taken_1 : List UInt8 := dkwX4_taken_1 ++ dktX4_taken_2
def dkwX4_taken_0 : List UInt8 := [27, 184, 1, 53, 153, 0, 15, 28, 133, 9, 20, 1, 158, 184, 0, 113, 154, 0, 5, 2, 172, 42]
abbrev dktX4_taken_0 : List UInt8 := dkwX4_taken_0 ++ dktX4_taken_1
theorem dksX4_taken_0 : cX4_taken.data.toList.drop 0 = dktX4_taken_0 := by decide +kernel
theorem dksX4_taken_1 : cX4_taken.data.toList.drop 22 = dktX4_taken_1 := dk_seg dksX4_taken_0 22 rfl rfl
theorem dksX4_taken_2 : cX4_taken.data.toList.drop 46 = dktX4_taken_2 := dk_seg dksX4_taken_1 24 rfl rfl
theorem dksX4_taken_3 : cX4_taken.data.toList.drop 68 = dktX4_taken_3 := dk_seg dksX4_taken_2 22 rfl rfl
theorem dksX4_taken_4 : cX4_taken.data.toList.drop 90 = dktX4_taken_4 := dk_seg dksX4_taken_3 22 rfl rfl
theorem dX4_taken_0 : decode cX4_taken 0 = .ok (.iload_n 1, 1) := dk_27 (dk_at dksX4_taken_0 0 rfl rfl)
theorem dX4_taken_1 : decode cX4_taken 1 = .ok (.invokestatic 309, 3) := dk_184 1 53 (dk_at dksX4_taken_0 1 rfl rfl)
theorem dX4_taken_4 : decode cX4_taken 4 = .ok (.ifCond .eq 15, 3) := dk_153 0 15 (dk_at dksX4_taken_0 4 rfl rfl)
theorem dX4_taken_7 : decode cX4_taken 7 = .ok (.iload_n 2, 1) := dk_28 (dk_at dksX4_taken_0 7 rfl rfl)
theorem dX4_taken_8 : decode cX4_taken 8 = .ok (.i2l, 1) := dk_133 (dk_at dksX4_taken_0 8 rfl rfl)
theorem dX4_taken_9 : decode cX4_taken 9 = .ok (.lconst 0, 1) := dk_9 (dk_at dksX4_taken_0 9 rfl rfl)
theorem dX4_taken_10 : decode cX4_taken 10 = .ok (.ldc2_w 414, 3) := dk_20 1 158 (dk_at dksX4_taken_0 10 rfl rfl)
theorem dX4_taken_13 : decode cX4_taken 13 = .ok (.invokestatic 113, 3) := dk_184 0 113 (dk_at dksX4_taken_0 13 rfl rfl)
theorem dX4_taken_16 : decode cX4_taken 16 = .ok (.ifCond .ne 5, 3) := dk_154 0 5 (dk_at dksX4_taken_0 16 rfl rfl)
theorem dX4_taken_19 : decode cX4_taken 19 = .ok (.iconst (-1), 1) := dk_2 (dk_at dksX4_taken_0 19 rfl rfl)
theorem dX4_taken_20 : decode cX4_taken 20 = .ok (.ireturn, 1) := dk_172 (dk_at dksX4_taken_0 20 rfl rfl)
theorem dX4_taken_21 : decode cX4_taken 21 = .ok (.aload_n 0, 1) := dk_42 (dk_at dksX4_taken_0 21 rfl rfl)
theorem dX4_taken_22 : decode cX4_taken 22 = .ok (.getfield 88, 3) := dk_180 0 88 (dk_at dksX4_taken_1 0 rfl rfl)
theorem dX4_taken_25 : decode cX4_taken 25 = .ok (.iload_n 1, 1) := dk_27 (dk_at dksX4_taken_1 3 rfl rfl)
theorem dX4_taken_26 : decode cX4_taken 26 = .ok (.iaload, 1) := dk_46 (dk_at dksX4_taken_1 4 rfl rfl)
theorem dX4_taken_27 : decode cX4_taken 27 = .ok (.ifCond .ge 6, 3) := dk_156 0 6 (dk_at dksX4_taken_1 5 rfl rfl)
theorem dX4_taken_30 : decode cX4_taken 30 = .ok (.bipush (-11), 2) := dk_16 245 (dk_at dksX4_taken_1 8 rfl rfl)
theorem dX4_taken_32 : decode cX4_taken 32 = .ok (.ireturn, 1) := dk_172 (dk_at dksX4_taken_1 10 rfl rfl)
theorem dX4_taken_33 : decode cX4_taken 33 = .ok (.aload_n 0, 1) := dk_42 (dk_at dksX4_taken_1 11 rfl rfl)
theorem dX4_taken_34 : decode cX4_taken 34 = .ok (.getfield 88, 3) := dk_180 0 88 (dk_at dksX4_taken_1 12 rfl rfl)
theorem dX4_taken_37 : decode cX4_taken 37 = .ok (.iload_n 1, 1) := dk_27 (dk_at dksX4_taken_1 15 rfl rfl)
theorem dX4_taken_38 : decode cX4_taken 38 = .ok (.iaload, 1) := dk_46 (dk_at dksX4_taken_1 16 rfl rfl)
theorem dX4_taken_39 : decode cX4_taken 39 = .ok (.bipush 50, 2) := dk_16 50 (dk_at dksX4_taken_1 17 rfl rfl)
theorem dX4_taken_41 : decode cX4_taken 41 = .ok (.if_icmp .lt 6, 3) := dk_161 0 6 (dk_at dksX4_taken_1 19 rfl rfl)
theorem dX4_taken_44 : decode cX4_taken 44 = .ok (.bipush (-12), 2) := dk_16 244 (dk_at dksX4_taken_1 22 rfl rfl)
theorem dX4_taken_46 : decode cX4_taken 46 = .ok (.ireturn, 1) := dk_172 (dk_at dksX4_taken_2 0 rfl rfl)
theorem dX4_taken_47 : decode cX4_taken 47 = .ok (.aload_n 0, 1) := dk_42 (dk_at dksX4_taken_2 1 rfl rfl)
theorem dX4_taken_48 : decode cX4_taken 48 = .ok (.aload_n 0, 1) := dk_42 (dk_at dksX4_taken_2 2 rfl rfl)
theorem dX4_taken_49 : decode cX4_taken 49 = .ok (.getfield 88, 3) := dk_180 0 88 (dk_at dksX4_taken_2 3 rfl rfl)
theorem dX4_taken_52 : decode cX4_taken 52 = .ok (.iload_n 1, 1) := dk_27 (dk_at dksX4_taken_2 6 rfl rfl)
theorem dX4_taken_53 : decode cX4_taken 53 = .ok (.iaload, 1) := dk_46 (dk_at dksX4_taken_2 7 rfl rfl)
theorem dX4_taken_54 : decode cX4_taken 54 = .ok (.invokevirtual 456, 3) := dk_182 1 200 (dk_at dksX4_taken_2 8 rfl rfl)
theorem dX4_taken_57 : decode cX4_taken 57 = .ok (.istore_n 3, 1) := dk_62 (dk_at dksX4_taken_2 11 rfl rfl)
theorem dX4_taken_58 : decode cX4_taken 58 = .ok (.iload_n 3, 1) := dk_29 (dk_at dksX4_taken_2 12 rfl rfl)
theorem dX4_taken_59 : decode cX4_taken 59 = .ok (.iload_n 2, 1) := dk_28 (dk_at dksX4_taken_2 13 rfl rfl)
theorem dX4_taken_60 : decode cX4_taken 60 = .ok (.if_icmp .eq 15, 3) := dk_159 0 15 (dk_at dksX4_taken_2 14 rfl rfl)
theorem dX4_taken_63 : decode cX4_taken 63 = .ok (.iload_n 3, 1) := dk_29 (dk_at dksX4_taken_2 17 rfl rfl)
theorem dX4_taken_64 : decode cX4_taken 64 = .ok (.ifCond .le 11, 3) := dk_158 0 11 (dk_at dksX4_taken_2 18 rfl rfl)
theorem dX4_taken_67 : decode cX4_taken 67 = .ok (.iload_n 3, 1) := dk_29 (dk_at dksX4_taken_2 21 rfl rfl)
theorem dX4_taken_68 : decode cX4_taken 68 = .ok (.invokestatic 459, 3) := dk_184 1 203 (dk_at dksX4_taken_3 0 rfl rfl)
theorem dX4_taken_71 : decode cX4_taken 71 = .ok (.istore_n 3, 1) := dk_62 (dk_at dksX4_taken_3 3 rfl rfl)
theorem dX4_taken_72 : decode cX4_taken 72 = .ok (.goto (-14), 3) := dk_167 255 242 (dk_at dksX4_taken_3 4 rfl rfl)
theorem dX4_taken_75 : decode cX4_taken 75 = .ok (.iload_n 3, 1) := dk_29 (dk_at dksX4_taken_3 7 rfl rfl)
theorem dX4_taken_76 : decode cX4_taken 76 = .ok (.iload_n 2, 1) := dk_28 (dk_at dksX4_taken_3 8 rfl rfl)
theorem dX4_taken_77 : decode cX4_taken 77 = .ok (.if_icmp .ne 16, 3) := dk_160 0 16 (dk_at dksX4_taken_3 9 rfl rfl)
theorem dX4_taken_80 : decode cX4_taken 80 = .ok (.aload_n 0, 1) := dk_42 (dk_at dksX4_taken_3 12 rfl rfl)
theorem dX4_taken_81 : decode cX4_taken 81 = .ok (.aload_n 0, 1) := dk_42 (dk_at dksX4_taken_3 13 rfl rfl)
theorem dX4_taken_82 : decode cX4_taken 82 = .ok (.getfield 88, 3) := dk_180 0 88 (dk_at dksX4_taken_3 14 rfl rfl)
theorem dX4_taken_85 : decode cX4_taken 85 = .ok (.iload_n 1, 1) := dk_27 (dk_at dksX4_taken_3 17 rfl rfl)
theorem dX4_taken_86 : decode cX4_taken 86 = .ok (.iaload, 1) := dk_46 (dk_at dksX4_taken_3 18 rfl rfl)
theorem dX4_taken_87 : decode cX4_taken 87 = .ok (.invokevirtual 456, 3) := dk_182 1 200 (dk_at dksX4_taken_3 19 rfl rfl)
theorem dX4_taken_90 : decode cX4_taken 90 = .ok (.goto 5, 3) := dk_167 0 5 (dk_at dksX4_taken_4 0 rfl rfl)
theorem dX4_taken_93 : decode cX4_taken 93 = .ok (.bipush (-12), 2) := dk_16 244 (dk_at dksX4_taken_4 3 rfl rfl)
theorem dX4_taken_95 : decode cX4_taken 95 = .ok (.ireturn, 1) := dk_172 (dk_at dksX4_taken_4 5 rfl rfl)
abbrev cX4_kindOf : ByteArray := prog_34_method_93_code
def yX4_kindOf : MethodName := ⟨RX4, "kindOf", "(I)I"⟩
def dkwX4_kindOf_0 : List UInt8 := [42, 180, 0, 82, 27, 46, 172]
abbrev dktX4_kindOf_0 : List UInt8 := dkwX4_kindOf_0 ++ []
theorem dksX4_kindOf_0 : cX4_kindOf.data.toList.drop 0 = dktX4_kindOf_0 := by decide +kernel
theorem dX4_kindOf_0 : decode cX4_kindOf 0 = .ok (.aload_n 0, 1) := dk_42 (dk_at dksX4_kindOf_0 0 rfl rfl)
theorem dX4_kindOf_1 : decode cX4_kindOf 1 = .ok (.getfield 82, 3) := dk_180 0 82 (dk_at dksX4_kindOf_0 1 rfl rfl)
theorem dX4_kindOf_4 : decode cX4_kindOf 4 = .ok (.iload_n 1, 1) := dk_27 (dk_at dksX4_kindOf_0 4 rfl rfl)
theorem dX4_kindOf_5 : decode cX4_kindOf 5 = .ok (.iaload, 1) := dk_46 (dk_at dksX4_kindOf_0 5 rfl rfl)
theorem dX4_kindOf_6 : decode cX4_kindOf 6 = .ok (.ireturn, 1) := dk_172 (dk_at dksX4_kindOf_0 6 rfl rfl)
abbrev cX4_above : ByteArray := prog_34_method_95_code
def yX4_above : MethodName := ⟨RX4, "above", "(I)I"⟩
def dkwX4_above_1 : List UInt8 := [16, 6, 167, 0, 4, 3, 172]
abbrev dktX4_above_1 : List UInt8 := dkwX4_above_1 ++ []
def dkwX4_above_0 : List UInt8 := [26, 6, 160, 0, 7, 5, 167, 0, 24, 26, 8, 160, 0, 7, 4, 167, 0, 15, 26, 16, 7, 160, 0, 8]
abbrev dktX4_above_0 : List UInt8 := dkwX4_above_0 ++ dktX4_above_1
theorem dksX4_above_0 : cX4_above.data.toList.drop 0 = dktX4_above_0 := by decide +kernel
theorem dksX4_above_1 : cX4_above.data.toList.drop 24 = dktX4_above_1 := dk_seg dksX4_above_0 24 rfl rfl
theorem dX4_above_0 : decode cX4_above 0 = .ok (.iload_n 0, 1) := dk_26 (dk_at dksX4_above_0 0 rfl rfl)
theorem dX4_above_1 : decode cX4_above 1 = .ok (.iconst 3, 1) := dk_6 (dk_at dksX4_above_0 1 rfl rfl)
theorem dX4_above_2 : decode cX4_above 2 = .ok (.if_icmp .ne 7, 3) := dk_160 0 7 (dk_at dksX4_above_0 2 rfl rfl)
theorem dX4_above_5 : decode cX4_above 5 = .ok (.iconst 2, 1) := dk_5 (dk_at dksX4_above_0 5 rfl rfl)
theorem dX4_above_6 : decode cX4_above 6 = .ok (.goto 24, 3) := dk_167 0 24 (dk_at dksX4_above_0 6 rfl rfl)
theorem dX4_above_9 : decode cX4_above 9 = .ok (.iload_n 0, 1) := dk_26 (dk_at dksX4_above_0 9 rfl rfl)
theorem dX4_above_10 : decode cX4_above 10 = .ok (.iconst 5, 1) := dk_8 (dk_at dksX4_above_0 10 rfl rfl)
theorem dX4_above_11 : decode cX4_above 11 = .ok (.if_icmp .ne 7, 3) := dk_160 0 7 (dk_at dksX4_above_0 11 rfl rfl)
theorem dX4_above_14 : decode cX4_above 14 = .ok (.iconst 1, 1) := dk_4 (dk_at dksX4_above_0 14 rfl rfl)
theorem dX4_above_15 : decode cX4_above 15 = .ok (.goto 15, 3) := dk_167 0 15 (dk_at dksX4_above_0 15 rfl rfl)
theorem dX4_above_18 : decode cX4_above 18 = .ok (.iload_n 0, 1) := dk_26 (dk_at dksX4_above_0 18 rfl rfl)
theorem dX4_above_19 : decode cX4_above 19 = .ok (.bipush 7, 2) := dk_16 7 (dk_at dksX4_above_0 19 rfl rfl)
theorem dX4_above_21 : decode cX4_above 21 = .ok (.if_icmp .ne 8, 3) := dk_160 0 8 (dk_at dksX4_above_0 21 rfl rfl)
theorem dX4_above_24 : decode cX4_above 24 = .ok (.bipush 6, 2) := dk_16 6 (dk_at dksX4_above_1 0 rfl rfl)
theorem dX4_above_26 : decode cX4_above 26 = .ok (.goto 4, 3) := dk_167 0 4 (dk_at dksX4_above_1 2 rfl rfl)
theorem dX4_above_29 : decode cX4_above 29 = .ok (.iconst 0, 1) := dk_3 (dk_at dksX4_above_1 5 rfl rfl)
theorem dX4_above_30 : decode cX4_above 30 = .ok (.ireturn, 1) := dk_172 (dk_at dksX4_above_1 6 rfl rfl)
abbrev cX4_count : ByteArray := prog_34_method_112_code
def yX4_count : MethodName := ⟨RX4, "count", "(I)I"⟩
def dkwX4_count_3 : List UInt8 := [172, 42, 180, 1, 155, 172, 42, 180, 1, 160, 172, 2, 172]
abbrev dktX4_count_3 : List UInt8 := dkwX4_count_3 ++ []
def dkwX4_count_2 : List UInt8 := [42, 180, 0, 172, 172, 42, 180, 1, 50, 172, 42, 180, 0, 117, 172, 42, 180, 1, 77, 172, 42, 180, 0, 105]
abbrev dktX4_count_2 : List UInt8 := dkwX4_count_2 ++ dktX4_count_3
def dkwX4_count_1 : List UInt8 := [170, 0, 0, 0, 0, 0, 78, 0, 0, 0, 0, 0, 0, 0, 6, 0, 0, 0, 43, 0, 0, 0, 48, 0, 0, 0, 53, 0, 0, 0, 58, 0, 0, 0, 63, 0, 0, 0, 68, 0, 0, 0, 73]
abbrev dktX4_count_1 : List UInt8 := dkwX4_count_1 ++ dktX4_count_2
def dkwX4_count_0 : List UInt8 := [27]
abbrev dktX4_count_0 : List UInt8 := dkwX4_count_0 ++ dktX4_count_1
theorem dksX4_count_0 : cX4_count.data.toList.drop 0 = dktX4_count_0 := by decide +kernel
theorem dksX4_count_1 : cX4_count.data.toList.drop 1 = dktX4_count_1 := dk_seg dksX4_count_0 1 rfl rfl
theorem dksX4_count_2 : cX4_count.data.toList.drop 44 = dktX4_count_2 := dk_seg dksX4_count_1 43 rfl rfl
theorem dksX4_count_3 : cX4_count.data.toList.drop 68 = dktX4_count_3 := dk_seg dksX4_count_2 24 rfl rfl
theorem dX4_count_0 : decode cX4_count 0 = .ok (.iload_n 1, 1) := dk_27 (dk_at dksX4_count_0 0 rfl rfl)
theorem dX4_count_1 : decode cX4_count 1 = .ok (.tableswitch 78 0 6 #[43, 48, 53, 58, 63, 68, 73], 43) := by decide +kernel
theorem dX4_count_44 : decode cX4_count 44 = .ok (.aload_n 0, 1) := dk_42 (dk_at dksX4_count_2 0 rfl rfl)
theorem dX4_count_45 : decode cX4_count 45 = .ok (.getfield 172, 3) := dk_180 0 172 (dk_at dksX4_count_2 1 rfl rfl)
theorem dX4_count_48 : decode cX4_count 48 = .ok (.ireturn, 1) := dk_172 (dk_at dksX4_count_2 4 rfl rfl)
theorem dX4_count_49 : decode cX4_count 49 = .ok (.aload_n 0, 1) := dk_42 (dk_at dksX4_count_2 5 rfl rfl)
theorem dX4_count_50 : decode cX4_count 50 = .ok (.getfield 306, 3) := dk_180 1 50 (dk_at dksX4_count_2 6 rfl rfl)
theorem dX4_count_53 : decode cX4_count 53 = .ok (.ireturn, 1) := dk_172 (dk_at dksX4_count_2 9 rfl rfl)
theorem dX4_count_54 : decode cX4_count 54 = .ok (.aload_n 0, 1) := dk_42 (dk_at dksX4_count_2 10 rfl rfl)
theorem dX4_count_55 : decode cX4_count 55 = .ok (.getfield 117, 3) := dk_180 0 117 (dk_at dksX4_count_2 11 rfl rfl)
theorem dX4_count_58 : decode cX4_count 58 = .ok (.ireturn, 1) := dk_172 (dk_at dksX4_count_2 14 rfl rfl)
theorem dX4_count_59 : decode cX4_count 59 = .ok (.aload_n 0, 1) := dk_42 (dk_at dksX4_count_2 15 rfl rfl)
theorem dX4_count_60 : decode cX4_count 60 = .ok (.getfield 333, 3) := dk_180 1 77 (dk_at dksX4_count_2 16 rfl rfl)
theorem dX4_count_63 : decode cX4_count 63 = .ok (.ireturn, 1) := dk_172 (dk_at dksX4_count_2 19 rfl rfl)
theorem dX4_count_64 : decode cX4_count 64 = .ok (.aload_n 0, 1) := dk_42 (dk_at dksX4_count_2 20 rfl rfl)
theorem dX4_count_65 : decode cX4_count 65 = .ok (.getfield 105, 3) := dk_180 0 105 (dk_at dksX4_count_2 21 rfl rfl)
theorem dX4_count_68 : decode cX4_count 68 = .ok (.ireturn, 1) := dk_172 (dk_at dksX4_count_3 0 rfl rfl)
theorem dX4_count_69 : decode cX4_count 69 = .ok (.aload_n 0, 1) := dk_42 (dk_at dksX4_count_3 1 rfl rfl)
theorem dX4_count_70 : decode cX4_count 70 = .ok (.getfield 411, 3) := dk_180 1 155 (dk_at dksX4_count_3 2 rfl rfl)
theorem dX4_count_73 : decode cX4_count 73 = .ok (.ireturn, 1) := dk_172 (dk_at dksX4_count_3 5 rfl rfl)
theorem dX4_count_74 : decode cX4_count 74 = .ok (.aload_n 0, 1) := dk_42 (dk_at dksX4_count_3 6 rfl rfl)
theorem dX4_count_75 : decode cX4_count 75 = .ok (.getfield 416, 3) := dk_180 1 160 (dk_at dksX4_count_3 7 rfl rfl)
theorem dX4_count_78 : decode cX4_count 78 = .ok (.ireturn, 1) := dk_172 (dk_at dksX4_count_3 10 rfl rfl)
theorem dX4_count_79 : decode cX4_count 79 = .ok (.iconst (-1), 1) := dk_2 (dk_at dksX4_count_3 11 rfl rfl)
theorem dX4_count_80 : decode cX4_count 80 = .ok (.ireturn, 1) := dk_172 (dk_at dksX4_count_3 12 rfl rfl)
theorem q96 : (Jvm.Cond.initialized "HeadReckonsModel") ∈ lw_all := lw_g (lw_at lw_m1 5 rfl) rfl
theorem q1598 : (Jvm.Cond.instantiable "HeadReckonsModel" (55 : Nat)) ∈ lw_all := lw_g (lw_at lw_m7 67 rfl) rfl
theorem q1600 : (Jvm.Cond.instanceMethod ({ cls := "HeadReckonsModel", name := "<init>", desc := "()V" } : Jvm.MethodName)) ∈ lw_all := lw_g (lw_at lw_m7 69 rfl) rfl
theorem q1601 : (Jvm.Cond.code ({ cls := "HeadReckonsModel", name := "<init>", desc := "()V" } : Jvm.MethodName) prog_34_method_3_code (2 : Nat) (Option.none : Option Jvm.ClassFile.FieldType)) ∈ lw_all := lw_g (lw_at lw_m7 70 rfl) rfl
theorem q1602 : (Jvm.Cond.methodLink "HeadReckonsModel" (1 : Nat) ({ cls := "java/lang/Object", name := "<init>", desc := "()V" } : Jvm.MethodName)) ∈ lw_all := lw_g (lw_at lw_m7 71 rfl) rfl
theorem q1603 : (Jvm.Cond.fieldLink "HeadReckonsModel" (9 : Nat) "HeadReckonsModel" "may" "[I") ∈ lw_all := lw_g (lw_at lw_m7 72 rfl) rfl
theorem q1604 : (Jvm.Cond.fieldLink "HeadReckonsModel" (13 : Nat) "HeadReckonsModel" "changeAt" "[I") ∈ lw_all := lw_g (lw_at lw_m7 73 rfl) rfl
theorem q1605 : (Jvm.Cond.fieldLink "HeadReckonsModel" (16 : Nat) "HeadReckonsModel" "changeWas" "[I") ∈ lw_all := lw_g (lw_at lw_m7 74 rfl) rfl
theorem q1606 : (Jvm.Cond.fieldLink "HeadReckonsModel" (19 : Nat) "HeadReckonsModel" "changeIs" "[I") ∈ lw_all := lw_g (lw_at lw_m7 75 rfl) rfl
theorem q1607 : (Jvm.Cond.fieldLink "HeadReckonsModel" (108 : Nat) "HeadReckonsModel" "keptMany" "I") ∈ lw_all := lw_g (lw_at lw_m7 76 rfl) rfl
theorem q1608 : (Jvm.Cond.fieldLink "HeadReckonsModel" (105 : Nat) "HeadReckonsModel" "done" "I") ∈ lw_all := lw_g (lw_at lw_m7 77 rfl) rfl
theorem q1609 : (Jvm.Cond.fieldLink "HeadReckonsModel" (22 : Nat) "HeadReckonsModel" "tape" "[I") ∈ lw_all := lw_g (lw_at lw_m7 78 rfl) rfl
theorem q1610 : (Jvm.Cond.fieldLink "HeadReckonsModel" (117 : Nat) "HeadReckonsModel" "tapeMany" "I") ∈ lw_all := lw_g (lw_at lw_m7 79 rfl) rfl
theorem q1611 : (Jvm.Cond.fieldLink "HeadReckonsModel" (25 : Nat) "HeadReckonsModel" "text" "[I") ∈ lw_all := lw_g (lw_at lw_m7 80 rfl) rfl
theorem q1612 : (Jvm.Cond.fieldLink "HeadReckonsModel" (101 : Nat) "HeadReckonsModel" "textMany" "I") ∈ lw_all := lw_g (lw_at lw_m7 81 rfl) rfl
theorem q1613 : (Jvm.Cond.fieldLink "HeadReckonsModel" (126 : Nat) "HeadReckonsModel" "base" "I") ∈ lw_all := lw_g (lw_at lw_m7 82 rfl) rfl
theorem q1614 : (Jvm.Cond.fieldLink "HeadReckonsModel" (120 : Nat) "HeadReckonsModel" "at" "I") ∈ lw_all := lw_g (lw_at lw_m7 83 rfl) rfl
theorem q1615 : (Jvm.Cond.fieldLink "HeadReckonsModel" (123 : Nat) "HeadReckonsModel" "ends" "I") ∈ lw_all := lw_g (lw_at lw_m7 84 rfl) rfl
theorem q1616 : (Jvm.Cond.fieldLink "HeadReckonsModel" (129 : Nat) "HeadReckonsModel" "fault" "I") ∈ lw_all := lw_g (lw_at lw_m7 85 rfl) rfl
theorem q1617 : (Jvm.Cond.fieldLink "HeadReckonsModel" (155 : Nat) "HeadReckonsModel" "opened" "I") ∈ lw_all := lw_g (lw_at lw_m7 86 rfl) rfl
theorem q1618 : (Jvm.Cond.fieldLink "HeadReckonsModel" (28 : Nat) "HeadReckonsModel" "names" "[I") ∈ lw_all := lw_g (lw_at lw_m7 87 rfl) rfl
theorem q1619 : (Jvm.Cond.fieldLink "HeadReckonsModel" (172 : Nat) "HeadReckonsModel" "heads" "I") ∈ lw_all := lw_g (lw_at lw_m7 88 rfl) rfl
theorem q1620 : (Jvm.Cond.fieldLink "HeadReckonsModel" (31 : Nat) "HeadReckonsModel" "readHead" "[I") ∈ lw_all := lw_g (lw_at lw_m7 89 rfl) rfl
theorem q1621 : (Jvm.Cond.fieldLink "HeadReckonsModel" (34 : Nat) "HeadReckonsModel" "pairs" "[I") ∈ lw_all := lw_g (lw_at lw_m7 90 rfl) rfl
theorem q1622 : (Jvm.Cond.fieldLink "HeadReckonsModel" (37 : Nat) "HeadReckonsModel" "pairOf" "[I") ∈ lw_all := lw_g (lw_at lw_m7 91 rfl) rfl
theorem q1623 : (Jvm.Cond.fieldLink "HeadReckonsModel" (40 : Nat) "HeadReckonsModel" "askedOf" "[I") ∈ lw_all := lw_g (lw_at lw_m7 92 rfl) rfl
theorem q1624 : (Jvm.Cond.fieldLink "HeadReckonsModel" (214 : Nat) "HeadReckonsModel" "actMany" "I") ∈ lw_all := lw_g (lw_at lw_m7 93 rfl) rfl
theorem q1625 : (Jvm.Cond.fieldLink "HeadReckonsModel" (43 : Nat) "HeadReckonsModel" "sortOf" "[I") ∈ lw_all := lw_g (lw_at lw_m7 94 rfl) rfl
theorem q1626 : (Jvm.Cond.fieldLink "HeadReckonsModel" (46 : Nat) "HeadReckonsModel" "makes" "[I") ∈ lw_all := lw_g (lw_at lw_m7 95 rfl) rfl
theorem q1627 : (Jvm.Cond.fieldLink "HeadReckonsModel" (49 : Nat) "HeadReckonsModel" "lengthOf" "[I") ∈ lw_all := lw_g (lw_at lw_m7 96 rfl) rfl
theorem q1628 : (Jvm.Cond.fieldLink "HeadReckonsModel" (52 : Nat) "HeadReckonsModel" "heldBehind" "[I") ∈ lw_all := lw_g (lw_at lw_m7 97 rfl) rfl
theorem q1629 : (Jvm.Cond.fieldLink "HeadReckonsModel" (55 : Nat) "HeadReckonsModel" "slipOf" "[I") ∈ lw_all := lw_g (lw_at lw_m7 98 rfl) rfl
theorem q1630 : (Jvm.Cond.fieldLink "HeadReckonsModel" (58 : Nat) "HeadReckonsModel" "noughts" "[I") ∈ lw_all := lw_g (lw_at lw_m7 99 rfl) rfl
theorem q1631 : (Jvm.Cond.fieldLink "HeadReckonsModel" (223 : Nat) "HeadReckonsModel" "held" "I") ∈ lw_all := lw_g (lw_at lw_m7 100 rfl) rfl
theorem q1632 : (Jvm.Cond.fieldLink "HeadReckonsModel" (226 : Nat) "HeadReckonsModel" "running" "I") ∈ lw_all := lw_g (lw_at lw_m7 101 rfl) rfl
theorem q1633 : (Jvm.Cond.fieldLink "HeadReckonsModel" (217 : Nat) "HeadReckonsModel" "headNow" "I") ∈ lw_all := lw_g (lw_at lw_m7 102 rfl) rfl
theorem q1634 : (Jvm.Cond.fieldLink "HeadReckonsModel" (253 : Nat) "HeadReckonsModel" "tableNow" "I") ∈ lw_all := lw_g (lw_at lw_m7 103 rfl) rfl
theorem q1635 : (Jvm.Cond.fieldLink "HeadReckonsModel" (61 : Nat) "HeadReckonsModel" "rowsMade" "[I") ∈ lw_all := lw_g (lw_at lw_m7 104 rfl) rfl
theorem q1636 : (Jvm.Cond.fieldLink "HeadReckonsModel" (306 : Nat) "HeadReckonsModel" "seenMany" "I") ∈ lw_all := lw_g (lw_at lw_m7 105 rfl) rfl
theorem q1637 : (Jvm.Cond.fieldLink "HeadReckonsModel" (64 : Nat) "HeadReckonsModel" "seenAsk" "[I") ∈ lw_all := lw_g (lw_at lw_m7 106 rfl) rfl
theorem q1638 : (Jvm.Cond.fieldLink "HeadReckonsModel" (67 : Nat) "HeadReckonsModel" "seenTenths" "[I") ∈ lw_all := lw_g (lw_at lw_m7 107 rfl) rfl
theorem q1639 : (Jvm.Cond.fieldLink "HeadReckonsModel" (70 : Nat) "HeadReckonsModel" "seenAnswer" "[I") ∈ lw_all := lw_g (lw_at lw_m7 108 rfl) rfl
theorem q1640 : (Jvm.Cond.fieldLink "HeadReckonsModel" (333 : Nat) "HeadReckonsModel" "told" "I") ∈ lw_all := lw_g (lw_at lw_m7 109 rfl) rfl
theorem q1641 : (Jvm.Cond.fieldLink "HeadReckonsModel" (73 : Nat) "HeadReckonsModel" "toldAsk" "[I") ∈ lw_all := lw_g (lw_at lw_m7 110 rfl) rfl
theorem q1642 : (Jvm.Cond.fieldLink "HeadReckonsModel" (76 : Nat) "HeadReckonsModel" "wasAsked" "[I") ∈ lw_all := lw_g (lw_at lw_m7 111 rfl) rfl
theorem q1643 : (Jvm.Cond.fieldLink "HeadReckonsModel" (338 : Nat) "HeadReckonsModel" "wasPairs" "I") ∈ lw_all := lw_g (lw_at lw_m7 112 rfl) rfl
theorem q1644 : (Jvm.Cond.fieldLink "HeadReckonsModel" (79 : Nat) "HeadReckonsModel" "order" "[I") ∈ lw_all := lw_g (lw_at lw_m7 113 rfl) rfl
theorem q1645 : (Jvm.Cond.fieldLink "HeadReckonsModel" (357 : Nat) "HeadReckonsModel" "bestSum" "I") ∈ lw_all := lw_g (lw_at lw_m7 114 rfl) rfl
theorem q1646 : (Jvm.Cond.fieldLink "HeadReckonsModel" (360 : Nat) "HeadReckonsModel" "bestDigits" "I") ∈ lw_all := lw_g (lw_at lw_m7 115 rfl) rfl
theorem q1647 : (Jvm.Cond.fieldLink "HeadReckonsModel" (397 : Nat) "HeadReckonsModel" "leastFirst" "J") ∈ lw_all := lw_g (lw_at lw_m7 116 rfl) rfl
theorem q1648 : (Jvm.Cond.fieldLink "HeadReckonsModel" (411 : Nat) "HeadReckonsModel" "bodies" "I") ∈ lw_all := lw_g (lw_at lw_m7 117 rfl) rfl
theorem q1649 : (Jvm.Cond.fieldLink "HeadReckonsModel" (82 : Nat) "HeadReckonsModel" "bodyKind" "[I") ∈ lw_all := lw_g (lw_at lw_m7 118 rfl) rfl
theorem q1650 : (Jvm.Cond.fieldLink "HeadReckonsModel" (85 : Nat) "HeadReckonsModel" "trace" "[I") ∈ lw_all := lw_g (lw_at lw_m7 119 rfl) rfl
theorem q1651 : (Jvm.Cond.fieldLink "HeadReckonsModel" (416 : Nat) "HeadReckonsModel" "ran" "I") ∈ lw_all := lw_g (lw_at lw_m7 120 rfl) rfl
theorem q1652 : (Jvm.Cond.fieldLink "HeadReckonsModel" (431 : Nat) "HeadReckonsModel" "ownKind" "I") ∈ lw_all := lw_g (lw_at lw_m7 121 rfl) rfl
theorem q1653 : (Jvm.Cond.fieldLink "HeadReckonsModel" (425 : Nat) "HeadReckonsModel" "ownNumber" "I") ∈ lw_all := lw_g (lw_at lw_m7 122 rfl) rfl
theorem q1654 : (Jvm.Cond.fieldLink "HeadReckonsModel" (88 : Nat) "HeadReckonsModel" "shelf" "[I") ∈ lw_all := lw_g (lw_at lw_m7 123 rfl) rfl
theorem q1655 : (Jvm.Cond.fieldLink "HeadReckonsModel" (91 : Nat) "HeadReckonsModel" "many" "[I") ∈ lw_all := lw_g (lw_at lw_m7 124 rfl) rfl
theorem q1656 : (Jvm.Cond.fieldLink "HeadReckonsModel" (94 : Nat) "HeadReckonsModel" "items" "[J") ∈ lw_all := lw_g (lw_at lw_m7 125 rfl) rfl
theorem q1657 : (Jvm.Cond.fieldLink "HeadReckonsModel" (98 : Nat) "HeadReckonsModel" "carried" "[J") ∈ lw_all := lw_g (lw_at lw_m7 126 rfl) rfl
theorem q1658 : (Jvm.Cond.laysFinal "HeadReckonsModel" "HeadReckonsModel" "may" "[I") ∈ lw_all := lw_g (lw_at lw_m7 127 rfl) rfl
theorem q1659 : (Jvm.Cond.soleField "HeadReckonsModel" "may") ∈ lw_all := lw_g (lw_at lw_m7 128 rfl) rfl
theorem q1660 : (Jvm.Cond.laysFinal "HeadReckonsModel" "HeadReckonsModel" "changeAt" "[I") ∈ lw_all := lw_g (lw_at lw_m7 129 rfl) rfl
theorem q1661 : (Jvm.Cond.soleField "HeadReckonsModel" "changeAt") ∈ lw_all := lw_g (lw_at lw_m7 130 rfl) rfl
theorem q1662 : (Jvm.Cond.laysFinal "HeadReckonsModel" "HeadReckonsModel" "changeWas" "[I") ∈ lw_all := lw_g (lw_at lw_m7 131 rfl) rfl
theorem q1663 : (Jvm.Cond.soleField "HeadReckonsModel" "changeWas") ∈ lw_all := lw_g (lw_at lw_m7 132 rfl) rfl
theorem q1664 : (Jvm.Cond.laysFinal "HeadReckonsModel" "HeadReckonsModel" "changeIs" "[I") ∈ lw_all := lw_g (lw_at lw_m7 133 rfl) rfl
theorem q1665 : (Jvm.Cond.soleField "HeadReckonsModel" "changeIs") ∈ lw_all := lw_g (lw_at lw_m7 134 rfl) rfl
theorem q1666 : (Jvm.Cond.lays "HeadReckonsModel" "HeadReckonsModel" "keptMany" "I") ∈ lw_all := lw_g (lw_at lw_m7 135 rfl) rfl
theorem q1667 : (Jvm.Cond.soleField "HeadReckonsModel" "keptMany") ∈ lw_all := lw_g (lw_at lw_m7 136 rfl) rfl
theorem q1668 : (Jvm.Cond.lays "HeadReckonsModel" "HeadReckonsModel" "done" "I") ∈ lw_all := lw_g (lw_at lw_m7 137 rfl) rfl
theorem q1669 : (Jvm.Cond.soleField "HeadReckonsModel" "done") ∈ lw_all := lw_g (lw_at lw_m7 138 rfl) rfl
theorem q1670 : (Jvm.Cond.laysFinal "HeadReckonsModel" "HeadReckonsModel" "tape" "[I") ∈ lw_all := lw_g (lw_at lw_m7 139 rfl) rfl
theorem q1671 : (Jvm.Cond.soleField "HeadReckonsModel" "tape") ∈ lw_all := lw_g (lw_at lw_m7 140 rfl) rfl
theorem q1672 : (Jvm.Cond.lays "HeadReckonsModel" "HeadReckonsModel" "tapeMany" "I") ∈ lw_all := lw_g (lw_at lw_m7 141 rfl) rfl
theorem q1673 : (Jvm.Cond.soleField "HeadReckonsModel" "tapeMany") ∈ lw_all := lw_g (lw_at lw_m7 142 rfl) rfl
theorem q1674 : (Jvm.Cond.laysFinal "HeadReckonsModel" "HeadReckonsModel" "text" "[I") ∈ lw_all := lw_g (lw_at lw_m7 143 rfl) rfl
theorem q1675 : (Jvm.Cond.soleField "HeadReckonsModel" "text") ∈ lw_all := lw_g (lw_at lw_m7 144 rfl) rfl
theorem q1676 : (Jvm.Cond.lays "HeadReckonsModel" "HeadReckonsModel" "textMany" "I") ∈ lw_all := lw_g (lw_at lw_m7 145 rfl) rfl
theorem q1677 : (Jvm.Cond.soleField "HeadReckonsModel" "textMany") ∈ lw_all := lw_g (lw_at lw_m7 146 rfl) rfl
theorem q1678 : (Jvm.Cond.lays "HeadReckonsModel" "HeadReckonsModel" "base" "I") ∈ lw_all := lw_g (lw_at lw_m7 147 rfl) rfl
theorem q1679 : (Jvm.Cond.soleField "HeadReckonsModel" "base") ∈ lw_all := lw_g (lw_at lw_m7 148 rfl) rfl
theorem q1680 : (Jvm.Cond.lays "HeadReckonsModel" "HeadReckonsModel" "at" "I") ∈ lw_all := lw_g (lw_at lw_m7 149 rfl) rfl
theorem q1681 : (Jvm.Cond.soleField "HeadReckonsModel" "at") ∈ lw_all := lw_g (lw_at lw_m7 150 rfl) rfl
theorem q1682 : (Jvm.Cond.lays "HeadReckonsModel" "HeadReckonsModel" "ends" "I") ∈ lw_all := lw_g (lw_at lw_m7 151 rfl) rfl
theorem q1683 : (Jvm.Cond.soleField "HeadReckonsModel" "ends") ∈ lw_all := lw_g (lw_at lw_m7 152 rfl) rfl
theorem q1684 : (Jvm.Cond.lays "HeadReckonsModel" "HeadReckonsModel" "fault" "I") ∈ lw_all := lw_g (lw_at lw_m7 153 rfl) rfl
theorem q1685 : (Jvm.Cond.soleField "HeadReckonsModel" "fault") ∈ lw_all := lw_g (lw_at lw_m7 154 rfl) rfl
theorem q1686 : (Jvm.Cond.lays "HeadReckonsModel" "HeadReckonsModel" "opened" "I") ∈ lw_all := lw_g (lw_at lw_m7 155 rfl) rfl
theorem q1687 : (Jvm.Cond.soleField "HeadReckonsModel" "opened") ∈ lw_all := lw_g (lw_at lw_m7 156 rfl) rfl
theorem q1688 : (Jvm.Cond.laysFinal "HeadReckonsModel" "HeadReckonsModel" "names" "[I") ∈ lw_all := lw_g (lw_at lw_m7 157 rfl) rfl
theorem q1689 : (Jvm.Cond.soleField "HeadReckonsModel" "names") ∈ lw_all := lw_g (lw_at lw_m7 158 rfl) rfl
theorem q1690 : (Jvm.Cond.lays "HeadReckonsModel" "HeadReckonsModel" "heads" "I") ∈ lw_all := lw_g (lw_at lw_m7 159 rfl) rfl
theorem q1691 : (Jvm.Cond.soleField "HeadReckonsModel" "heads") ∈ lw_all := lw_g (lw_at lw_m7 160 rfl) rfl
theorem q1692 : (Jvm.Cond.laysFinal "HeadReckonsModel" "HeadReckonsModel" "readHead" "[I") ∈ lw_all := lw_g (lw_at lw_m7 161 rfl) rfl
theorem q1693 : (Jvm.Cond.soleField "HeadReckonsModel" "readHead") ∈ lw_all := lw_g (lw_at lw_m7 162 rfl) rfl
theorem q1694 : (Jvm.Cond.laysFinal "HeadReckonsModel" "HeadReckonsModel" "pairs" "[I") ∈ lw_all := lw_g (lw_at lw_m7 163 rfl) rfl
theorem q1695 : (Jvm.Cond.soleField "HeadReckonsModel" "pairs") ∈ lw_all := lw_g (lw_at lw_m7 164 rfl) rfl
theorem q1696 : (Jvm.Cond.laysFinal "HeadReckonsModel" "HeadReckonsModel" "pairOf" "[I") ∈ lw_all := lw_g (lw_at lw_m7 165 rfl) rfl
theorem q1697 : (Jvm.Cond.soleField "HeadReckonsModel" "pairOf") ∈ lw_all := lw_g (lw_at lw_m7 166 rfl) rfl
theorem q1698 : (Jvm.Cond.laysFinal "HeadReckonsModel" "HeadReckonsModel" "askedOf" "[I") ∈ lw_all := lw_g (lw_at lw_m7 167 rfl) rfl
theorem q1699 : (Jvm.Cond.soleField "HeadReckonsModel" "askedOf") ∈ lw_all := lw_g (lw_at lw_m7 168 rfl) rfl
theorem q1700 : (Jvm.Cond.lays "HeadReckonsModel" "HeadReckonsModel" "actMany" "I") ∈ lw_all := lw_g (lw_at lw_m7 169 rfl) rfl
theorem q1701 : (Jvm.Cond.soleField "HeadReckonsModel" "actMany") ∈ lw_all := lw_g (lw_at lw_m7 170 rfl) rfl
theorem q1702 : (Jvm.Cond.laysFinal "HeadReckonsModel" "HeadReckonsModel" "sortOf" "[I") ∈ lw_all := lw_g (lw_at lw_m7 171 rfl) rfl
theorem q1703 : (Jvm.Cond.soleField "HeadReckonsModel" "sortOf") ∈ lw_all := lw_g (lw_at lw_m7 172 rfl) rfl
theorem q1704 : (Jvm.Cond.laysFinal "HeadReckonsModel" "HeadReckonsModel" "makes" "[I") ∈ lw_all := lw_g (lw_at lw_m7 173 rfl) rfl
theorem q1705 : (Jvm.Cond.soleField "HeadReckonsModel" "makes") ∈ lw_all := lw_g (lw_at lw_m7 174 rfl) rfl
theorem q1706 : (Jvm.Cond.laysFinal "HeadReckonsModel" "HeadReckonsModel" "lengthOf" "[I") ∈ lw_all := lw_g (lw_at lw_m7 175 rfl) rfl
theorem q1707 : (Jvm.Cond.soleField "HeadReckonsModel" "lengthOf") ∈ lw_all := lw_g (lw_at lw_m7 176 rfl) rfl
theorem q1708 : (Jvm.Cond.laysFinal "HeadReckonsModel" "HeadReckonsModel" "heldBehind" "[I") ∈ lw_all := lw_g (lw_at lw_m7 177 rfl) rfl
theorem q1709 : (Jvm.Cond.soleField "HeadReckonsModel" "heldBehind") ∈ lw_all := lw_g (lw_at lw_m7 178 rfl) rfl
theorem q1710 : (Jvm.Cond.laysFinal "HeadReckonsModel" "HeadReckonsModel" "slipOf" "[I") ∈ lw_all := lw_g (lw_at lw_m7 179 rfl) rfl
theorem q1711 : (Jvm.Cond.soleField "HeadReckonsModel" "slipOf") ∈ lw_all := lw_g (lw_at lw_m7 180 rfl) rfl
theorem q1712 : (Jvm.Cond.laysFinal "HeadReckonsModel" "HeadReckonsModel" "noughts" "[I") ∈ lw_all := lw_g (lw_at lw_m7 181 rfl) rfl
theorem q1713 : (Jvm.Cond.soleField "HeadReckonsModel" "noughts") ∈ lw_all := lw_g (lw_at lw_m7 182 rfl) rfl
theorem q1714 : (Jvm.Cond.lays "HeadReckonsModel" "HeadReckonsModel" "held" "I") ∈ lw_all := lw_g (lw_at lw_m7 183 rfl) rfl
theorem q1715 : (Jvm.Cond.soleField "HeadReckonsModel" "held") ∈ lw_all := lw_g (lw_at lw_m7 184 rfl) rfl
theorem q1716 : (Jvm.Cond.lays "HeadReckonsModel" "HeadReckonsModel" "running" "I") ∈ lw_all := lw_g (lw_at lw_m7 185 rfl) rfl
theorem q1717 : (Jvm.Cond.soleField "HeadReckonsModel" "running") ∈ lw_all := lw_g (lw_at lw_m7 186 rfl) rfl
theorem q1718 : (Jvm.Cond.lays "HeadReckonsModel" "HeadReckonsModel" "headNow" "I") ∈ lw_all := lw_g (lw_at lw_m7 187 rfl) rfl
theorem q1719 : (Jvm.Cond.soleField "HeadReckonsModel" "headNow") ∈ lw_all := lw_g (lw_at lw_m7 188 rfl) rfl
theorem q1720 : (Jvm.Cond.lays "HeadReckonsModel" "HeadReckonsModel" "tableNow" "I") ∈ lw_all := lw_g (lw_at lw_m7 189 rfl) rfl
theorem q1721 : (Jvm.Cond.soleField "HeadReckonsModel" "tableNow") ∈ lw_all := lw_g (lw_at lw_m7 190 rfl) rfl
theorem q1722 : (Jvm.Cond.laysFinal "HeadReckonsModel" "HeadReckonsModel" "rowsMade" "[I") ∈ lw_all := lw_g (lw_at lw_m7 191 rfl) rfl
theorem q1723 : (Jvm.Cond.soleField "HeadReckonsModel" "rowsMade") ∈ lw_all := lw_g (lw_at lw_m7 192 rfl) rfl
theorem q1724 : (Jvm.Cond.lays "HeadReckonsModel" "HeadReckonsModel" "seenMany" "I") ∈ lw_all := lw_g (lw_at lw_m7 193 rfl) rfl
theorem q1725 : (Jvm.Cond.soleField "HeadReckonsModel" "seenMany") ∈ lw_all := lw_g (lw_at lw_m7 194 rfl) rfl
theorem q1726 : (Jvm.Cond.laysFinal "HeadReckonsModel" "HeadReckonsModel" "seenAsk" "[I") ∈ lw_all := lw_g (lw_at lw_m7 195 rfl) rfl
theorem q1727 : (Jvm.Cond.soleField "HeadReckonsModel" "seenAsk") ∈ lw_all := lw_g (lw_at lw_m7 196 rfl) rfl
theorem q1728 : (Jvm.Cond.laysFinal "HeadReckonsModel" "HeadReckonsModel" "seenTenths" "[I") ∈ lw_all := lw_g (lw_at lw_m7 197 rfl) rfl
theorem q1729 : (Jvm.Cond.soleField "HeadReckonsModel" "seenTenths") ∈ lw_all := lw_g (lw_at lw_m7 198 rfl) rfl
theorem q1730 : (Jvm.Cond.laysFinal "HeadReckonsModel" "HeadReckonsModel" "seenAnswer" "[I") ∈ lw_all := lw_g (lw_at lw_m7 199 rfl) rfl
theorem q1731 : (Jvm.Cond.soleField "HeadReckonsModel" "seenAnswer") ∈ lw_all := lw_g (lw_at lw_m7 200 rfl) rfl
theorem q1732 : (Jvm.Cond.lays "HeadReckonsModel" "HeadReckonsModel" "told" "I") ∈ lw_all := lw_g (lw_at lw_m7 201 rfl) rfl
theorem q1733 : (Jvm.Cond.soleField "HeadReckonsModel" "told") ∈ lw_all := lw_g (lw_at lw_m7 202 rfl) rfl
theorem q1734 : (Jvm.Cond.laysFinal "HeadReckonsModel" "HeadReckonsModel" "toldAsk" "[I") ∈ lw_all := lw_g (lw_at lw_m7 203 rfl) rfl
theorem q1735 : (Jvm.Cond.soleField "HeadReckonsModel" "toldAsk") ∈ lw_all := lw_g (lw_at lw_m7 204 rfl) rfl
theorem q1736 : (Jvm.Cond.laysFinal "HeadReckonsModel" "HeadReckonsModel" "wasAsked" "[I") ∈ lw_all := lw_g (lw_at lw_m7 205 rfl) rfl
theorem q1737 : (Jvm.Cond.soleField "HeadReckonsModel" "wasAsked") ∈ lw_all := lw_g (lw_at lw_m7 206 rfl) rfl
theorem q1738 : (Jvm.Cond.lays "HeadReckonsModel" "HeadReckonsModel" "wasPairs" "I") ∈ lw_all := lw_g (lw_at lw_m7 207 rfl) rfl
theorem q1739 : (Jvm.Cond.soleField "HeadReckonsModel" "wasPairs") ∈ lw_all := lw_g (lw_at lw_m7 208 rfl) rfl
theorem q1740 : (Jvm.Cond.laysFinal "HeadReckonsModel" "HeadReckonsModel" "order" "[I") ∈ lw_all := lw_g (lw_at lw_m7 209 rfl) rfl
theorem q1741 : (Jvm.Cond.soleField "HeadReckonsModel" "order") ∈ lw_all := lw_g (lw_at lw_m7 210 rfl) rfl
theorem q1742 : (Jvm.Cond.lays "HeadReckonsModel" "HeadReckonsModel" "bestSum" "I") ∈ lw_all := lw_g (lw_at lw_m7 211 rfl) rfl
theorem q1743 : (Jvm.Cond.soleField "HeadReckonsModel" "bestSum") ∈ lw_all := lw_g (lw_at lw_m7 212 rfl) rfl
theorem q1744 : (Jvm.Cond.lays "HeadReckonsModel" "HeadReckonsModel" "bestDigits" "I") ∈ lw_all := lw_g (lw_at lw_m7 213 rfl) rfl
theorem q1745 : (Jvm.Cond.soleField "HeadReckonsModel" "bestDigits") ∈ lw_all := lw_g (lw_at lw_m7 214 rfl) rfl
theorem q1746 : (Jvm.Cond.lays "HeadReckonsModel" "HeadReckonsModel" "leastFirst" "J") ∈ lw_all := lw_g (lw_at lw_m7 215 rfl) rfl
theorem q1747 : (Jvm.Cond.soleField "HeadReckonsModel" "leastFirst") ∈ lw_all := lw_g (lw_at lw_m7 216 rfl) rfl
theorem q1748 : (Jvm.Cond.lays "HeadReckonsModel" "HeadReckonsModel" "bodies" "I") ∈ lw_all := lw_g (lw_at lw_m7 217 rfl) rfl
theorem q1749 : (Jvm.Cond.soleField "HeadReckonsModel" "bodies") ∈ lw_all := lw_g (lw_at lw_m7 218 rfl) rfl
theorem q1750 : (Jvm.Cond.laysFinal "HeadReckonsModel" "HeadReckonsModel" "bodyKind" "[I") ∈ lw_all := lw_g (lw_at lw_m7 219 rfl) rfl
theorem q1751 : (Jvm.Cond.soleField "HeadReckonsModel" "bodyKind") ∈ lw_all := lw_g (lw_at lw_m7 220 rfl) rfl
theorem q1752 : (Jvm.Cond.laysFinal "HeadReckonsModel" "HeadReckonsModel" "trace" "[I") ∈ lw_all := lw_g (lw_at lw_m7 221 rfl) rfl
theorem q1753 : (Jvm.Cond.soleField "HeadReckonsModel" "trace") ∈ lw_all := lw_g (lw_at lw_m7 222 rfl) rfl
theorem q1754 : (Jvm.Cond.lays "HeadReckonsModel" "HeadReckonsModel" "ran" "I") ∈ lw_all := lw_g (lw_at lw_m7 223 rfl) rfl
theorem q1755 : (Jvm.Cond.soleField "HeadReckonsModel" "ran") ∈ lw_all := lw_g (lw_at lw_m7 224 rfl) rfl
theorem q1756 : (Jvm.Cond.lays "HeadReckonsModel" "HeadReckonsModel" "ownKind" "I") ∈ lw_all := lw_g (lw_at lw_m7 225 rfl) rfl
theorem q1757 : (Jvm.Cond.soleField "HeadReckonsModel" "ownKind") ∈ lw_all := lw_g (lw_at lw_m7 226 rfl) rfl
theorem q1758 : (Jvm.Cond.lays "HeadReckonsModel" "HeadReckonsModel" "ownNumber" "I") ∈ lw_all := lw_g (lw_at lw_m7 227 rfl) rfl
theorem q1759 : (Jvm.Cond.soleField "HeadReckonsModel" "ownNumber") ∈ lw_all := lw_g (lw_at lw_m7 228 rfl) rfl
theorem q1760 : (Jvm.Cond.laysFinal "HeadReckonsModel" "HeadReckonsModel" "shelf" "[I") ∈ lw_all := lw_g (lw_at lw_m7 229 rfl) rfl
theorem q1761 : (Jvm.Cond.soleField "HeadReckonsModel" "shelf") ∈ lw_all := lw_g (lw_at lw_m7 230 rfl) rfl
theorem q1762 : (Jvm.Cond.laysFinal "HeadReckonsModel" "HeadReckonsModel" "many" "[I") ∈ lw_all := lw_g (lw_at lw_m7 231 rfl) rfl
theorem q1763 : (Jvm.Cond.soleField "HeadReckonsModel" "many") ∈ lw_all := lw_g (lw_at lw_m7 232 rfl) rfl
theorem q1764 : (Jvm.Cond.laysFinal "HeadReckonsModel" "HeadReckonsModel" "items" "[J") ∈ lw_all := lw_g (lw_at lw_m7 233 rfl) rfl
theorem q1765 : (Jvm.Cond.soleField "HeadReckonsModel" "items") ∈ lw_all := lw_g (lw_at lw_m7 234 rfl) rfl
theorem q1766 : (Jvm.Cond.laysFinal "HeadReckonsModel" "HeadReckonsModel" "carried" "[J") ∈ lw_all := lw_g (lw_at lw_m7 235 rfl) rfl
theorem q1767 : (Jvm.Cond.soleField "HeadReckonsModel" "carried") ∈ lw_all := lw_g (lw_at lw_m7 236 rfl) rfl
theorem q1768 : (Jvm.Cond.superclass "HeadReckonsModel" "java/lang/Object") ∈ lw_all := lw_g (lw_at lw_m7 237 rfl) rfl
theorem q1770 : (Jvm.Cond.instanceMethod ({ cls := "HeadReckonsModel", name := "undo", desc := "()I" } : Jvm.MethodName)) ∈ lw_all := lw_g (lw_at lw_m7 239 rfl) rfl
theorem q1771 : (Jvm.Cond.selects "HeadReckonsModel" ({ cls := "HeadReckonsModel", name := "undo", desc := "()I" } : Jvm.MethodName) ({ cls := "HeadReckonsModel", name := "undo", desc := "()I" } : Jvm.MethodName)) ∈ lw_all := lw_g (lw_at lw_m8 0 rfl) rfl
theorem q1772 : (Jvm.Cond.code ({ cls := "HeadReckonsModel", name := "undo", desc := "()I" } : Jvm.MethodName) prog_34_method_5_code (1 : Nat) (Option.some Jvm.ClassFile.FieldType.int)) ∈ lw_all := lw_g (lw_at lw_m8 1 rfl) rfl
theorem q1774 : (Jvm.Cond.instanceMethod ({ cls := "HeadReckonsModel", name := "redo", desc := "()I" } : Jvm.MethodName)) ∈ lw_all := lw_g (lw_at lw_m8 3 rfl) rfl
theorem q1775 : (Jvm.Cond.selects "HeadReckonsModel" ({ cls := "HeadReckonsModel", name := "redo", desc := "()I" } : Jvm.MethodName) ({ cls := "HeadReckonsModel", name := "redo", desc := "()I" } : Jvm.MethodName)) ∈ lw_all := lw_g (lw_at lw_m8 4 rfl) rfl
theorem q1776 : (Jvm.Cond.code ({ cls := "HeadReckonsModel", name := "redo", desc := "()I" } : Jvm.MethodName) prog_34_method_6_code (1 : Nat) (Option.some Jvm.ClassFile.FieldType.int)) ∈ lw_all := lw_g (lw_at lw_m8 5 rfl) rfl
theorem q1778 : (Jvm.Cond.instanceMethod ({ cls := "HeadReckonsModel", name := "feed", desc := "(II)I" } : Jvm.MethodName)) ∈ lw_all := lw_g (lw_at lw_m8 7 rfl) rfl
theorem q1779 : (Jvm.Cond.selects "HeadReckonsModel" ({ cls := "HeadReckonsModel", name := "feed", desc := "(II)I" } : Jvm.MethodName) ({ cls := "HeadReckonsModel", name := "feed", desc := "(II)I" } : Jvm.MethodName)) ∈ lw_all := lw_g (lw_at lw_m8 8 rfl) rfl
theorem q1780 : (Jvm.Cond.code ({ cls := "HeadReckonsModel", name := "feed", desc := "(II)I" } : Jvm.MethodName) prog_34_method_7_code (4 : Nat) (Option.some Jvm.ClassFile.FieldType.int)) ∈ lw_all := lw_g (lw_at lw_m8 9 rfl) rfl
theorem q1781 : (Jvm.Cond.constantLong "HeadReckonsModel" (111 : Nat) (4 : Int64)) ∈ lw_all := lw_g (lw_at lw_m8 10 rfl) rfl
theorem q1782 : (Jvm.Cond.methodLink "HeadReckonsModel" (113 : Nat) ({ cls := "HeadReckonsModel", name := "within", desc := "(JJJ)Z" } : Jvm.MethodName)) ∈ lw_all := lw_g (lw_at lw_m8 11 rfl) rfl
theorem q1783 : (Jvm.Cond.static ({ cls := "HeadReckonsModel", name := "within", desc := "(JJJ)Z" } : Jvm.MethodName)) ∈ lw_all := lw_g (lw_at lw_m8 12 rfl) rfl
theorem q1784 : (Jvm.Cond.code ({ cls := "HeadReckonsModel", name := "within", desc := "(JJJ)Z" } : Jvm.MethodName) prog_34_method_1_code (6 : Nat) (Option.some Jvm.ClassFile.FieldType.boolean)) ∈ lw_all := lw_g (lw_at lw_m8 13 rfl) rfl
theorem q1786 : (Jvm.Cond.instanceMethod ({ cls := "HeadReckonsModel", name := "choice", desc := "()I" } : Jvm.MethodName)) ∈ lw_all := lw_g (lw_at lw_m8 15 rfl) rfl
theorem q1787 : (Jvm.Cond.selects "HeadReckonsModel" ({ cls := "HeadReckonsModel", name := "choice", desc := "()I" } : Jvm.MethodName) ({ cls := "HeadReckonsModel", name := "choice", desc := "()I" } : Jvm.MethodName)) ∈ lw_all := lw_g (lw_at lw_m8 16 rfl) rfl
theorem q1788 : (Jvm.Cond.code ({ cls := "HeadReckonsModel", name := "choice", desc := "()I" } : Jvm.MethodName) prog_34_method_19_code (4 : Nat) (Option.some Jvm.ClassFile.FieldType.int)) ∈ lw_all := lw_g (lw_at lw_m8 17 rfl) rfl
theorem q1789 : (Jvm.Cond.methodLink "HeadReckonsModel" (168 : Nat) ({ cls := "HeadReckonsModel", name := "workOut", desc := "(II)I" } : Jvm.MethodName)) ∈ lw_all := lw_g (lw_at lw_m8 18 rfl) rfl
theorem q1790 : (Jvm.Cond.privateMethod ({ cls := "HeadReckonsModel", name := "workOut", desc := "(II)I" } : Jvm.MethodName)) ∈ lw_tbl := lw_at lw_m8 19 rfl
theorem q1791 : (Jvm.Cond.instanceMethod ({ cls := "HeadReckonsModel", name := "workOut", desc := "(II)I" } : Jvm.MethodName)) ∈ lw_all := lw_g (lw_at lw_m8 20 rfl) rfl
theorem q1792 : (Jvm.Cond.code ({ cls := "HeadReckonsModel", name := "workOut", desc := "(II)I" } : Jvm.MethodName) prog_34_method_18_code (8 : Nat) (Option.some Jvm.ClassFile.FieldType.int)) ∈ lw_all := lw_g (lw_at lw_m8 21 rfl) rfl
theorem q1793 : (Jvm.Cond.methodLink "HeadReckonsModel" (161 : Nat) ({ cls := "HeadReckonsModel", name := "either", desc := "()I" } : Jvm.MethodName)) ∈ lw_all := lw_g (lw_at lw_m8 22 rfl) rfl
theorem q1794 : (Jvm.Cond.privateMethod ({ cls := "HeadReckonsModel", name := "either", desc := "()I" } : Jvm.MethodName)) ∈ lw_tbl := lw_at lw_m8 23 rfl
theorem q1795 : (Jvm.Cond.instanceMethod ({ cls := "HeadReckonsModel", name := "either", desc := "()I" } : Jvm.MethodName)) ∈ lw_all := lw_g (lw_at lw_m8 24 rfl) rfl
theorem q1796 : (Jvm.Cond.code ({ cls := "HeadReckonsModel", name := "either", desc := "()I" } : Jvm.MethodName) prog_34_method_11_code (3 : Nat) (Option.some Jvm.ClassFile.FieldType.int)) ∈ lw_all := lw_g (lw_at lw_m8 25 rfl) rfl
theorem q1797 : (Jvm.Cond.methodLink "HeadReckonsModel" (136 : Nat) ({ cls := "HeadReckonsModel", name := "both", desc := "()I" } : Jvm.MethodName)) ∈ lw_all := lw_g (lw_at lw_m8 26 rfl) rfl
theorem q1798 : (Jvm.Cond.privateMethod ({ cls := "HeadReckonsModel", name := "both", desc := "()I" } : Jvm.MethodName)) ∈ lw_tbl := lw_at lw_m8 27 rfl
theorem q1799 : (Jvm.Cond.instanceMethod ({ cls := "HeadReckonsModel", name := "both", desc := "()I" } : Jvm.MethodName)) ∈ lw_all := lw_g (lw_at lw_m8 28 rfl) rfl
theorem q1800 : (Jvm.Cond.code ({ cls := "HeadReckonsModel", name := "both", desc := "()I" } : Jvm.MethodName) prog_34_method_12_code (3 : Nat) (Option.some Jvm.ClassFile.FieldType.int)) ∈ lw_all := lw_g (lw_at lw_m8 29 rfl) rfl
theorem q1801 : (Jvm.Cond.methodLink "HeadReckonsModel" (143 : Nat) ({ cls := "HeadReckonsModel", name := "compared", desc := "()I" } : Jvm.MethodName)) ∈ lw_all := lw_g (lw_at lw_m8 30 rfl) rfl
theorem q1802 : (Jvm.Cond.privateMethod ({ cls := "HeadReckonsModel", name := "compared", desc := "()I" } : Jvm.MethodName)) ∈ lw_tbl := lw_at lw_m8 31 rfl
theorem q1803 : (Jvm.Cond.instanceMethod ({ cls := "HeadReckonsModel", name := "compared", desc := "()I" } : Jvm.MethodName)) ∈ lw_all := lw_g (lw_at lw_m8 32 rfl) rfl
theorem q1804 : (Jvm.Cond.code ({ cls := "HeadReckonsModel", name := "compared", desc := "()I" } : Jvm.MethodName) prog_34_method_13_code (4 : Nat) (Option.some Jvm.ClassFile.FieldType.int)) ∈ lw_all := lw_g (lw_at lw_m8 33 rfl) rfl
theorem q1805 : (Jvm.Cond.methodLink "HeadReckonsModel" (146 : Nat) ({ cls := "HeadReckonsModel", name := "sums", desc := "()I" } : Jvm.MethodName)) ∈ lw_all := lw_g (lw_at lw_m8 34 rfl) rfl
theorem q1806 : (Jvm.Cond.privateMethod ({ cls := "HeadReckonsModel", name := "sums", desc := "()I" } : Jvm.MethodName)) ∈ lw_tbl := lw_at lw_m8 35 rfl
theorem q1807 : (Jvm.Cond.instanceMethod ({ cls := "HeadReckonsModel", name := "sums", desc := "()I" } : Jvm.MethodName)) ∈ lw_all := lw_g (lw_at lw_m8 36 rfl) rfl
theorem q1808 : (Jvm.Cond.code ({ cls := "HeadReckonsModel", name := "sums", desc := "()I" } : Jvm.MethodName) prog_34_method_14_code (4 : Nat) (Option.some Jvm.ClassFile.FieldType.int)) ∈ lw_all := lw_g (lw_at lw_m8 37 rfl) rfl
theorem q1809 : (Jvm.Cond.methodLink "HeadReckonsModel" (149 : Nat) ({ cls := "HeadReckonsModel", name := "product", desc := "()I" } : Jvm.MethodName)) ∈ lw_all := lw_g (lw_at lw_m8 38 rfl) rfl
theorem q1810 : (Jvm.Cond.privateMethod ({ cls := "HeadReckonsModel", name := "product", desc := "()I" } : Jvm.MethodName)) ∈ lw_tbl := lw_at lw_m8 39 rfl
theorem q1811 : (Jvm.Cond.instanceMethod ({ cls := "HeadReckonsModel", name := "product", desc := "()I" } : Jvm.MethodName)) ∈ lw_all := lw_g (lw_at lw_m8 40 rfl) rfl
theorem q1812 : (Jvm.Cond.code ({ cls := "HeadReckonsModel", name := "product", desc := "()I" } : Jvm.MethodName) prog_34_method_15_code (4 : Nat) (Option.some Jvm.ClassFile.FieldType.int)) ∈ lw_all := lw_g (lw_at lw_m8 41 rfl) rfl
theorem q1813 : (Jvm.Cond.methodLink "HeadReckonsModel" (152 : Nat) ({ cls := "HeadReckonsModel", name := "one", desc := "()I" } : Jvm.MethodName)) ∈ lw_all := lw_g (lw_at lw_m8 42 rfl) rfl
theorem q1814 : (Jvm.Cond.privateMethod ({ cls := "HeadReckonsModel", name := "one", desc := "()I" } : Jvm.MethodName)) ∈ lw_tbl := lw_at lw_m8 43 rfl
theorem q1815 : (Jvm.Cond.instanceMethod ({ cls := "HeadReckonsModel", name := "one", desc := "()I" } : Jvm.MethodName)) ∈ lw_all := lw_g (lw_at lw_m8 44 rfl) rfl
theorem q1816 : (Jvm.Cond.code ({ cls := "HeadReckonsModel", name := "one", desc := "()I" } : Jvm.MethodName) prog_34_method_17_code (5 : Nat) (Option.some Jvm.ClassFile.FieldType.int)) ∈ lw_all := lw_g (lw_at lw_m8 45 rfl) rfl
theorem q1817 : (Jvm.Cond.methodLink "HeadReckonsModel" (132 : Nat) ({ cls := "HeadReckonsModel", name := "byteAt", desc := "()I" } : Jvm.MethodName)) ∈ lw_all := lw_g (lw_at lw_m8 46 rfl) rfl
theorem q1818 : (Jvm.Cond.privateMethod ({ cls := "HeadReckonsModel", name := "byteAt", desc := "()I" } : Jvm.MethodName)) ∈ lw_tbl := lw_at lw_m8 47 rfl
theorem q1819 : (Jvm.Cond.instanceMethod ({ cls := "HeadReckonsModel", name := "byteAt", desc := "()I" } : Jvm.MethodName)) ∈ lw_all := lw_g (lw_at lw_m8 48 rfl) rfl
theorem q1820 : (Jvm.Cond.code ({ cls := "HeadReckonsModel", name := "byteAt", desc := "()I" } : Jvm.MethodName) prog_34_method_8_code (1 : Nat) (Option.some Jvm.ClassFile.FieldType.int)) ∈ lw_all := lw_g (lw_at lw_m8 49 rfl) rfl
theorem q1821 : (Jvm.Cond.methodLink "HeadReckonsModel" (158 : Nat) ({ cls := "HeadReckonsModel", name := "wrong", desc := "()I" } : Jvm.MethodName)) ∈ lw_all := lw_g (lw_at lw_m8 50 rfl) rfl
theorem q1822 : (Jvm.Cond.privateMethod ({ cls := "HeadReckonsModel", name := "wrong", desc := "()I" } : Jvm.MethodName)) ∈ lw_tbl := lw_at lw_m8 51 rfl
theorem q1823 : (Jvm.Cond.instanceMethod ({ cls := "HeadReckonsModel", name := "wrong", desc := "()I" } : Jvm.MethodName)) ∈ lw_all := lw_g (lw_at lw_m8 52 rfl) rfl
theorem q1824 : (Jvm.Cond.code ({ cls := "HeadReckonsModel", name := "wrong", desc := "()I" } : Jvm.MethodName) prog_34_method_9_code (1 : Nat) (Option.some Jvm.ClassFile.FieldType.int)) ∈ lw_all := lw_g (lw_at lw_m8 53 rfl) rfl
theorem q1825 : (Jvm.Cond.methodLink "HeadReckonsModel" (139 : Nat) ({ cls := "HeadReckonsModel", name := "takes", desc := "(I)Z" } : Jvm.MethodName)) ∈ lw_all := lw_g (lw_at lw_m8 54 rfl) rfl
theorem q1826 : (Jvm.Cond.privateMethod ({ cls := "HeadReckonsModel", name := "takes", desc := "(I)Z" } : Jvm.MethodName)) ∈ lw_tbl := lw_at lw_m8 55 rfl
theorem q1827 : (Jvm.Cond.instanceMethod ({ cls := "HeadReckonsModel", name := "takes", desc := "(I)Z" } : Jvm.MethodName)) ∈ lw_all := lw_g (lw_at lw_m8 56 rfl) rfl
theorem q1828 : (Jvm.Cond.code ({ cls := "HeadReckonsModel", name := "takes", desc := "(I)Z" } : Jvm.MethodName) prog_34_method_10_code (2 : Nat) (Option.some Jvm.ClassFile.FieldType.boolean)) ∈ lw_all := lw_g (lw_at lw_m8 57 rfl) rfl
theorem q1829 : (Jvm.Cond.methodLink "HeadReckonsModel" (164 : Nat) ({ cls := "HeadReckonsModel", name := "nameOf", desc := "(I)I" } : Jvm.MethodName)) ∈ lw_all := lw_g (lw_at lw_m8 58 rfl) rfl
theorem q1830 : (Jvm.Cond.static ({ cls := "HeadReckonsModel", name := "nameOf", desc := "(I)I" } : Jvm.MethodName)) ∈ lw_all := lw_g (lw_at lw_m8 59 rfl) rfl
theorem q1831 : (Jvm.Cond.code ({ cls := "HeadReckonsModel", name := "nameOf", desc := "(I)I" } : Jvm.MethodName) prog_34_method_16_code (1 : Nat) (Option.some Jvm.ClassFile.FieldType.int)) ∈ lw_all := lw_g (lw_at lw_m8 60 rfl) rfl
theorem q1833 : (Jvm.Cond.instanceMethod ({ cls := "HeadReckonsModel", name := "head", desc := "()I" } : Jvm.MethodName)) ∈ lw_all := lw_g (lw_at lw_m8 62 rfl) rfl
theorem q1834 : (Jvm.Cond.selects "HeadReckonsModel" ({ cls := "HeadReckonsModel", name := "head", desc := "()I" } : Jvm.MethodName) ({ cls := "HeadReckonsModel", name := "head", desc := "()I" } : Jvm.MethodName)) ∈ lw_all := lw_g (lw_at lw_m8 63 rfl) rfl
theorem q1835 : (Jvm.Cond.code ({ cls := "HeadReckonsModel", name := "head", desc := "()I" } : Jvm.MethodName) prog_34_method_23_code (2 : Nat) (Option.some Jvm.ClassFile.FieldType.int)) ∈ lw_all := lw_g (lw_at lw_m8 64 rfl) rfl
theorem q1836 : (Jvm.Cond.methodLink "HeadReckonsModel" (185 : Nat) ({ cls := "HeadReckonsModel", name := "readOne", desc := "(II)I" } : Jvm.MethodName)) ∈ lw_all := lw_g (lw_at lw_m8 65 rfl) rfl
theorem q1837 : (Jvm.Cond.privateMethod ({ cls := "HeadReckonsModel", name := "readOne", desc := "(II)I" } : Jvm.MethodName)) ∈ lw_tbl := lw_at lw_m8 66 rfl
theorem q1838 : (Jvm.Cond.instanceMethod ({ cls := "HeadReckonsModel", name := "readOne", desc := "(II)I" } : Jvm.MethodName)) ∈ lw_all := lw_g (lw_at lw_m8 67 rfl) rfl
theorem q1839 : (Jvm.Cond.code ({ cls := "HeadReckonsModel", name := "readOne", desc := "(II)I" } : Jvm.MethodName) prog_34_method_22_code (5 : Nat) (Option.some Jvm.ClassFile.FieldType.int)) ∈ lw_all := lw_g (lw_at lw_m8 68 rfl) rfl
theorem q1840 : (Jvm.Cond.methodLink "HeadReckonsModel" (181 : Nat) ({ cls := "HeadReckonsModel", name := "isOf", desc := "(II)Z" } : Jvm.MethodName)) ∈ lw_all := lw_g (lw_at lw_m8 69 rfl) rfl
theorem q1841 : (Jvm.Cond.static ({ cls := "HeadReckonsModel", name := "isOf", desc := "(II)Z" } : Jvm.MethodName)) ∈ lw_all := lw_g (lw_at lw_m8 70 rfl) rfl
theorem q1842 : (Jvm.Cond.code ({ cls := "HeadReckonsModel", name := "isOf", desc := "(II)Z" } : Jvm.MethodName) prog_34_method_21_code (2 : Nat) (Option.some Jvm.ClassFile.FieldType.boolean)) ∈ lw_all := lw_g (lw_at lw_m8 71 rfl) rfl
theorem q1843 : (Jvm.Cond.constantLong "HeadReckonsModel" (175 : Nat) (99 : Int64)) ∈ lw_all := lw_g (lw_at lw_m8 72 rfl) rfl
theorem q1844 : (Jvm.Cond.constantLong "HeadReckonsModel" (177 : Nat) (9 : Int64)) ∈ lw_all := lw_g (lw_at lw_m8 73 rfl) rfl
theorem q1845 : (Jvm.Cond.constantLong "HeadReckonsModel" (179 : Nat) (40 : Int64)) ∈ lw_all := lw_g (lw_at lw_m8 74 rfl) rfl
theorem q1847 : (Jvm.Cond.instanceMethod ({ cls := "HeadReckonsModel", name := "of", desc := "(II)I" } : Jvm.MethodName)) ∈ lw_all := lw_g (lw_at lw_m8 76 rfl) rfl
theorem q1848 : (Jvm.Cond.selects "HeadReckonsModel" ({ cls := "HeadReckonsModel", name := "of", desc := "(II)I" } : Jvm.MethodName) ({ cls := "HeadReckonsModel", name := "of", desc := "(II)I" } : Jvm.MethodName)) ∈ lw_all := lw_g (lw_at lw_m8 77 rfl) rfl
theorem q1849 : (Jvm.Cond.code ({ cls := "HeadReckonsModel", name := "of", desc := "(II)I" } : Jvm.MethodName) prog_34_method_24_code (3 : Nat) (Option.some Jvm.ClassFile.FieldType.int)) ∈ lw_all := lw_g (lw_at lw_m8 78 rfl) rfl
theorem q1850 : (Jvm.Cond.methodLink "HeadReckonsModel" (188 : Nat) ({ cls := "HeadReckonsModel", name := "isHead", desc := "(I)Z" } : Jvm.MethodName)) ∈ lw_all := lw_g (lw_at lw_m8 79 rfl) rfl
theorem q1851 : (Jvm.Cond.privateMethod ({ cls := "HeadReckonsModel", name := "isHead", desc := "(I)Z" } : Jvm.MethodName)) ∈ lw_tbl := lw_at lw_m8 80 rfl
theorem q1852 : (Jvm.Cond.instanceMethod ({ cls := "HeadReckonsModel", name := "isHead", desc := "(I)Z" } : Jvm.MethodName)) ∈ lw_all := lw_g (lw_at lw_m8 81 rfl) rfl
theorem q1853 : (Jvm.Cond.code ({ cls := "HeadReckonsModel", name := "isHead", desc := "(I)Z" } : Jvm.MethodName) prog_34_method_20_code (2 : Nat) (Option.some Jvm.ClassFile.FieldType.boolean)) ∈ lw_all := lw_g (lw_at lw_m8 82 rfl) rfl
theorem q1854 : (Jvm.Cond.methodLink "HeadReckonsModel" (191 : Nat) ({ cls := "HeadReckonsModel", name := "learntOf", desc := "(I)I" } : Jvm.MethodName)) ∈ lw_all := lw_g (lw_at lw_m8 83 rfl) rfl
theorem q1855 : (Jvm.Cond.privateMethod ({ cls := "HeadReckonsModel", name := "learntOf", desc := "(I)I" } : Jvm.MethodName)) ∈ lw_tbl := lw_at lw_m8 84 rfl
theorem q1856 : (Jvm.Cond.instanceMethod ({ cls := "HeadReckonsModel", name := "learntOf", desc := "(I)I" } : Jvm.MethodName)) ∈ lw_all := lw_g (lw_at lw_m8 85 rfl) rfl
theorem q1857 : (Jvm.Cond.code ({ cls := "HeadReckonsModel", name := "learntOf", desc := "(I)I" } : Jvm.MethodName) prog_34_method_31_code (4 : Nat) (Option.some Jvm.ClassFile.FieldType.int)) ∈ lw_all := lw_g (lw_at lw_m8 86 rfl) rfl
theorem q1859 : (Jvm.Cond.instanceMethod ({ cls := "HeadReckonsModel", name := "turn", desc := "(III)I" } : Jvm.MethodName)) ∈ lw_all := lw_g (lw_at lw_m8 88 rfl) rfl
theorem q1860 : (Jvm.Cond.selects "HeadReckonsModel" ({ cls := "HeadReckonsModel", name := "turn", desc := "(III)I" } : Jvm.MethodName) ({ cls := "HeadReckonsModel", name := "turn", desc := "(III)I" } : Jvm.MethodName)) ∈ lw_all := lw_g (lw_at lw_m8 89 rfl) rfl
theorem q1861 : (Jvm.Cond.code ({ cls := "HeadReckonsModel", name := "turn", desc := "(III)I" } : Jvm.MethodName) prog_34_method_25_code (4 : Nat) (Option.some Jvm.ClassFile.FieldType.int)) ∈ lw_all := lw_g (lw_at lw_m8 90 rfl) rfl
theorem q1862 : (Jvm.Cond.methodLink "HeadReckonsModel" (194 : Nat) ({ cls := "HeadReckonsModel", name := "becomes", desc := "(II)I" } : Jvm.MethodName)) ∈ lw_all := lw_g (lw_at lw_m8 91 rfl) rfl
theorem q1863 : (Jvm.Cond.privateMethod ({ cls := "HeadReckonsModel", name := "becomes", desc := "(II)I" } : Jvm.MethodName)) ∈ lw_tbl := lw_at lw_m8 92 rfl
theorem q1864 : (Jvm.Cond.instanceMethod ({ cls := "HeadReckonsModel", name := "becomes", desc := "(II)I" } : Jvm.MethodName)) ∈ lw_all := lw_g (lw_at lw_m8 93 rfl) rfl
theorem q1865 : (Jvm.Cond.code ({ cls := "HeadReckonsModel", name := "becomes", desc := "(II)I" } : Jvm.MethodName) prog_34_method_4_code (5 : Nat) (Option.some Jvm.ClassFile.FieldType.int)) ∈ lw_all := lw_g (lw_at lw_m8 94 rfl) rfl
theorem q1867 : (Jvm.Cond.instanceMethod ({ cls := "HeadReckonsModel", name := "ask", desc := "(II)I" } : Jvm.MethodName)) ∈ lw_all := lw_g (lw_at lw_m8 96 rfl) rfl
theorem q1868 : (Jvm.Cond.selects "HeadReckonsModel" ({ cls := "HeadReckonsModel", name := "ask", desc := "(II)I" } : Jvm.MethodName) ({ cls := "HeadReckonsModel", name := "ask", desc := "(II)I" } : Jvm.MethodName)) ∈ lw_all := lw_g (lw_at lw_m8 97 rfl) rfl
theorem q1869 : (Jvm.Cond.code ({ cls := "HeadReckonsModel", name := "ask", desc := "(II)I" } : Jvm.MethodName) prog_34_method_33_code (3 : Nat) (Option.some Jvm.ClassFile.FieldType.int)) ∈ lw_all := lw_g (lw_at lw_m8 98 rfl) rfl
theorem q1870 : (Jvm.Cond.methodLink "HeadReckonsModel" (208 : Nat) ({ cls := "HeadReckonsModel", name := "isAsk", desc := "(I)Z" } : Jvm.MethodName)) ∈ lw_all := lw_g (lw_at lw_m8 99 rfl) rfl
theorem q1871 : (Jvm.Cond.static ({ cls := "HeadReckonsModel", name := "isAsk", desc := "(I)Z" } : Jvm.MethodName)) ∈ lw_all := lw_g (lw_at lw_m8 100 rfl) rfl
theorem q1872 : (Jvm.Cond.code ({ cls := "HeadReckonsModel", name := "isAsk", desc := "(I)Z" } : Jvm.MethodName) prog_34_method_26_code (1 : Nat) (Option.some Jvm.ClassFile.FieldType.boolean)) ∈ lw_all := lw_g (lw_at lw_m8 101 rfl) rfl
theorem q1873 : (Jvm.Cond.constantLong "HeadReckonsModel" (197 : Nat) (9999 : Int64)) ∈ lw_all := lw_g (lw_at lw_m8 102 rfl) rfl
theorem q1874 : (Jvm.Cond.methodLink "HeadReckonsModel" (211 : Nat) ({ cls := "HeadReckonsModel", name := "askOf", desc := "(II)I" } : Jvm.MethodName)) ∈ lw_all := lw_g (lw_at lw_m8 103 rfl) rfl
theorem q1875 : (Jvm.Cond.privateMethod ({ cls := "HeadReckonsModel", name := "askOf", desc := "(II)I" } : Jvm.MethodName)) ∈ lw_tbl := lw_at lw_m8 104 rfl
theorem q1876 : (Jvm.Cond.instanceMethod ({ cls := "HeadReckonsModel", name := "askOf", desc := "(II)I" } : Jvm.MethodName)) ∈ lw_all := lw_g (lw_at lw_m8 105 rfl) rfl
theorem q1877 : (Jvm.Cond.code ({ cls := "HeadReckonsModel", name := "askOf", desc := "(II)I" } : Jvm.MethodName) prog_34_method_32_code (4 : Nat) (Option.some Jvm.ClassFile.FieldType.int)) ∈ lw_all := lw_g (lw_at lw_m8 106 rfl) rfl
theorem q1878 : (Jvm.Cond.methodLink "HeadReckonsModel" (202 : Nat) ({ cls := "HeadReckonsModel", name := "isSmall", desc := "(I)Z" } : Jvm.MethodName)) ∈ lw_all := lw_g (lw_at lw_m8 107 rfl) rfl
theorem q1879 : (Jvm.Cond.static ({ cls := "HeadReckonsModel", name := "isSmall", desc := "(I)Z" } : Jvm.MethodName)) ∈ lw_all := lw_g (lw_at lw_m8 108 rfl) rfl
theorem q1880 : (Jvm.Cond.code ({ cls := "HeadReckonsModel", name := "isSmall", desc := "(I)Z" } : Jvm.MethodName) prog_34_method_27_code (1 : Nat) (Option.some Jvm.ClassFile.FieldType.boolean)) ∈ lw_all := lw_g (lw_at lw_m8 109 rfl) rfl
theorem q1881 : (Jvm.Cond.methodLink "HeadReckonsModel" (205 : Nat) ({ cls := "HeadReckonsModel", name := "pairAt", desc := "(II)I" } : Jvm.MethodName)) ∈ lw_all := lw_g (lw_at lw_m8 110 rfl) rfl
theorem q1882 : (Jvm.Cond.privateMethod ({ cls := "HeadReckonsModel", name := "pairAt", desc := "(II)I" } : Jvm.MethodName)) ∈ lw_tbl := lw_at lw_m8 111 rfl
theorem q1883 : (Jvm.Cond.instanceMethod ({ cls := "HeadReckonsModel", name := "pairAt", desc := "(II)I" } : Jvm.MethodName)) ∈ lw_all := lw_g (lw_at lw_m8 112 rfl) rfl
theorem q1884 : (Jvm.Cond.code ({ cls := "HeadReckonsModel", name := "pairAt", desc := "(II)I" } : Jvm.MethodName) prog_34_method_29_code (4 : Nat) (Option.some Jvm.ClassFile.FieldType.int)) ∈ lw_all := lw_g (lw_at lw_m8 113 rfl) rfl
theorem q1885 : (Jvm.Cond.methodLink "HeadReckonsModel" (199 : Nat) ({ cls := "HeadReckonsModel", name := "asPair", desc := "(I)I" } : Jvm.MethodName)) ∈ lw_all := lw_g (lw_at lw_m8 114 rfl) rfl
theorem q1886 : (Jvm.Cond.static ({ cls := "HeadReckonsModel", name := "asPair", desc := "(I)I" } : Jvm.MethodName)) ∈ lw_all := lw_g (lw_at lw_m8 115 rfl) rfl
theorem q1887 : (Jvm.Cond.code ({ cls := "HeadReckonsModel", name := "asPair", desc := "(I)I" } : Jvm.MethodName) prog_34_method_28_code (3 : Nat) (Option.some Jvm.ClassFile.FieldType.int)) ∈ lw_all := lw_g (lw_at lw_m8 116 rfl) rfl
theorem q1889 : (Jvm.Cond.instanceMethod ({ cls := "HeadReckonsModel", name := "way", desc := "(III)I" } : Jvm.MethodName)) ∈ lw_all := lw_g (lw_at lw_m8 118 rfl) rfl
theorem q1890 : (Jvm.Cond.selects "HeadReckonsModel" ({ cls := "HeadReckonsModel", name := "way", desc := "(III)I" } : Jvm.MethodName) ({ cls := "HeadReckonsModel", name := "way", desc := "(III)I" } : Jvm.MethodName)) ∈ lw_all := lw_g (lw_at lw_m8 119 rfl) rfl
theorem q1891 : (Jvm.Cond.code ({ cls := "HeadReckonsModel", name := "way", desc := "(III)I" } : Jvm.MethodName) prog_34_method_50_code (4 : Nat) (Option.some Jvm.ClassFile.FieldType.int)) ∈ lw_all := lw_g (lw_at lw_m8 120 rfl) rfl
theorem q1892 : (Jvm.Cond.methodLink "HeadReckonsModel" (274 : Nat) ({ cls := "HeadReckonsModel", name := "isHw", desc := "(I)Z" } : Jvm.MethodName)) ∈ lw_all := lw_g (lw_at lw_m8 121 rfl) rfl
theorem q1893 : (Jvm.Cond.privateMethod ({ cls := "HeadReckonsModel", name := "isHw", desc := "(I)Z" } : Jvm.MethodName)) ∈ lw_tbl := lw_at lw_m8 122 rfl
theorem q1894 : (Jvm.Cond.instanceMethod ({ cls := "HeadReckonsModel", name := "isHw", desc := "(I)Z" } : Jvm.MethodName)) ∈ lw_all := lw_g (lw_at lw_m8 123 rfl) rfl
theorem q1895 : (Jvm.Cond.code ({ cls := "HeadReckonsModel", name := "isHw", desc := "(I)Z" } : Jvm.MethodName) prog_34_method_49_code (2 : Nat) (Option.some Jvm.ClassFile.FieldType.boolean)) ∈ lw_all := lw_g (lw_at lw_m8 124 rfl) rfl
theorem q1896 : (Jvm.Cond.constantLong "HeadReckonsModel" (277 : Nat) (2 : Int64)) ∈ lw_all := lw_g (lw_at lw_m8 125 rfl) rfl
theorem q1897 : (Jvm.Cond.methodLink "HeadReckonsModel" (279 : Nat) ({ cls := "HeadReckonsModel", name := "layOut", desc := "(IIII)Z" } : Jvm.MethodName)) ∈ lw_all := lw_g (lw_at lw_m8 126 rfl) rfl
theorem q1898 : (Jvm.Cond.privateMethod ({ cls := "HeadReckonsModel", name := "layOut", desc := "(IIII)Z" } : Jvm.MethodName)) ∈ lw_tbl := lw_at lw_m8 127 rfl
theorem q1899 : (Jvm.Cond.instanceMethod ({ cls := "HeadReckonsModel", name := "layOut", desc := "(IIII)Z" } : Jvm.MethodName)) ∈ lw_all := lw_g (lw_at lw_m8 128 rfl) rfl
theorem q1900 : (Jvm.Cond.code ({ cls := "HeadReckonsModel", name := "layOut", desc := "(IIII)Z" } : Jvm.MethodName) prog_34_method_46_code (7 : Nat) (Option.some Jvm.ClassFile.FieldType.boolean)) ∈ lw_all := lw_g (lw_at lw_m8 129 rfl) rfl
theorem q1901 : (Jvm.Cond.methodLink "HeadReckonsModel" (259 : Nat) ({ cls := "HeadReckonsModel", name := "isKnown", desc := "(II)Z" } : Jvm.MethodName)) ∈ lw_all := lw_g (lw_at lw_m8 130 rfl) rfl
theorem q1902 : (Jvm.Cond.privateMethod ({ cls := "HeadReckonsModel", name := "isKnown", desc := "(II)Z" } : Jvm.MethodName)) ∈ lw_tbl := lw_at lw_m8 131 rfl
theorem q1903 : (Jvm.Cond.instanceMethod ({ cls := "HeadReckonsModel", name := "isKnown", desc := "(II)Z" } : Jvm.MethodName)) ∈ lw_all := lw_g (lw_at lw_m8 132 rfl) rfl
theorem q1904 : (Jvm.Cond.code ({ cls := "HeadReckonsModel", name := "isKnown", desc := "(II)Z" } : Jvm.MethodName) prog_34_method_45_code (3 : Nat) (Option.some Jvm.ClassFile.FieldType.boolean)) ∈ lw_all := lw_g (lw_at lw_m8 133 rfl) rfl
theorem q1905 : (Jvm.Cond.methodLink "HeadReckonsModel" (256 : Nat) ({ cls := "HeadReckonsModel", name := "isLearnt", desc := "(II)Z" } : Jvm.MethodName)) ∈ lw_all := lw_g (lw_at lw_m8 134 rfl) rfl
theorem q1906 : (Jvm.Cond.privateMethod ({ cls := "HeadReckonsModel", name := "isLearnt", desc := "(II)Z" } : Jvm.MethodName)) ∈ lw_tbl := lw_at lw_m8 135 rfl
theorem q1907 : (Jvm.Cond.instanceMethod ({ cls := "HeadReckonsModel", name := "isLearnt", desc := "(II)Z" } : Jvm.MethodName)) ∈ lw_all := lw_g (lw_at lw_m8 136 rfl) rfl
theorem q1908 : (Jvm.Cond.code ({ cls := "HeadReckonsModel", name := "isLearnt", desc := "(II)Z" } : Jvm.MethodName) prog_34_method_30_code (4 : Nat) (Option.some Jvm.ClassFile.FieldType.boolean)) ∈ lw_all := lw_g (lw_at lw_m8 137 rfl) rfl
theorem q1909 : (Jvm.Cond.methodLink "HeadReckonsModel" (229 : Nat) ({ cls := "HeadReckonsModel", name := "acts", desc := "(IIII)V" } : Jvm.MethodName)) ∈ lw_all := lw_g (lw_at lw_m8 138 rfl) rfl
theorem q1910 : (Jvm.Cond.privateMethod ({ cls := "HeadReckonsModel", name := "acts", desc := "(IIII)V" } : Jvm.MethodName)) ∈ lw_tbl := lw_at lw_m8 139 rfl
theorem q1911 : (Jvm.Cond.instanceMethod ({ cls := "HeadReckonsModel", name := "acts", desc := "(IIII)V" } : Jvm.MethodName)) ∈ lw_all := lw_g (lw_at lw_m8 140 rfl) rfl
theorem q1912 : (Jvm.Cond.code ({ cls := "HeadReckonsModel", name := "acts", desc := "(IIII)V" } : Jvm.MethodName) prog_34_method_37_code (7 : Nat) (Option.none : Option Jvm.ClassFile.FieldType)) ∈ lw_all := lw_g (lw_at lw_m8 141 rfl) rfl
theorem q1913 : (Jvm.Cond.methodLink "HeadReckonsModel" (220 : Nat) ({ cls := "HeadReckonsModel", name := "digits", desc := "(I)I" } : Jvm.MethodName)) ∈ lw_all := lw_g (lw_at lw_m8 142 rfl) rfl
theorem q1914 : (Jvm.Cond.static ({ cls := "HeadReckonsModel", name := "digits", desc := "(I)I" } : Jvm.MethodName)) ∈ lw_all := lw_g (lw_at lw_m8 143 rfl) rfl
theorem q1915 : (Jvm.Cond.code ({ cls := "HeadReckonsModel", name := "digits", desc := "(I)I" } : Jvm.MethodName) prog_34_method_34_code (3 : Nat) (Option.some Jvm.ClassFile.FieldType.int)) ∈ lw_all := lw_g (lw_at lw_m8 144 rfl) rfl
theorem q1916 : (Jvm.Cond.methodLink "HeadReckonsModel" (243 : Nat) ({ cls := "HeadReckonsModel", name := "goLeft", desc := "(II)V" } : Jvm.MethodName)) ∈ lw_all := lw_g (lw_at lw_m8 145 rfl) rfl
theorem q1917 : (Jvm.Cond.privateMethod ({ cls := "HeadReckonsModel", name := "goLeft", desc := "(II)V" } : Jvm.MethodName)) ∈ lw_tbl := lw_at lw_m8 146 rfl
theorem q1918 : (Jvm.Cond.instanceMethod ({ cls := "HeadReckonsModel", name := "goLeft", desc := "(II)V" } : Jvm.MethodName)) ∈ lw_all := lw_g (lw_at lw_m8 147 rfl) rfl
theorem q1919 : (Jvm.Cond.code ({ cls := "HeadReckonsModel", name := "goLeft", desc := "(II)V" } : Jvm.MethodName) prog_34_method_40_code (6 : Nat) (Option.none : Option Jvm.ClassFile.FieldType)) ∈ lw_all := lw_g (lw_at lw_m8 148 rfl) rfl
theorem q1920 : (Jvm.Cond.methodLink "HeadReckonsModel" (236 : Nat) ({ cls := "HeadReckonsModel", name := "figure", desc := "(II)I" } : Jvm.MethodName)) ∈ lw_all := lw_g (lw_at lw_m8 149 rfl) rfl
theorem q1921 : (Jvm.Cond.static ({ cls := "HeadReckonsModel", name := "figure", desc := "(II)I" } : Jvm.MethodName)) ∈ lw_all := lw_g (lw_at lw_m8 150 rfl) rfl
theorem q1922 : (Jvm.Cond.code ({ cls := "HeadReckonsModel", name := "figure", desc := "(II)I" } : Jvm.MethodName) prog_34_method_35_code (4 : Nat) (Option.some Jvm.ClassFile.FieldType.int)) ∈ lw_all := lw_g (lw_at lw_m8 151 rfl) rfl
theorem q1923 : (Jvm.Cond.methodLink "HeadReckonsModel" (239 : Nat) ({ cls := "HeadReckonsModel", name := "lookAndAdd", desc := "(IIIZI)Z" } : Jvm.MethodName)) ∈ lw_all := lw_g (lw_at lw_m8 152 rfl) rfl
theorem q1924 : (Jvm.Cond.privateMethod ({ cls := "HeadReckonsModel", name := "lookAndAdd", desc := "(IIIZI)Z" } : Jvm.MethodName)) ∈ lw_tbl := lw_at lw_m8 153 rfl
theorem q1925 : (Jvm.Cond.instanceMethod ({ cls := "HeadReckonsModel", name := "lookAndAdd", desc := "(IIIZI)Z" } : Jvm.MethodName)) ∈ lw_all := lw_g (lw_at lw_m8 154 rfl) rfl
theorem q1926 : (Jvm.Cond.code ({ cls := "HeadReckonsModel", name := "lookAndAdd", desc := "(IIIZI)Z" } : Jvm.MethodName) prog_34_method_39_code (7 : Nat) (Option.some Jvm.ClassFile.FieldType.boolean)) ∈ lw_all := lw_g (lw_at lw_m8 155 rfl) rfl
theorem q1927 : (Jvm.Cond.methodLink "HeadReckonsModel" (233 : Nat) ({ cls := "HeadReckonsModel", name := "tens", desc := "(I)I" } : Jvm.MethodName)) ∈ lw_all := lw_g (lw_at lw_m8 156 rfl) rfl
theorem q1928 : (Jvm.Cond.static ({ cls := "HeadReckonsModel", name := "tens", desc := "(I)I" } : Jvm.MethodName)) ∈ lw_all := lw_g (lw_at lw_m8 157 rfl) rfl
theorem q1929 : (Jvm.Cond.code ({ cls := "HeadReckonsModel", name := "tens", desc := "(I)I" } : Jvm.MethodName) prog_34_method_36_code (3 : Nat) (Option.some Jvm.ClassFile.FieldType.int)) ∈ lw_all := lw_g (lw_at lw_m8 158 rfl) rfl
theorem q1930 : (Jvm.Cond.methodLink "HeadReckonsModel" (262 : Nat) ({ cls := "HeadReckonsModel", name := "goRight", desc := "(II)V" } : Jvm.MethodName)) ∈ lw_all := lw_g (lw_at lw_m8 159 rfl) rfl
theorem q1931 : (Jvm.Cond.privateMethod ({ cls := "HeadReckonsModel", name := "goRight", desc := "(II)V" } : Jvm.MethodName)) ∈ lw_tbl := lw_at lw_m8 160 rfl
theorem q1932 : (Jvm.Cond.instanceMethod ({ cls := "HeadReckonsModel", name := "goRight", desc := "(II)V" } : Jvm.MethodName)) ∈ lw_all := lw_g (lw_at lw_m8 161 rfl) rfl
theorem q1933 : (Jvm.Cond.code ({ cls := "HeadReckonsModel", name := "goRight", desc := "(II)V" } : Jvm.MethodName) prog_34_method_41_code (5 : Nat) (Option.none : Option Jvm.ClassFile.FieldType)) ∈ lw_all := lw_g (lw_at lw_m8 162 rfl) rfl
theorem q1934 : (Jvm.Cond.methodLink "HeadReckonsModel" (247 : Nat) ({ cls := "HeadReckonsModel", name := "holds", desc := "()V" } : Jvm.MethodName)) ∈ lw_all := lw_g (lw_at lw_m8 163 rfl) rfl
theorem q1935 : (Jvm.Cond.privateMethod ({ cls := "HeadReckonsModel", name := "holds", desc := "()V" } : Jvm.MethodName)) ∈ lw_tbl := lw_at lw_m8 164 rfl
theorem q1936 : (Jvm.Cond.instanceMethod ({ cls := "HeadReckonsModel", name := "holds", desc := "()V" } : Jvm.MethodName)) ∈ lw_all := lw_g (lw_at lw_m8 165 rfl) rfl
theorem q1937 : (Jvm.Cond.code ({ cls := "HeadReckonsModel", name := "holds", desc := "()V" } : Jvm.MethodName) prog_34_method_38_code (2 : Nat) (Option.none : Option Jvm.ClassFile.FieldType)) ∈ lw_all := lw_g (lw_at lw_m8 166 rfl) rfl
theorem q1938 : (Jvm.Cond.methodLink "HeadReckonsModel" (265 : Nat) ({ cls := "HeadReckonsModel", name := "goCrossed", desc := "(II)V" } : Jvm.MethodName)) ∈ lw_all := lw_g (lw_at lw_m8 167 rfl) rfl
theorem q1939 : (Jvm.Cond.privateMethod ({ cls := "HeadReckonsModel", name := "goCrossed", desc := "(II)V" } : Jvm.MethodName)) ∈ lw_tbl := lw_at lw_m8 168 rfl
theorem q1940 : (Jvm.Cond.instanceMethod ({ cls := "HeadReckonsModel", name := "goCrossed", desc := "(II)V" } : Jvm.MethodName)) ∈ lw_all := lw_g (lw_at lw_m8 169 rfl) rfl
theorem q1941 : (Jvm.Cond.code ({ cls := "HeadReckonsModel", name := "goCrossed", desc := "(II)V" } : Jvm.MethodName) prog_34_method_42_code (8 : Nat) (Option.none : Option Jvm.ClassFile.FieldType)) ∈ lw_all := lw_g (lw_at lw_m8 170 rfl) rfl
theorem q1942 : (Jvm.Cond.methodLink "HeadReckonsModel" (268 : Nat) ({ cls := "HeadReckonsModel", name := "goSquared", desc := "(II)Z" } : Jvm.MethodName)) ∈ lw_all := lw_g (lw_at lw_m8 171 rfl) rfl
theorem q1943 : (Jvm.Cond.privateMethod ({ cls := "HeadReckonsModel", name := "goSquared", desc := "(II)Z" } : Jvm.MethodName)) ∈ lw_tbl := lw_at lw_m8 172 rfl
theorem q1944 : (Jvm.Cond.instanceMethod ({ cls := "HeadReckonsModel", name := "goSquared", desc := "(II)Z" } : Jvm.MethodName)) ∈ lw_all := lw_g (lw_at lw_m8 173 rfl) rfl
theorem q1945 : (Jvm.Cond.code ({ cls := "HeadReckonsModel", name := "goSquared", desc := "(II)Z" } : Jvm.MethodName) prog_34_method_43_code (5 : Nat) (Option.some Jvm.ClassFile.FieldType.boolean)) ∈ lw_all := lw_g (lw_at lw_m8 174 rfl) rfl
theorem q1946 : (Jvm.Cond.methodLink "HeadReckonsModel" (250 : Nat) ({ cls := "HeadReckonsModel", name := "size", desc := "(I)I" } : Jvm.MethodName)) ∈ lw_all := lw_g (lw_at lw_m8 175 rfl) rfl
theorem q1947 : (Jvm.Cond.static ({ cls := "HeadReckonsModel", name := "size", desc := "(I)I" } : Jvm.MethodName)) ∈ lw_all := lw_g (lw_at lw_m8 176 rfl) rfl
theorem q1948 : (Jvm.Cond.code ({ cls := "HeadReckonsModel", name := "size", desc := "(I)I" } : Jvm.MethodName) prog_34_method_2_code (1 : Nat) (Option.some Jvm.ClassFile.FieldType.int)) ∈ lw_all := lw_g (lw_at lw_m8 177 rfl) rfl
theorem q1949 : (Jvm.Cond.methodLink "HeadReckonsModel" (271 : Nat) ({ cls := "HeadReckonsModel", name := "goSplit", desc := "(II)Z" } : Jvm.MethodName)) ∈ lw_all := lw_g (lw_at lw_m8 178 rfl) rfl
theorem q1950 : (Jvm.Cond.privateMethod ({ cls := "HeadReckonsModel", name := "goSplit", desc := "(II)Z" } : Jvm.MethodName)) ∈ lw_tbl := lw_at lw_m8 179 rfl
theorem q1951 : (Jvm.Cond.instanceMethod ({ cls := "HeadReckonsModel", name := "goSplit", desc := "(II)Z" } : Jvm.MethodName)) ∈ lw_all := lw_g (lw_at lw_m8 180 rfl) rfl
theorem q1952 : (Jvm.Cond.code ({ cls := "HeadReckonsModel", name := "goSplit", desc := "(II)Z" } : Jvm.MethodName) prog_34_method_44_code (4 : Nat) (Option.some Jvm.ClassFile.FieldType.boolean)) ∈ lw_all := lw_g (lw_at lw_m8 181 rfl) rfl
theorem q1953 : (Jvm.Cond.methodLink "HeadReckonsModel" (283 : Nat) ({ cls := "HeadReckonsModel", name := "seconds", desc := "()I" } : Jvm.MethodName)) ∈ lw_all := lw_g (lw_at lw_m8 182 rfl) rfl
theorem q1954 : (Jvm.Cond.privateMethod ({ cls := "HeadReckonsModel", name := "seconds", desc := "()I" } : Jvm.MethodName)) ∈ lw_tbl := lw_at lw_m8 183 rfl
theorem q1955 : (Jvm.Cond.instanceMethod ({ cls := "HeadReckonsModel", name := "seconds", desc := "()I" } : Jvm.MethodName)) ∈ lw_all := lw_g (lw_at lw_m8 184 rfl) rfl
theorem q1956 : (Jvm.Cond.code ({ cls := "HeadReckonsModel", name := "seconds", desc := "()I" } : Jvm.MethodName) prog_34_method_47_code (3 : Nat) (Option.some Jvm.ClassFile.FieldType.int)) ∈ lw_all := lw_g (lw_at lw_m8 185 rfl) rfl
theorem q1957 : (Jvm.Cond.methodLink "HeadReckonsModel" (286 : Nat) ({ cls := "HeadReckonsModel", name := "mostHeld", desc := "()I" } : Jvm.MethodName)) ∈ lw_all := lw_g (lw_at lw_m8 186 rfl) rfl
theorem q1958 : (Jvm.Cond.privateMethod ({ cls := "HeadReckonsModel", name := "mostHeld", desc := "()I" } : Jvm.MethodName)) ∈ lw_tbl := lw_at lw_m8 187 rfl
theorem q1959 : (Jvm.Cond.instanceMethod ({ cls := "HeadReckonsModel", name := "mostHeld", desc := "()I" } : Jvm.MethodName)) ∈ lw_all := lw_g (lw_at lw_m8 188 rfl) rfl
theorem q1960 : (Jvm.Cond.code ({ cls := "HeadReckonsModel", name := "mostHeld", desc := "()I" } : Jvm.MethodName) prog_34_method_48_code (3 : Nat) (Option.some Jvm.ClassFile.FieldType.int)) ∈ lw_all := lw_g (lw_at lw_m8 189 rfl) rfl
theorem q1962 : (Jvm.Cond.instanceMethod ({ cls := "HeadReckonsModel", name := "step", desc := "(IIII)I" } : Jvm.MethodName)) ∈ lw_all := lw_g (lw_at lw_m8 191 rfl) rfl
theorem q1963 : (Jvm.Cond.selects "HeadReckonsModel" ({ cls := "HeadReckonsModel", name := "step", desc := "(IIII)I" } : Jvm.MethodName) ({ cls := "HeadReckonsModel", name := "step", desc := "(IIII)I" } : Jvm.MethodName)) ∈ lw_all := lw_g (lw_at lw_m8 192 rfl) rfl
theorem q1964 : (Jvm.Cond.code ({ cls := "HeadReckonsModel", name := "step", desc := "(IIII)I" } : Jvm.MethodName) prog_34_method_51_code (5 : Nat) (Option.some Jvm.ClassFile.FieldType.int)) ∈ lw_all := lw_g (lw_at lw_m8 193 rfl) rfl
theorem q1965 : (Jvm.Cond.constantLong "HeadReckonsModel" (289 : Nat) (3 : Int64)) ∈ lw_all := lw_g (lw_at lw_m8 194 rfl) rfl
theorem q1966 : (Jvm.Cond.constant "HeadReckonsModel" (291 : Nat) (-2000000000 : Int32)) ∈ lw_all := lw_g (lw_at lw_m8 195 rfl) rfl
theorem q1968 : (Jvm.Cond.instanceMethod ({ cls := "HeadReckonsModel", name := "chosen", desc := "(II)I" } : Jvm.MethodName)) ∈ lw_all := lw_g (lw_at lw_m8 197 rfl) rfl
theorem q1969 : (Jvm.Cond.selects "HeadReckonsModel" ({ cls := "HeadReckonsModel", name := "chosen", desc := "(II)I" } : Jvm.MethodName) ({ cls := "HeadReckonsModel", name := "chosen", desc := "(II)I" } : Jvm.MethodName)) ∈ lw_all := lw_g (lw_at lw_m8 198 rfl) rfl
theorem q1970 : (Jvm.Cond.code ({ cls := "HeadReckonsModel", name := "chosen", desc := "(II)I" } : Jvm.MethodName) prog_34_method_54_code (3 : Nat) (Option.some Jvm.ClassFile.FieldType.int)) ∈ lw_all := lw_g (lw_at lw_m8 199 rfl) rfl
theorem q1971 : (Jvm.Cond.methodLink "HeadReckonsModel" (297 : Nat) ({ cls := "HeadReckonsModel", name := "chosenBy", desc := "(III)I" } : Jvm.MethodName)) ∈ lw_all := lw_g (lw_at lw_m8 200 rfl) rfl
theorem q1972 : (Jvm.Cond.privateMethod ({ cls := "HeadReckonsModel", name := "chosenBy", desc := "(III)I" } : Jvm.MethodName)) ∈ lw_tbl := lw_at lw_m8 201 rfl
theorem q1973 : (Jvm.Cond.instanceMethod ({ cls := "HeadReckonsModel", name := "chosenBy", desc := "(III)I" } : Jvm.MethodName)) ∈ lw_all := lw_g (lw_at lw_m8 202 rfl) rfl
theorem q1974 : (Jvm.Cond.code ({ cls := "HeadReckonsModel", name := "chosenBy", desc := "(III)I" } : Jvm.MethodName) prog_34_method_53_code (7 : Nat) (Option.some Jvm.ClassFile.FieldType.int)) ∈ lw_all := lw_g (lw_at lw_m8 203 rfl) rfl
theorem q1975 : (Jvm.Cond.methodLink "HeadReckonsModel" (292 : Nat) ({ cls := "HeadReckonsModel", name := "noughtsOf", desc := "(I)I" } : Jvm.MethodName)) ∈ lw_all := lw_g (lw_at lw_m8 204 rfl) rfl
theorem q1976 : (Jvm.Cond.static ({ cls := "HeadReckonsModel", name := "noughtsOf", desc := "(I)I" } : Jvm.MethodName)) ∈ lw_all := lw_g (lw_at lw_m8 205 rfl) rfl
theorem q1977 : (Jvm.Cond.code ({ cls := "HeadReckonsModel", name := "noughtsOf", desc := "(I)I" } : Jvm.MethodName) prog_34_method_52_code (3 : Nat) (Option.some Jvm.ClassFile.FieldType.int)) ∈ lw_all := lw_g (lw_at lw_m8 206 rfl) rfl
theorem q1978 : (Jvm.Cond.constantLong "HeadReckonsModel" (295 : Nat) (6 : Int64)) ∈ lw_all := lw_g (lw_at lw_m8 207 rfl) rfl
theorem q1980 : (Jvm.Cond.instanceMethod ({ cls := "HeadReckonsModel", name := "answer", desc := "(III)I" } : Jvm.MethodName)) ∈ lw_all := lw_g (lw_at lw_m8 209 rfl) rfl
theorem q1981 : (Jvm.Cond.selects "HeadReckonsModel" ({ cls := "HeadReckonsModel", name := "answer", desc := "(III)I" } : Jvm.MethodName) ({ cls := "HeadReckonsModel", name := "answer", desc := "(III)I" } : Jvm.MethodName)) ∈ lw_all := lw_g (lw_at lw_m8 210 rfl) rfl
theorem q1982 : (Jvm.Cond.code ({ cls := "HeadReckonsModel", name := "answer", desc := "(III)I" } : Jvm.MethodName) prog_34_method_55_code (9 : Nat) (Option.some Jvm.ClassFile.FieldType.int)) ∈ lw_all := lw_g (lw_at lw_m8 211 rfl) rfl
theorem q1983 : (Jvm.Cond.constant "HeadReckonsModel" (301 : Nat) (1103515245 : Int32)) ∈ lw_all := lw_g (lw_at lw_m8 212 rfl) rfl
theorem q1985 : (Jvm.Cond.instanceMethod ({ cls := "HeadReckonsModel", name := "quickest", desc := "(III)I" } : Jvm.MethodName)) ∈ lw_all := lw_g (lw_at lw_m8 214 rfl) rfl
theorem q1986 : (Jvm.Cond.selects "HeadReckonsModel" ({ cls := "HeadReckonsModel", name := "quickest", desc := "(III)I" } : Jvm.MethodName) ({ cls := "HeadReckonsModel", name := "quickest", desc := "(III)I" } : Jvm.MethodName)) ∈ lw_all := lw_g (lw_at lw_m8 215 rfl) rfl
theorem q1987 : (Jvm.Cond.code ({ cls := "HeadReckonsModel", name := "quickest", desc := "(III)I" } : Jvm.MethodName) prog_34_method_56_code (7 : Nat) (Option.some Jvm.ClassFile.FieldType.int)) ∈ lw_all := lw_g (lw_at lw_m8 216 rfl) rfl
theorem q1989 : (Jvm.Cond.instanceMethod ({ cls := "HeadReckonsModel", name := "table", desc := "(III)I" } : Jvm.MethodName)) ∈ lw_all := lw_g (lw_at lw_m8 218 rfl) rfl
theorem q1990 : (Jvm.Cond.selects "HeadReckonsModel" ({ cls := "HeadReckonsModel", name := "table", desc := "(III)I" } : Jvm.MethodName) ({ cls := "HeadReckonsModel", name := "table", desc := "(III)I" } : Jvm.MethodName)) ∈ lw_all := lw_g (lw_at lw_m8 219 rfl) rfl
theorem q1991 : (Jvm.Cond.code ({ cls := "HeadReckonsModel", name := "table", desc := "(III)I" } : Jvm.MethodName) prog_34_method_57_code (6 : Nat) (Option.some Jvm.ClassFile.FieldType.int)) ∈ lw_all := lw_g (lw_at lw_m8 220 rfl) rfl
theorem q1993 : (Jvm.Cond.instanceMethod ({ cls := "HeadReckonsModel", name := "see", desc := "(III)I" } : Jvm.MethodName)) ∈ lw_all := lw_g (lw_at lw_m8 222 rfl) rfl
theorem q1994 : (Jvm.Cond.selects "HeadReckonsModel" ({ cls := "HeadReckonsModel", name := "see", desc := "(III)I" } : Jvm.MethodName) ({ cls := "HeadReckonsModel", name := "see", desc := "(III)I" } : Jvm.MethodName)) ∈ lw_all := lw_g (lw_at lw_m8 223 rfl) rfl
theorem q1995 : (Jvm.Cond.code ({ cls := "HeadReckonsModel", name := "see", desc := "(III)I" } : Jvm.MethodName) prog_34_method_58_code (4 : Nat) (Option.some Jvm.ClassFile.FieldType.int)) ∈ lw_all := lw_g (lw_at lw_m8 224 rfl) rfl
theorem q1996 : (Jvm.Cond.constantLong "HeadReckonsModel" (302 : Nat) (-999999999 : Int64)) ∈ lw_all := lw_g (lw_at lw_m8 225 rfl) rfl
theorem q1997 : (Jvm.Cond.constantLong "HeadReckonsModel" (304 : Nat) (999999999 : Int64)) ∈ lw_all := lw_g (lw_at lw_m8 226 rfl) rfl
theorem q1999 : (Jvm.Cond.instanceMethod ({ cls := "HeadReckonsModel", name := "asks", desc := "(III)I" } : Jvm.MethodName)) ∈ lw_all := lw_g (lw_at lw_m8 228 rfl) rfl
theorem q2000 : (Jvm.Cond.selects "HeadReckonsModel" ({ cls := "HeadReckonsModel", name := "asks", desc := "(III)I" } : Jvm.MethodName) ({ cls := "HeadReckonsModel", name := "asks", desc := "(III)I" } : Jvm.MethodName)) ∈ lw_all := lw_g (lw_at lw_m8 229 rfl) rfl
theorem q2001 : (Jvm.Cond.code ({ cls := "HeadReckonsModel", name := "asks", desc := "(III)I" } : Jvm.MethodName) prog_34_method_59_code (7 : Nat) (Option.some Jvm.ClassFile.FieldType.int)) ∈ lw_all := lw_g (lw_at lw_m8 230 rfl) rfl
theorem q2002 : (Jvm.Cond.methodLink "HeadReckonsModel" (309 : Nat) ({ cls := "HeadReckonsModel", name := "isShelf", desc := "(I)Z" } : Jvm.MethodName)) ∈ lw_all := lw_g (lw_at lw_m8 231 rfl) rfl
theorem q2003 : (Jvm.Cond.static ({ cls := "HeadReckonsModel", name := "isShelf", desc := "(I)Z" } : Jvm.MethodName)) ∈ lw_all := lw_g (lw_at lw_m8 232 rfl) rfl
theorem q2004 : (Jvm.Cond.code ({ cls := "HeadReckonsModel", name := "isShelf", desc := "(I)Z" } : Jvm.MethodName) prog_34_method_103_code (1 : Nat) (Option.some Jvm.ClassFile.FieldType.boolean)) ∈ lw_all := lw_g (lw_at lw_m8 233 rfl) rfl
theorem q2005 : (Jvm.Cond.constantLong "HeadReckonsModel" (443 : Nat) (5 : Int64)) ∈ lw_all := lw_g (lw_at lw_m8 234 rfl) rfl
theorem q2006 : (Jvm.Cond.constantLong "HeadReckonsModel" (312 : Nat) (15 : Int64)) ∈ lw_all := lw_g (lw_at lw_m8 235 rfl) rfl
theorem q2007 : (Jvm.Cond.methodLink "HeadReckonsModel" (314 : Nat) ({ cls := "HeadReckonsModel", name := "see", desc := "(III)I" } : Jvm.MethodName)) ∈ lw_all := lw_g (lw_at lw_m8 236 rfl) rfl
theorem q2009 : (Jvm.Cond.instanceMethod ({ cls := "HeadReckonsModel", name := "seen", desc := "(II)I" } : Jvm.MethodName)) ∈ lw_all := lw_g (lw_at lw_m8 238 rfl) rfl
theorem q2010 : (Jvm.Cond.selects "HeadReckonsModel" ({ cls := "HeadReckonsModel", name := "seen", desc := "(II)I" } : Jvm.MethodName) ({ cls := "HeadReckonsModel", name := "seen", desc := "(II)I" } : Jvm.MethodName)) ∈ lw_all := lw_g (lw_at lw_m8 239 rfl) rfl
theorem q2011 : (Jvm.Cond.code ({ cls := "HeadReckonsModel", name := "seen", desc := "(II)I" } : Jvm.MethodName) prog_34_method_61_code (3 : Nat) (Option.some Jvm.ClassFile.FieldType.int)) ∈ lw_all := lw_g (lw_at lw_m9 0 rfl) rfl
theorem q2012 : (Jvm.Cond.methodLink "HeadReckonsModel" (317 : Nat) ({ cls := "HeadReckonsModel", name := "offBy", desc := "(I)I" } : Jvm.MethodName)) ∈ lw_all := lw_g (lw_at lw_m9 1 rfl) rfl
theorem q2013 : (Jvm.Cond.privateMethod ({ cls := "HeadReckonsModel", name := "offBy", desc := "(I)I" } : Jvm.MethodName)) ∈ lw_tbl := lw_at lw_m9 2 rfl
theorem q2014 : (Jvm.Cond.instanceMethod ({ cls := "HeadReckonsModel", name := "offBy", desc := "(I)I" } : Jvm.MethodName)) ∈ lw_all := lw_g (lw_at lw_m9 3 rfl) rfl
theorem q2015 : (Jvm.Cond.code ({ cls := "HeadReckonsModel", name := "offBy", desc := "(I)I" } : Jvm.MethodName) prog_34_method_60_code (2 : Nat) (Option.some Jvm.ClassFile.FieldType.int)) ∈ lw_all := lw_g (lw_at lw_m9 4 rfl) rfl
theorem q2017 : (Jvm.Cond.instanceMethod ({ cls := "HeadReckonsModel", name := "fits", desc := "(II)I" } : Jvm.MethodName)) ∈ lw_all := lw_g (lw_at lw_m9 6 rfl) rfl
theorem q2018 : (Jvm.Cond.selects "HeadReckonsModel" ({ cls := "HeadReckonsModel", name := "fits", desc := "(II)I" } : Jvm.MethodName) ({ cls := "HeadReckonsModel", name := "fits", desc := "(II)I" } : Jvm.MethodName)) ∈ lw_all := lw_g (lw_at lw_m9 7 rfl) rfl
theorem q2019 : (Jvm.Cond.code ({ cls := "HeadReckonsModel", name := "fits", desc := "(II)I" } : Jvm.MethodName) prog_34_method_65_code (5 : Nat) (Option.some Jvm.ClassFile.FieldType.int)) ∈ lw_all := lw_g (lw_at lw_m9 8 rfl) rfl
theorem q2020 : (Jvm.Cond.methodLink "HeadReckonsModel" (326 : Nat) ({ cls := "HeadReckonsModel", name := "doesFit", desc := "(III)Z" } : Jvm.MethodName)) ∈ lw_all := lw_g (lw_at lw_m9 9 rfl) rfl
theorem q2021 : (Jvm.Cond.privateMethod ({ cls := "HeadReckonsModel", name := "doesFit", desc := "(III)Z" } : Jvm.MethodName)) ∈ lw_tbl := lw_at lw_m9 10 rfl
theorem q2022 : (Jvm.Cond.instanceMethod ({ cls := "HeadReckonsModel", name := "doesFit", desc := "(III)Z" } : Jvm.MethodName)) ∈ lw_all := lw_g (lw_at lw_m9 11 rfl) rfl
theorem q2023 : (Jvm.Cond.code ({ cls := "HeadReckonsModel", name := "doesFit", desc := "(III)Z" } : Jvm.MethodName) prog_34_method_64_code (5 : Nat) (Option.some Jvm.ClassFile.FieldType.boolean)) ∈ lw_all := lw_g (lw_at lw_m9 12 rfl) rfl
theorem q2024 : (Jvm.Cond.methodLink "HeadReckonsModel" (323 : Nat) ({ cls := "HeadReckonsModel", name := "slipsOf", desc := "(I)I" } : Jvm.MethodName)) ∈ lw_all := lw_g (lw_at lw_m9 13 rfl) rfl
theorem q2025 : (Jvm.Cond.privateMethod ({ cls := "HeadReckonsModel", name := "slipsOf", desc := "(I)I" } : Jvm.MethodName)) ∈ lw_tbl := lw_at lw_m9 14 rfl
theorem q2026 : (Jvm.Cond.instanceMethod ({ cls := "HeadReckonsModel", name := "slipsOf", desc := "(I)I" } : Jvm.MethodName)) ∈ lw_all := lw_g (lw_at lw_m9 15 rfl) rfl
theorem q2027 : (Jvm.Cond.code ({ cls := "HeadReckonsModel", name := "slipsOf", desc := "(I)I" } : Jvm.MethodName) prog_34_method_63_code (4 : Nat) (Option.some Jvm.ClassFile.FieldType.int)) ∈ lw_all := lw_g (lw_at lw_m9 16 rfl) rfl
theorem q2028 : (Jvm.Cond.methodLink "HeadReckonsModel" (320 : Nat) ({ cls := "HeadReckonsModel", name := "canSlip", desc := "(II)Z" } : Jvm.MethodName)) ∈ lw_all := lw_g (lw_at lw_m9 17 rfl) rfl
theorem q2029 : (Jvm.Cond.privateMethod ({ cls := "HeadReckonsModel", name := "canSlip", desc := "(II)Z" } : Jvm.MethodName)) ∈ lw_tbl := lw_at lw_m9 18 rfl
theorem q2030 : (Jvm.Cond.instanceMethod ({ cls := "HeadReckonsModel", name := "canSlip", desc := "(II)Z" } : Jvm.MethodName)) ∈ lw_all := lw_g (lw_at lw_m9 19 rfl) rfl
theorem q2031 : (Jvm.Cond.code ({ cls := "HeadReckonsModel", name := "canSlip", desc := "(II)Z" } : Jvm.MethodName) prog_34_method_62_code (4 : Nat) (Option.some Jvm.ClassFile.FieldType.boolean)) ∈ lw_all := lw_g (lw_at lw_m9 20 rfl) rfl
theorem q2033 : (Jvm.Cond.instanceMethod ({ cls := "HeadReckonsModel", name := "best", desc := "(II)I" } : Jvm.MethodName)) ∈ lw_all := lw_g (lw_at lw_m9 22 rfl) rfl
theorem q2034 : (Jvm.Cond.selects "HeadReckonsModel" ({ cls := "HeadReckonsModel", name := "best", desc := "(II)I" } : Jvm.MethodName) ({ cls := "HeadReckonsModel", name := "best", desc := "(II)I" } : Jvm.MethodName)) ∈ lw_all := lw_g (lw_at lw_m9 23 rfl) rfl
theorem q2035 : (Jvm.Cond.code ({ cls := "HeadReckonsModel", name := "best", desc := "(II)I" } : Jvm.MethodName) prog_34_method_67_code (7 : Nat) (Option.some Jvm.ClassFile.FieldType.int)) ∈ lw_all := lw_g (lw_at lw_m9 24 rfl) rfl
theorem q2036 : (Jvm.Cond.methodLink "HeadReckonsModel" (330 : Nat) ({ cls := "HeadReckonsModel", name := "offSum", desc := "(II)I" } : Jvm.MethodName)) ∈ lw_all := lw_g (lw_at lw_m9 25 rfl) rfl
theorem q2037 : (Jvm.Cond.privateMethod ({ cls := "HeadReckonsModel", name := "offSum", desc := "(II)I" } : Jvm.MethodName)) ∈ lw_tbl := lw_at lw_m9 26 rfl
theorem q2038 : (Jvm.Cond.instanceMethod ({ cls := "HeadReckonsModel", name := "offSum", desc := "(II)I" } : Jvm.MethodName)) ∈ lw_all := lw_g (lw_at lw_m9 27 rfl) rfl
theorem q2039 : (Jvm.Cond.code ({ cls := "HeadReckonsModel", name := "offSum", desc := "(II)I" } : Jvm.MethodName) prog_34_method_66_code (7 : Nat) (Option.some Jvm.ClassFile.FieldType.int)) ∈ lw_all := lw_g (lw_at lw_m9 28 rfl) rfl
theorem q2041 : (Jvm.Cond.instanceMethod ({ cls := "HeadReckonsModel", name := "slip", desc := "(III)I" } : Jvm.MethodName)) ∈ lw_all := lw_g (lw_at lw_m9 30 rfl) rfl
theorem q2042 : (Jvm.Cond.selects "HeadReckonsModel" ({ cls := "HeadReckonsModel", name := "slip", desc := "(III)I" } : Jvm.MethodName) ({ cls := "HeadReckonsModel", name := "slip", desc := "(III)I" } : Jvm.MethodName)) ∈ lw_all := lw_g (lw_at lw_m9 31 rfl) rfl
theorem q2043 : (Jvm.Cond.code ({ cls := "HeadReckonsModel", name := "slip", desc := "(III)I" } : Jvm.MethodName) prog_34_method_68_code (5 : Nat) (Option.some Jvm.ClassFile.FieldType.int)) ∈ lw_all := lw_g (lw_at lw_m9 32 rfl) rfl
theorem q2045 : (Jvm.Cond.instanceMethod ({ cls := "HeadReckonsModel", name := "suits", desc := "(I)I" } : Jvm.MethodName)) ∈ lw_all := lw_g (lw_at lw_m9 34 rfl) rfl
theorem q2046 : (Jvm.Cond.selects "HeadReckonsModel" ({ cls := "HeadReckonsModel", name := "suits", desc := "(I)I" } : Jvm.MethodName) ({ cls := "HeadReckonsModel", name := "suits", desc := "(I)I" } : Jvm.MethodName)) ∈ lw_all := lw_g (lw_at lw_m9 35 rfl) rfl
theorem q2047 : (Jvm.Cond.code ({ cls := "HeadReckonsModel", name := "suits", desc := "(I)I" } : Jvm.MethodName) prog_34_method_69_code (7 : Nat) (Option.some Jvm.ClassFile.FieldType.int)) ∈ lw_all := lw_g (lw_at lw_m9 36 rfl) rfl
theorem q2049 : (Jvm.Cond.instanceMethod ({ cls := "HeadReckonsModel", name := "tell", desc := "(I)I" } : Jvm.MethodName)) ∈ lw_all := lw_g (lw_at lw_m9 38 rfl) rfl
theorem q2050 : (Jvm.Cond.selects "HeadReckonsModel" ({ cls := "HeadReckonsModel", name := "tell", desc := "(I)I" } : Jvm.MethodName) ({ cls := "HeadReckonsModel", name := "tell", desc := "(I)I" } : Jvm.MethodName)) ∈ lw_all := lw_g (lw_at lw_m9 39 rfl) rfl
theorem q2051 : (Jvm.Cond.code ({ cls := "HeadReckonsModel", name := "tell", desc := "(I)I" } : Jvm.MethodName) prog_34_method_70_code (2 : Nat) (Option.some Jvm.ClassFile.FieldType.int)) ∈ lw_all := lw_g (lw_at lw_m9 40 rfl) rfl
theorem q2053 : (Jvm.Cond.instanceMethod ({ cls := "HeadReckonsModel", name := "untell", desc := "()I" } : Jvm.MethodName)) ∈ lw_all := lw_g (lw_at lw_m9 42 rfl) rfl
theorem q2054 : (Jvm.Cond.selects "HeadReckonsModel" ({ cls := "HeadReckonsModel", name := "untell", desc := "()I" } : Jvm.MethodName) ({ cls := "HeadReckonsModel", name := "untell", desc := "()I" } : Jvm.MethodName)) ∈ lw_all := lw_g (lw_at lw_m9 43 rfl) rfl
theorem q2055 : (Jvm.Cond.code ({ cls := "HeadReckonsModel", name := "untell", desc := "()I" } : Jvm.MethodName) prog_34_method_71_code (2 : Nat) (Option.some Jvm.ClassFile.FieldType.int)) ∈ lw_all := lw_g (lw_at lw_m9 44 rfl) rfl
theorem q2057 : (Jvm.Cond.instanceMethod ({ cls := "HeadReckonsModel", name := "parts", desc := "(III)I" } : Jvm.MethodName)) ∈ lw_all := lw_g (lw_at lw_m9 46 rfl) rfl
theorem q2058 : (Jvm.Cond.selects "HeadReckonsModel" ({ cls := "HeadReckonsModel", name := "parts", desc := "(III)I" } : Jvm.MethodName) ({ cls := "HeadReckonsModel", name := "parts", desc := "(III)I" } : Jvm.MethodName)) ∈ lw_all := lw_g (lw_at lw_m9 47 rfl) rfl
theorem q2059 : (Jvm.Cond.code ({ cls := "HeadReckonsModel", name := "parts", desc := "(III)I" } : Jvm.MethodName) prog_34_method_72_code (10 : Nat) (Option.some Jvm.ClassFile.FieldType.int)) ∈ lw_all := lw_g (lw_at lw_m9 48 rfl) rfl
theorem q2060 : (Jvm.Cond.constantLong "HeadReckonsModel" (336 : Nat) (127 : Int64)) ∈ lw_all := lw_g (lw_at lw_m9 49 rfl) rfl
theorem q2062 : (Jvm.Cond.instanceMethod ({ cls := "HeadReckonsModel", name := "taught", desc := "(III)I" } : Jvm.MethodName)) ∈ lw_all := lw_g (lw_at lw_m9 51 rfl) rfl
theorem q2063 : (Jvm.Cond.selects "HeadReckonsModel" ({ cls := "HeadReckonsModel", name := "taught", desc := "(III)I" } : Jvm.MethodName) ({ cls := "HeadReckonsModel", name := "taught", desc := "(III)I" } : Jvm.MethodName)) ∈ lw_all := lw_g (lw_at lw_m9 52 rfl) rfl
theorem q2064 : (Jvm.Cond.code ({ cls := "HeadReckonsModel", name := "taught", desc := "(III)I" } : Jvm.MethodName) prog_34_method_77_code (6 : Nat) (Option.some Jvm.ClassFile.FieldType.int)) ∈ lw_all := lw_g (lw_at lw_m9 53 rfl) rfl
theorem q2065 : (Jvm.Cond.constantLong "HeadReckonsModel" (341 : Nat) (50 : Int64)) ∈ lw_all := lw_g (lw_at lw_m9 54 rfl) rfl
theorem q2066 : (Jvm.Cond.methodLink "HeadReckonsModel" (343 : Nat) ({ cls := "HeadReckonsModel", name := "isListBad", desc := "()Z" } : Jvm.MethodName)) ∈ lw_all := lw_g (lw_at lw_m9 55 rfl) rfl
theorem q2067 : (Jvm.Cond.privateMethod ({ cls := "HeadReckonsModel", name := "isListBad", desc := "()Z" } : Jvm.MethodName)) ∈ lw_tbl := lw_at lw_m9 56 rfl
theorem q2068 : (Jvm.Cond.instanceMethod ({ cls := "HeadReckonsModel", name := "isListBad", desc := "()Z" } : Jvm.MethodName)) ∈ lw_all := lw_g (lw_at lw_m9 57 rfl) rfl
theorem q2069 : (Jvm.Cond.code ({ cls := "HeadReckonsModel", name := "isListBad", desc := "()Z" } : Jvm.MethodName) prog_34_method_76_code (2 : Nat) (Option.some Jvm.ClassFile.FieldType.boolean)) ∈ lw_all := lw_g (lw_at lw_m9 58 rfl) rfl
theorem q2070 : (Jvm.Cond.methodLink "HeadReckonsModel" (347 : Nat) ({ cls := "HeadReckonsModel", name := "keeps", desc := "(I)V" } : Jvm.MethodName)) ∈ lw_all := lw_g (lw_at lw_m9 59 rfl) rfl
theorem q2071 : (Jvm.Cond.privateMethod ({ cls := "HeadReckonsModel", name := "keeps", desc := "(I)V" } : Jvm.MethodName)) ∈ lw_tbl := lw_at lw_m9 60 rfl
theorem q2072 : (Jvm.Cond.instanceMethod ({ cls := "HeadReckonsModel", name := "keeps", desc := "(I)V" } : Jvm.MethodName)) ∈ lw_all := lw_g (lw_at lw_m9 61 rfl) rfl
theorem q2073 : (Jvm.Cond.code ({ cls := "HeadReckonsModel", name := "keeps", desc := "(I)V" } : Jvm.MethodName) prog_34_method_73_code (3 : Nat) (Option.none : Option Jvm.ClassFile.FieldType)) ∈ lw_all := lw_g (lw_at lw_m9 62 rfl) rfl
theorem q2074 : (Jvm.Cond.methodLink "HeadReckonsModel" (351 : Nat) ({ cls := "HeadReckonsModel", name := "asksOne", desc := "(II)I" } : Jvm.MethodName)) ∈ lw_all := lw_g (lw_at lw_m9 63 rfl) rfl
theorem q2075 : (Jvm.Cond.privateMethod ({ cls := "HeadReckonsModel", name := "asksOne", desc := "(II)I" } : Jvm.MethodName)) ∈ lw_tbl := lw_at lw_m9 64 rfl
theorem q2076 : (Jvm.Cond.instanceMethod ({ cls := "HeadReckonsModel", name := "asksOne", desc := "(II)I" } : Jvm.MethodName)) ∈ lw_all := lw_g (lw_at lw_m9 65 rfl) rfl
theorem q2077 : (Jvm.Cond.code ({ cls := "HeadReckonsModel", name := "asksOne", desc := "(II)I" } : Jvm.MethodName) prog_34_method_75_code (6 : Nat) (Option.some Jvm.ClassFile.FieldType.int)) ∈ lw_all := lw_g (lw_at lw_m9 66 rfl) rfl
theorem q2078 : (Jvm.Cond.methodLink "HeadReckonsModel" (354 : Nat) ({ cls := "HeadReckonsModel", name := "putsBack", desc := "(I)V" } : Jvm.MethodName)) ∈ lw_all := lw_g (lw_at lw_m9 67 rfl) rfl
theorem q2079 : (Jvm.Cond.privateMethod ({ cls := "HeadReckonsModel", name := "putsBack", desc := "(I)V" } : Jvm.MethodName)) ∈ lw_tbl := lw_at lw_m9 68 rfl
theorem q2080 : (Jvm.Cond.instanceMethod ({ cls := "HeadReckonsModel", name := "putsBack", desc := "(I)V" } : Jvm.MethodName)) ∈ lw_all := lw_g (lw_at lw_m9 69 rfl) rfl
theorem q2081 : (Jvm.Cond.code ({ cls := "HeadReckonsModel", name := "putsBack", desc := "(I)V" } : Jvm.MethodName) prog_34_method_74_code (3 : Nat) (Option.none : Option Jvm.ClassFile.FieldType)) ∈ lw_all := lw_g (lw_at lw_m9 70 rfl) rfl
theorem q2083 : (Jvm.Cond.instanceMethod ({ cls := "HeadReckonsModel", name := "first", desc := "(II)I" } : Jvm.MethodName)) ∈ lw_all := lw_g (lw_at lw_m9 72 rfl) rfl
theorem q2084 : (Jvm.Cond.selects "HeadReckonsModel" ({ cls := "HeadReckonsModel", name := "first", desc := "(II)I" } : Jvm.MethodName) ({ cls := "HeadReckonsModel", name := "first", desc := "(II)I" } : Jvm.MethodName)) ∈ lw_all := lw_g (lw_at lw_m9 73 rfl) rfl
theorem q2085 : (Jvm.Cond.code ({ cls := "HeadReckonsModel", name := "first", desc := "(II)I" } : Jvm.MethodName) prog_34_method_79_code (3 : Nat) (Option.some Jvm.ClassFile.FieldType.int)) ∈ lw_all := lw_g (lw_at lw_m9 74 rfl) rfl
theorem q2086 : (Jvm.Cond.methodLink "HeadReckonsModel" (363 : Nat) ({ cls := "HeadReckonsModel", name := "ordersFrom", desc := "(IIIII)V" } : Jvm.MethodName)) ∈ lw_all := lw_g (lw_at lw_m9 75 rfl) rfl
theorem q2087 : (Jvm.Cond.privateMethod ({ cls := "HeadReckonsModel", name := "ordersFrom", desc := "(IIIII)V" } : Jvm.MethodName)) ∈ lw_tbl := lw_at lw_m9 76 rfl
theorem q2088 : (Jvm.Cond.instanceMethod ({ cls := "HeadReckonsModel", name := "ordersFrom", desc := "(IIIII)V" } : Jvm.MethodName)) ∈ lw_all := lw_g (lw_at lw_m9 77 rfl) rfl
theorem q2089 : (Jvm.Cond.code ({ cls := "HeadReckonsModel", name := "ordersFrom", desc := "(IIIII)V" } : Jvm.MethodName) prog_34_method_78_code (8 : Nat) (Option.none : Option Jvm.ClassFile.FieldType)) ∈ lw_all := lw_g (lw_at lw_m9 78 rfl) rfl
theorem q2091 : (Jvm.Cond.instanceMethod ({ cls := "HeadReckonsModel", name := "root", desc := "(JI)I" } : Jvm.MethodName)) ∈ lw_all := lw_g (lw_at lw_m9 80 rfl) rfl
theorem q2092 : (Jvm.Cond.selects "HeadReckonsModel" ({ cls := "HeadReckonsModel", name := "root", desc := "(JI)I" } : Jvm.MethodName) ({ cls := "HeadReckonsModel", name := "root", desc := "(JI)I" } : Jvm.MethodName)) ∈ lw_all := lw_g (lw_at lw_m9 81 rfl) rfl
theorem q2093 : (Jvm.Cond.code ({ cls := "HeadReckonsModel", name := "root", desc := "(JI)I" } : Jvm.MethodName) prog_34_method_85_code (4 : Nat) (Option.some Jvm.ClassFile.FieldType.int)) ∈ lw_all := lw_g (lw_at lw_m9 82 rfl) rfl
theorem q2094 : (Jvm.Cond.methodLink "HeadReckonsModel" (383 : Nat) ({ cls := "HeadReckonsModel", name := "isNumber", desc := "(JI)Z" } : Jvm.MethodName)) ∈ lw_all := lw_g (lw_at lw_m9 83 rfl) rfl
theorem q2095 : (Jvm.Cond.static ({ cls := "HeadReckonsModel", name := "isNumber", desc := "(JI)Z" } : Jvm.MethodName)) ∈ lw_all := lw_g (lw_at lw_m9 84 rfl) rfl
theorem q2096 : (Jvm.Cond.code ({ cls := "HeadReckonsModel", name := "isNumber", desc := "(JI)Z" } : Jvm.MethodName) prog_34_method_83_code (3 : Nat) (Option.some Jvm.ClassFile.FieldType.boolean)) ∈ lw_all := lw_g (lw_at lw_m9 85 rfl) rfl
theorem q2097 : (Jvm.Cond.constantLong "HeadReckonsModel" (367 : Nat) (999999999999999999 : Int64)) ∈ lw_all := lw_g (lw_at lw_m9 86 rfl) rfl
theorem q2098 : (Jvm.Cond.methodLink "HeadReckonsModel" (377 : Nat) ({ cls := "HeadReckonsModel", name := "isPower", desc := "(I)Z" } : Jvm.MethodName)) ∈ lw_all := lw_g (lw_at lw_m9 87 rfl) rfl
theorem q2099 : (Jvm.Cond.static ({ cls := "HeadReckonsModel", name := "isPower", desc := "(I)Z" } : Jvm.MethodName)) ∈ lw_all := lw_g (lw_at lw_m9 88 rfl) rfl
theorem q2100 : (Jvm.Cond.code ({ cls := "HeadReckonsModel", name := "isPower", desc := "(I)Z" } : Jvm.MethodName) prog_34_method_80_code (1 : Nat) (Option.some Jvm.ClassFile.FieldType.boolean)) ∈ lw_all := lw_g (lw_at lw_m9 89 rfl) rfl
theorem q2101 : (Jvm.Cond.methodLink "HeadReckonsModel" (387 : Nat) ({ cls := "HeadReckonsModel", name := "rootOf", desc := "(JI)I" } : Jvm.MethodName)) ∈ lw_all := lw_g (lw_at lw_m9 90 rfl) rfl
theorem q2102 : (Jvm.Cond.static ({ cls := "HeadReckonsModel", name := "rootOf", desc := "(JI)I" } : Jvm.MethodName)) ∈ lw_all := lw_g (lw_at lw_m9 91 rfl) rfl
theorem q2103 : (Jvm.Cond.code ({ cls := "HeadReckonsModel", name := "rootOf", desc := "(JI)I" } : Jvm.MethodName) prog_34_method_84_code (5 : Nat) (Option.some Jvm.ClassFile.FieldType.int)) ∈ lw_all := lw_g (lw_at lw_m9 92 rfl) rfl
theorem q2104 : (Jvm.Cond.methodLink "HeadReckonsModel" (380 : Nat) ({ cls := "HeadReckonsModel", name := "leastOf", desc := "(JI)J" } : Jvm.MethodName)) ∈ lw_all := lw_g (lw_at lw_m9 93 rfl) rfl
theorem q2105 : (Jvm.Cond.static ({ cls := "HeadReckonsModel", name := "leastOf", desc := "(JI)J" } : Jvm.MethodName)) ∈ lw_all := lw_g (lw_at lw_m9 94 rfl) rfl
theorem q2106 : (Jvm.Cond.code ({ cls := "HeadReckonsModel", name := "leastOf", desc := "(JI)J" } : Jvm.MethodName) prog_34_method_82_code (9 : Nat) (Option.some Jvm.ClassFile.FieldType.long)) ∈ lw_all := lw_g (lw_at lw_m9 95 rfl) rfl
theorem q2107 : (Jvm.Cond.constantLong "HeadReckonsModel" (371 : Nat) (1000000001 : Int64)) ∈ lw_all := lw_g (lw_at lw_m9 96 rfl) rfl
theorem q2108 : (Jvm.Cond.methodLink "HeadReckonsModel" (373 : Nat) ({ cls := "HeadReckonsModel", name := "powerOf", desc := "(JI)J" } : Jvm.MethodName)) ∈ lw_all := lw_g (lw_at lw_m9 97 rfl) rfl
theorem q2109 : (Jvm.Cond.static ({ cls := "HeadReckonsModel", name := "powerOf", desc := "(JI)J" } : Jvm.MethodName)) ∈ lw_all := lw_g (lw_at lw_m9 98 rfl) rfl
theorem q2110 : (Jvm.Cond.code ({ cls := "HeadReckonsModel", name := "powerOf", desc := "(JI)J" } : Jvm.MethodName) prog_34_method_81_code (6 : Nat) (Option.some Jvm.ClassFile.FieldType.long)) ∈ lw_all := lw_g (lw_at lw_m9 99 rfl) rfl
theorem q2111 : (Jvm.Cond.constantLong "HeadReckonsModel" (369 : Nat) (1000000000000000000 : Int64)) ∈ lw_all := lw_g (lw_at lw_m9 100 rfl) rfl
theorem q2113 : (Jvm.Cond.instanceMethod ({ cls := "HeadReckonsModel", name := "firsts", desc := "(JII)I" } : Jvm.MethodName)) ∈ lw_all := lw_g (lw_at lw_m9 102 rfl) rfl
theorem q2114 : (Jvm.Cond.selects "HeadReckonsModel" ({ cls := "HeadReckonsModel", name := "firsts", desc := "(JII)I" } : Jvm.MethodName) ({ cls := "HeadReckonsModel", name := "firsts", desc := "(JII)I" } : Jvm.MethodName)) ∈ lw_all := lw_g (lw_at lw_m9 103 rfl) rfl
theorem q2115 : (Jvm.Cond.code ({ cls := "HeadReckonsModel", name := "firsts", desc := "(JII)I" } : Jvm.MethodName) prog_34_method_90_code (7 : Nat) (Option.some Jvm.ClassFile.FieldType.int)) ∈ lw_all := lw_g (lw_at lw_m9 104 rfl) rfl
theorem q2116 : (Jvm.Cond.methodLink "HeadReckonsModel" (393 : Nat) ({ cls := "HeadReckonsModel", name := "digitsOf", desc := "(J)I" } : Jvm.MethodName)) ∈ lw_all := lw_g (lw_at lw_m9 105 rfl) rfl
theorem q2117 : (Jvm.Cond.static ({ cls := "HeadReckonsModel", name := "digitsOf", desc := "(J)I" } : Jvm.MethodName)) ∈ lw_all := lw_g (lw_at lw_m9 106 rfl) rfl
theorem q2118 : (Jvm.Cond.code ({ cls := "HeadReckonsModel", name := "digitsOf", desc := "(J)I" } : Jvm.MethodName) prog_34_method_86_code (5 : Nat) (Option.some Jvm.ClassFile.FieldType.int)) ∈ lw_all := lw_g (lw_at lw_m9 107 rfl) rfl
theorem q2119 : (Jvm.Cond.constantLong "HeadReckonsModel" (391 : Nat) (10 : Int64)) ∈ lw_all := lw_g (lw_at lw_m9 108 rfl) rfl
theorem q2120 : (Jvm.Cond.methodLink "HeadReckonsModel" (407 : Nat) ({ cls := "HeadReckonsModel", name := "manyFirsts", desc := "(JII)J" } : Jvm.MethodName)) ∈ lw_all := lw_g (lw_at lw_m9 109 rfl) rfl
theorem q2121 : (Jvm.Cond.privateMethod ({ cls := "HeadReckonsModel", name := "manyFirsts", desc := "(JII)J" } : Jvm.MethodName)) ∈ lw_tbl := lw_at lw_m9 110 rfl
theorem q2122 : (Jvm.Cond.instanceMethod ({ cls := "HeadReckonsModel", name := "manyFirsts", desc := "(JII)J" } : Jvm.MethodName)) ∈ lw_all := lw_g (lw_at lw_m9 111 rfl) rfl
theorem q2123 : (Jvm.Cond.code ({ cls := "HeadReckonsModel", name := "manyFirsts", desc := "(JII)J" } : Jvm.MethodName) prog_34_method_89_code (20 : Nat) (Option.some Jvm.ClassFile.FieldType.long)) ∈ lw_all := lw_g (lw_at lw_m9 112 rfl) rfl
theorem q2124 : (Jvm.Cond.methodLink "HeadReckonsModel" (401 : Nat) ({ cls := "HeadReckonsModel", name := "lastOf", desc := "(II)I" } : Jvm.MethodName)) ∈ lw_all := lw_g (lw_at lw_m9 113 rfl) rfl
theorem q2125 : (Jvm.Cond.static ({ cls := "HeadReckonsModel", name := "lastOf", desc := "(II)I" } : Jvm.MethodName)) ∈ lw_all := lw_g (lw_at lw_m9 114 rfl) rfl
theorem q2126 : (Jvm.Cond.code ({ cls := "HeadReckonsModel", name := "lastOf", desc := "(II)I" } : Jvm.MethodName) prog_34_method_87_code (4 : Nat) (Option.some Jvm.ClassFile.FieldType.int)) ∈ lw_all := lw_g (lw_at lw_m9 115 rfl) rfl
theorem q2127 : (Jvm.Cond.methodLink "HeadReckonsModel" (404 : Nat) ({ cls := "HeadReckonsModel", name := "endingBelow", desc := "(JI)J" } : Jvm.MethodName)) ∈ lw_all := lw_g (lw_at lw_m9 116 rfl) rfl
theorem q2128 : (Jvm.Cond.static ({ cls := "HeadReckonsModel", name := "endingBelow", desc := "(JI)J" } : Jvm.MethodName)) ∈ lw_all := lw_g (lw_at lw_m9 117 rfl) rfl
theorem q2129 : (Jvm.Cond.code ({ cls := "HeadReckonsModel", name := "endingBelow", desc := "(JI)J" } : Jvm.MethodName) prog_34_method_88_code (3 : Nat) (Option.some Jvm.ClassFile.FieldType.long)) ∈ lw_all := lw_g (lw_at lw_m9 118 rfl) rfl
theorem q2131 : (Jvm.Cond.instanceMethod ({ cls := "HeadReckonsModel", name := "enough", desc := "(JI)I" } : Jvm.MethodName)) ∈ lw_all := lw_g (lw_at lw_m9 120 rfl) rfl
theorem q2132 : (Jvm.Cond.selects "HeadReckonsModel" ({ cls := "HeadReckonsModel", name := "enough", desc := "(JI)I" } : Jvm.MethodName) ({ cls := "HeadReckonsModel", name := "enough", desc := "(JI)I" } : Jvm.MethodName)) ∈ lw_all := lw_g (lw_at lw_m9 121 rfl) rfl
theorem q2133 : (Jvm.Cond.code ({ cls := "HeadReckonsModel", name := "enough", desc := "(JI)I" } : Jvm.MethodName) prog_34_method_91_code (5 : Nat) (Option.some Jvm.ClassFile.FieldType.int)) ∈ lw_all := lw_g (lw_at lw_m9 122 rfl) rfl
theorem q2135 : (Jvm.Cond.instanceMethod ({ cls := "HeadReckonsModel", name := "body", desc := "(I)I" } : Jvm.MethodName)) ∈ lw_all := lw_g (lw_at lw_m9 124 rfl) rfl
theorem q2136 : (Jvm.Cond.selects "HeadReckonsModel" ({ cls := "HeadReckonsModel", name := "body", desc := "(I)I" } : Jvm.MethodName) ({ cls := "HeadReckonsModel", name := "body", desc := "(I)I" } : Jvm.MethodName)) ∈ lw_all := lw_g (lw_at lw_m9 125 rfl) rfl
theorem q2137 : (Jvm.Cond.code ({ cls := "HeadReckonsModel", name := "body", desc := "(I)I" } : Jvm.MethodName) prog_34_method_94_code (2 : Nat) (Option.some Jvm.ClassFile.FieldType.int)) ∈ lw_all := lw_g (lw_at lw_m9 126 rfl) rfl
theorem q2138 : (Jvm.Cond.constantLong "HeadReckonsModel" (414 : Nat) (7 : Int64)) ∈ lw_all := lw_g (lw_at lw_m9 127 rfl) rfl
theorem q2140 : (Jvm.Cond.instanceMethod ({ cls := "HeadReckonsModel", name := "act", desc := "(III)I" } : Jvm.MethodName)) ∈ lw_all := lw_g (lw_at lw_m9 129 rfl) rfl
theorem q2141 : (Jvm.Cond.selects "HeadReckonsModel" ({ cls := "HeadReckonsModel", name := "act", desc := "(III)I" } : Jvm.MethodName) ({ cls := "HeadReckonsModel", name := "act", desc := "(III)I" } : Jvm.MethodName)) ∈ lw_all := lw_g (lw_at lw_m9 130 rfl) rfl
theorem q2142 : (Jvm.Cond.code ({ cls := "HeadReckonsModel", name := "act", desc := "(III)I" } : Jvm.MethodName) prog_34_method_101_code (4 : Nat) (Option.some Jvm.ClassFile.FieldType.int)) ∈ lw_all := lw_g (lw_at lw_m9 131 rfl) rfl
theorem q2143 : (Jvm.Cond.methodLink "HeadReckonsModel" (440 : Nat) ({ cls := "HeadReckonsModel", name := "isBody", desc := "(I)Z" } : Jvm.MethodName)) ∈ lw_all := lw_g (lw_at lw_m9 132 rfl) rfl
theorem q2144 : (Jvm.Cond.privateMethod ({ cls := "HeadReckonsModel", name := "isBody", desc := "(I)Z" } : Jvm.MethodName)) ∈ lw_tbl := lw_at lw_m9 133 rfl
theorem q2145 : (Jvm.Cond.instanceMethod ({ cls := "HeadReckonsModel", name := "isBody", desc := "(I)Z" } : Jvm.MethodName)) ∈ lw_all := lw_g (lw_at lw_m9 134 rfl) rfl
theorem q2146 : (Jvm.Cond.code ({ cls := "HeadReckonsModel", name := "isBody", desc := "(I)Z" } : Jvm.MethodName) prog_34_method_92_code (2 : Nat) (Option.some Jvm.ClassFile.FieldType.boolean)) ∈ lw_all := lw_g (lw_at lw_m9 135 rfl) rfl
theorem q2147 : (Jvm.Cond.methodLink "HeadReckonsModel" (422 : Nat) ({ cls := "HeadReckonsModel", name := "costsAs", desc := "(II)I" } : Jvm.MethodName)) ∈ lw_all := lw_g (lw_at lw_m9 136 rfl) rfl
theorem q2148 : (Jvm.Cond.privateMethod ({ cls := "HeadReckonsModel", name := "costsAs", desc := "(II)I" } : Jvm.MethodName)) ∈ lw_tbl := lw_at lw_m9 137 rfl
theorem q2149 : (Jvm.Cond.instanceMethod ({ cls := "HeadReckonsModel", name := "costsAs", desc := "(II)I" } : Jvm.MethodName)) ∈ lw_all := lw_g (lw_at lw_m9 138 rfl) rfl
theorem q2150 : (Jvm.Cond.code ({ cls := "HeadReckonsModel", name := "costsAs", desc := "(II)I" } : Jvm.MethodName) prog_34_method_97_code (3 : Nat) (Option.some Jvm.ClassFile.FieldType.int)) ∈ lw_all := lw_g (lw_at lw_m9 139 rfl) rfl
theorem q2151 : (Jvm.Cond.methodLink "HeadReckonsModel" (419 : Nat) ({ cls := "HeadReckonsModel", name := "begins", desc := "(I)V" } : Jvm.MethodName)) ∈ lw_all := lw_g (lw_at lw_m9 140 rfl) rfl
theorem q2152 : (Jvm.Cond.privateMethod ({ cls := "HeadReckonsModel", name := "begins", desc := "(I)V" } : Jvm.MethodName)) ∈ lw_tbl := lw_at lw_m9 141 rfl
theorem q2153 : (Jvm.Cond.instanceMethod ({ cls := "HeadReckonsModel", name := "begins", desc := "(I)V" } : Jvm.MethodName)) ∈ lw_all := lw_g (lw_at lw_m9 142 rfl) rfl
theorem q2154 : (Jvm.Cond.code ({ cls := "HeadReckonsModel", name := "begins", desc := "(I)V" } : Jvm.MethodName) prog_34_method_96_code (2 : Nat) (Option.none : Option Jvm.ClassFile.FieldType)) ∈ lw_all := lw_g (lw_at lw_m9 143 rfl) rfl
theorem q2155 : (Jvm.Cond.methodLink "HeadReckonsModel" (428 : Nat) ({ cls := "HeadReckonsModel", name := "keepsAs", desc := "(II)I" } : Jvm.MethodName)) ∈ lw_all := lw_g (lw_at lw_m9 144 rfl) rfl
theorem q2156 : (Jvm.Cond.privateMethod ({ cls := "HeadReckonsModel", name := "keepsAs", desc := "(II)I" } : Jvm.MethodName)) ∈ lw_tbl := lw_at lw_m9 145 rfl
theorem q2157 : (Jvm.Cond.instanceMethod ({ cls := "HeadReckonsModel", name := "keepsAs", desc := "(II)I" } : Jvm.MethodName)) ∈ lw_all := lw_g (lw_at lw_m9 146 rfl) rfl
theorem q2158 : (Jvm.Cond.code ({ cls := "HeadReckonsModel", name := "keepsAs", desc := "(II)I" } : Jvm.MethodName) prog_34_method_98_code (3 : Nat) (Option.some Jvm.ClassFile.FieldType.int)) ∈ lw_all := lw_g (lw_at lw_m9 147 rfl) rfl
theorem q2159 : (Jvm.Cond.methodLink "HeadReckonsModel" (434 : Nat) ({ cls := "HeadReckonsModel", name := "slipsAs", desc := "(II)I" } : Jvm.MethodName)) ∈ lw_all := lw_g (lw_at lw_m9 148 rfl) rfl
theorem q2160 : (Jvm.Cond.privateMethod ({ cls := "HeadReckonsModel", name := "slipsAs", desc := "(II)I" } : Jvm.MethodName)) ∈ lw_tbl := lw_at lw_m9 149 rfl
theorem q2161 : (Jvm.Cond.instanceMethod ({ cls := "HeadReckonsModel", name := "slipsAs", desc := "(II)I" } : Jvm.MethodName)) ∈ lw_all := lw_g (lw_at lw_m9 150 rfl) rfl
theorem q2162 : (Jvm.Cond.code ({ cls := "HeadReckonsModel", name := "slipsAs", desc := "(II)I" } : Jvm.MethodName) prog_34_method_99_code (4 : Nat) (Option.some Jvm.ClassFile.FieldType.int)) ∈ lw_all := lw_g (lw_at lw_m9 151 rfl) rfl
theorem q2163 : (Jvm.Cond.methodLink "HeadReckonsModel" (437 : Nat) ({ cls := "HeadReckonsModel", name := "tellsAs", desc := "(II)I" } : Jvm.MethodName)) ∈ lw_all := lw_g (lw_at lw_m9 152 rfl) rfl
theorem q2164 : (Jvm.Cond.privateMethod ({ cls := "HeadReckonsModel", name := "tellsAs", desc := "(II)I" } : Jvm.MethodName)) ∈ lw_tbl := lw_at lw_m9 153 rfl
theorem q2165 : (Jvm.Cond.instanceMethod ({ cls := "HeadReckonsModel", name := "tellsAs", desc := "(II)I" } : Jvm.MethodName)) ∈ lw_all := lw_g (lw_at lw_m9 154 rfl) rfl
theorem q2166 : (Jvm.Cond.code ({ cls := "HeadReckonsModel", name := "tellsAs", desc := "(II)I" } : Jvm.MethodName) prog_34_method_100_code (4 : Nat) (Option.some Jvm.ClassFile.FieldType.int)) ∈ lw_all := lw_g (lw_at lw_m9 155 rfl) rfl
theorem q2168 : (Jvm.Cond.instanceMethod ({ cls := "HeadReckonsModel", name := "trace", desc := "(I)I" } : Jvm.MethodName)) ∈ lw_all := lw_g (lw_at lw_m9 157 rfl) rfl
theorem q2169 : (Jvm.Cond.selects "HeadReckonsModel" ({ cls := "HeadReckonsModel", name := "trace", desc := "(I)I" } : Jvm.MethodName) ({ cls := "HeadReckonsModel", name := "trace", desc := "(I)I" } : Jvm.MethodName)) ∈ lw_all := lw_g (lw_at lw_m9 158 rfl) rfl
theorem q2170 : (Jvm.Cond.code ({ cls := "HeadReckonsModel", name := "trace", desc := "(I)I" } : Jvm.MethodName) prog_34_method_102_code (2 : Nat) (Option.some Jvm.ClassFile.FieldType.int)) ∈ lw_all := lw_g (lw_at lw_m9 159 rfl) rfl
theorem q2172 : (Jvm.Cond.instanceMethod ({ cls := "HeadReckonsModel", name := "keep", desc := "(II)I" } : Jvm.MethodName)) ∈ lw_all := lw_g (lw_at lw_m9 161 rfl) rfl
theorem q2173 : (Jvm.Cond.selects "HeadReckonsModel" ({ cls := "HeadReckonsModel", name := "keep", desc := "(II)I" } : Jvm.MethodName) ({ cls := "HeadReckonsModel", name := "keep", desc := "(II)I" } : Jvm.MethodName)) ∈ lw_all := lw_g (lw_at lw_m9 162 rfl) rfl
theorem q2174 : (Jvm.Cond.code ({ cls := "HeadReckonsModel", name := "keep", desc := "(II)I" } : Jvm.MethodName) prog_34_method_104_code (3 : Nat) (Option.some Jvm.ClassFile.FieldType.int)) ∈ lw_all := lw_g (lw_at lw_m9 163 rfl) rfl
theorem q2176 : (Jvm.Cond.instanceMethod ({ cls := "HeadReckonsModel", name := "row", desc := "(III)I" } : Jvm.MethodName)) ∈ lw_all := lw_g (lw_at lw_m9 165 rfl) rfl
theorem q2177 : (Jvm.Cond.selects "HeadReckonsModel" ({ cls := "HeadReckonsModel", name := "row", desc := "(III)I" } : Jvm.MethodName) ({ cls := "HeadReckonsModel", name := "row", desc := "(III)I" } : Jvm.MethodName)) ∈ lw_all := lw_g (lw_at lw_m9 166 rfl) rfl
theorem q2178 : (Jvm.Cond.code ({ cls := "HeadReckonsModel", name := "row", desc := "(III)I" } : Jvm.MethodName) prog_34_method_105_code (5 : Nat) (Option.some Jvm.ClassFile.FieldType.int)) ∈ lw_all := lw_g (lw_at lw_m9 167 rfl) rfl
theorem q2180 : (Jvm.Cond.instanceMethod ({ cls := "HeadReckonsModel", name := "put", desc := "(IIJ)I" } : Jvm.MethodName)) ∈ lw_all := lw_g (lw_at lw_m9 169 rfl) rfl
theorem q2181 : (Jvm.Cond.selects "HeadReckonsModel" ({ cls := "HeadReckonsModel", name := "put", desc := "(IIJ)I" } : Jvm.MethodName) ({ cls := "HeadReckonsModel", name := "put", desc := "(IIJ)I" } : Jvm.MethodName)) ∈ lw_all := lw_g (lw_at lw_m9 170 rfl) rfl
theorem q2182 : (Jvm.Cond.code ({ cls := "HeadReckonsModel", name := "put", desc := "(IIJ)I" } : Jvm.MethodName) prog_34_method_108_code (6 : Nat) (Option.some Jvm.ClassFile.FieldType.int)) ∈ lw_all := lw_g (lw_at lw_m9 171 rfl) rfl
theorem q2183 : (Jvm.Cond.methodLink "HeadReckonsModel" (445 : Nat) ({ cls := "HeadReckonsModel", name := "refusal", desc := "(II)I" } : Jvm.MethodName)) ∈ lw_all := lw_g (lw_at lw_m9 172 rfl) rfl
theorem q2184 : (Jvm.Cond.privateMethod ({ cls := "HeadReckonsModel", name := "refusal", desc := "(II)I" } : Jvm.MethodName)) ∈ lw_tbl := lw_at lw_m9 173 rfl
theorem q2185 : (Jvm.Cond.instanceMethod ({ cls := "HeadReckonsModel", name := "refusal", desc := "(II)I" } : Jvm.MethodName)) ∈ lw_all := lw_g (lw_at lw_m9 174 rfl) rfl
theorem q2186 : (Jvm.Cond.code ({ cls := "HeadReckonsModel", name := "refusal", desc := "(II)I" } : Jvm.MethodName) prog_34_method_106_code (3 : Nat) (Option.some Jvm.ClassFile.FieldType.int)) ∈ lw_all := lw_g (lw_at lw_m9 175 rfl) rfl
theorem q2187 : (Jvm.Cond.methodLink "HeadReckonsModel" (448 : Nat) ({ cls := "HeadReckonsModel", name := "asSort", desc := "(IJ)J" } : Jvm.MethodName)) ∈ lw_all := lw_g (lw_at lw_m9 176 rfl) rfl
theorem q2188 : (Jvm.Cond.static ({ cls := "HeadReckonsModel", name := "asSort", desc := "(IJ)J" } : Jvm.MethodName)) ∈ lw_all := lw_g (lw_at lw_m9 177 rfl) rfl
theorem q2189 : (Jvm.Cond.code ({ cls := "HeadReckonsModel", name := "asSort", desc := "(IJ)J" } : Jvm.MethodName) prog_34_method_107_code (3 : Nat) (Option.some Jvm.ClassFile.FieldType.long)) ∈ lw_all := lw_g (lw_at lw_m9 178 rfl) rfl
theorem q2191 : (Jvm.Cond.instanceMethod ({ cls := "HeadReckonsModel", name := "element", desc := "(II)J" } : Jvm.MethodName)) ∈ lw_all := lw_g (lw_at lw_m9 180 rfl) rfl
theorem q2192 : (Jvm.Cond.selects "HeadReckonsModel" ({ cls := "HeadReckonsModel", name := "element", desc := "(II)J" } : Jvm.MethodName) ({ cls := "HeadReckonsModel", name := "element", desc := "(II)J" } : Jvm.MethodName)) ∈ lw_all := lw_g (lw_at lw_m9 181 rfl) rfl
theorem q2193 : (Jvm.Cond.code ({ cls := "HeadReckonsModel", name := "element", desc := "(II)J" } : Jvm.MethodName) prog_34_method_109_code (3 : Nat) (Option.some Jvm.ClassFile.FieldType.long)) ∈ lw_all := lw_g (lw_at lw_m9 182 rfl) rfl
theorem q2194 : (Jvm.Cond.constantLong "HeadReckonsModel" (454 : Nat) (-9223372036854775808 : Int64)) ∈ lw_all := lw_g (lw_at lw_m9 183 rfl) rfl
theorem q2196 : (Jvm.Cond.instanceMethod ({ cls := "HeadReckonsModel", name := "shift", desc := "(IIIII)I" } : Jvm.MethodName)) ∈ lw_all := lw_g (lw_at lw_m9 185 rfl) rfl
theorem q2197 : (Jvm.Cond.selects "HeadReckonsModel" ({ cls := "HeadReckonsModel", name := "shift", desc := "(IIIII)I" } : Jvm.MethodName) ({ cls := "HeadReckonsModel", name := "shift", desc := "(IIIII)I" } : Jvm.MethodName)) ∈ lw_all := lw_g (lw_at lw_m9 186 rfl) rfl
theorem q2198 : (Jvm.Cond.code ({ cls := "HeadReckonsModel", name := "shift", desc := "(IIIII)I" } : Jvm.MethodName) prog_34_method_110_code (7 : Nat) (Option.some Jvm.ClassFile.FieldType.int)) ∈ lw_all := lw_g (lw_at lw_m9 187 rfl) rfl
theorem q2200 : (Jvm.Cond.instanceMethod ({ cls := "HeadReckonsModel", name := "taken", desc := "(II)I" } : Jvm.MethodName)) ∈ lw_all := lw_g (lw_at lw_m9 189 rfl) rfl
theorem q2201 : (Jvm.Cond.selects "HeadReckonsModel" ({ cls := "HeadReckonsModel", name := "taken", desc := "(II)I" } : Jvm.MethodName) ({ cls := "HeadReckonsModel", name := "taken", desc := "(II)I" } : Jvm.MethodName)) ∈ lw_all := lw_g (lw_at lw_m9 190 rfl) rfl
theorem q2202 : (Jvm.Cond.code ({ cls := "HeadReckonsModel", name := "taken", desc := "(II)I" } : Jvm.MethodName) prog_34_method_111_code (4 : Nat) (Option.some Jvm.ClassFile.FieldType.int)) ∈ lw_all := lw_g (lw_at lw_m9 191 rfl) rfl
theorem q2203 : (Jvm.Cond.methodLink "HeadReckonsModel" (456 : Nat) ({ cls := "HeadReckonsModel", name := "kindOf", desc := "(I)I" } : Jvm.MethodName)) ∈ lw_all := lw_g (lw_at lw_m9 192 rfl) rfl
theorem q2204 : (Jvm.Cond.privateMethod ({ cls := "HeadReckonsModel", name := "kindOf", desc := "(I)I" } : Jvm.MethodName)) ∈ lw_tbl := lw_at lw_m9 193 rfl
theorem q2205 : (Jvm.Cond.instanceMethod ({ cls := "HeadReckonsModel", name := "kindOf", desc := "(I)I" } : Jvm.MethodName)) ∈ lw_all := lw_g (lw_at lw_m9 194 rfl) rfl
theorem q2206 : (Jvm.Cond.code ({ cls := "HeadReckonsModel", name := "kindOf", desc := "(I)I" } : Jvm.MethodName) prog_34_method_93_code (2 : Nat) (Option.some Jvm.ClassFile.FieldType.int)) ∈ lw_all := lw_g (lw_at lw_m9 195 rfl) rfl
theorem q2207 : (Jvm.Cond.methodLink "HeadReckonsModel" (459 : Nat) ({ cls := "HeadReckonsModel", name := "above", desc := "(I)I" } : Jvm.MethodName)) ∈ lw_all := lw_g (lw_at lw_m9 196 rfl) rfl
theorem q2208 : (Jvm.Cond.static ({ cls := "HeadReckonsModel", name := "above", desc := "(I)I" } : Jvm.MethodName)) ∈ lw_all := lw_g (lw_at lw_m9 197 rfl) rfl
theorem q2209 : (Jvm.Cond.code ({ cls := "HeadReckonsModel", name := "above", desc := "(I)I" } : Jvm.MethodName) prog_34_method_95_code (1 : Nat) (Option.some Jvm.ClassFile.FieldType.int)) ∈ lw_all := lw_g (lw_at lw_m9 198 rfl) rfl
theorem q2211 : (Jvm.Cond.instanceMethod ({ cls := "HeadReckonsModel", name := "count", desc := "(I)I" } : Jvm.MethodName)) ∈ lw_all := lw_g (lw_at lw_m9 200 rfl) rfl
theorem q2212 : (Jvm.Cond.selects "HeadReckonsModel" ({ cls := "HeadReckonsModel", name := "count", desc := "(I)I" } : Jvm.MethodName) ({ cls := "HeadReckonsModel", name := "count", desc := "(I)I" } : Jvm.MethodName)) ∈ lw_all := lw_g (lw_at lw_m9 201 rfl) rfl
theorem q2213 : (Jvm.Cond.code ({ cls := "HeadReckonsModel", name := "count", desc := "(I)I" } : Jvm.MethodName) prog_34_method_112_code (2 : Nat) (Option.some Jvm.ClassFile.FieldType.int)) ∈ lw_all := lw_g (lw_at lw_m9 202 rfl) rfl
theorem in_X4 : ∀ w ∈ wsX40, w ∈ lw_all := lw_in wsX40 [1658, 1660, 1662, 1664, 1666, 1668, 1670, 1672, 1674, 1676, 1678, 1680, 1682, 1684, 1686, 1688, 1690, 1692, 1694, 1696, 1698, 1700, 1702, 1704, 1706, 1708, 1710, 1712, 1714, 1716, 1718, 1720, 1722, 1724, 1726, 1728, 1730, 1732, 1734, 1736, 1738, 1740, 1742, 1744, 1746, 1748, 1750, 1752, 1754, 1756, 1758, 1760, 1762, 1764, 1766] (by decide +kernel) (by decide +kernel)
