/-! PullThePlugModel -/
set_option maxRecDepth 100000
def RX3 : String := "PullThePlugModel"
def TX3 : u_T := fun k => match k with
  | 0 => ("PullThePlugModel", "now", "[I", true)
  | 1 => ("PullThePlugModel", "lakes", "I", false)
  | 2 => ("PullThePlugModel", "brim", "[I", true)
  | 3 => ("PullThePlugModel", "leak", "[I", true)
  | 4 => ("PullThePlugModel", "down", "[I", true)
  | 5 => ("PullThePlugModel", "text", "[B", true)
  | 6 => ("PullThePlugModel", "typed", "I", false)
  | 7 => ("PullThePlugModel", "row", "[J", true)
  | 8 => ("PullThePlugModel", "rowMany", "I", false)
  | 9 => ("PullThePlugModel", "thrown", "I", false)
  | 10 => ("PullThePlugModel", "read", "[B", false)
  | 11 => ("PullThePlugModel", "length", "I", false)
  | 12 => ("PullThePlugModel", "top", "I", false)
  | 13 => ("PullThePlugModel", "at", "I", false)
  | 14 => ("PullThePlugModel", "wrong", "I", false)
  | 15 => ("PullThePlugModel", "comes", "[I", true)
  | 16 => ("PullThePlugModel", "rule", "[B", false)
  | 17 => ("PullThePlugModel", "otherRule", "[B", false)
  | 18 => ("PullThePlugModel", "ruleSize", "I", false)
  | 19 => ("PullThePlugModel", "isAsked", "Z", false)
  | 20 => ("PullThePlugModel", "asked", "[I", true)
  | 21 => ("PullThePlugModel", "undos", "[I", true)
  | 22 => ("PullThePlugModel", "undoMany", "I", false)
  | 23 => ("PullThePlugModel", "aside", "[I", true)
  | 24 => ("PullThePlugModel", "then", "[I", true)
  | 25 => ("PullThePlugModel", "run", "[I", true)
  | 26 => ("PullThePlugModel", "gets", "[I", true)
  | 27 => ("PullThePlugModel", "leakOf", "I", false)
  | 28 => ("PullThePlugModel", "leakMore", "I", false)
  | 29 => ("PullThePlugModel", "acts", "[I", true)
  | 30 => ("PullThePlugModel", "ringOf", "[I", true)
  | 31 => ("PullThePlugModel", "ringOn", "[I", true)
  | 32 => ("PullThePlugModel", "ringBy", "[I", true)
  | 33 => ("PullThePlugModel", "ringMany", "I", false)
  | 34 => ("PullThePlugModel", "many", "[I", true)
  | 35 => ("PullThePlugModel", "heired", "[I", true)
  | 36 => ("PullThePlugModel", "parts", "[J", true)
  | 37 => ("PullThePlugModel", "nextParts", "[J", true)
  | 38 => ("PullThePlugModel", "drawn", "I", false)
  | 39 => ("PullThePlugModel", "came", "I", false)
  | 40 => ("PullThePlugModel", "kept", "[I", true)
  | 41 => ("PullThePlugModel", "isKept", "[Z", true)
  | _ => ("PullThePlugModel", "keptCame", "[I", true)
def tyX3 : Nat → FieldType := fun k => match k with
  | 0 => .array .int
  | 1 => .int
  | 2 => .array .int
  | 3 => .array .int
  | 4 => .array .int
  | 5 => .array .byte
  | 6 => .int
  | 7 => .array .long
  | 8 => .int
  | 9 => .int
  | 10 => .array .byte
  | 11 => .int
  | 12 => .int
  | 13 => .int
  | 14 => .int
  | 15 => .array .int
  | 16 => .array .byte
  | 17 => .array .byte
  | 18 => .int
  | 19 => .boolean
  | 20 => .array .int
  | 21 => .array .int
  | 22 => .int
  | 23 => .array .int
  | 24 => .array .int
  | 25 => .array .int
  | 26 => .array .int
  | 27 => .int
  | 28 => .int
  | 29 => .array .int
  | 30 => .array .int
  | 31 => .array .int
  | 32 => .array .int
  | 33 => .int
  | 34 => .array .int
  | 35 => .array .int
  | 36 => .array .long
  | 37 => .array .long
  | 38 => .int
  | 39 => .int
  | 40 => .array .int
  | 41 => .array .boolean
  | _ => .array .int
abbrev wsX30 : List Cond := u_ws RX3 TX3 43
set_option maxRecDepth 100000 in
theorem nmX3 : ∀ a, a < 43 → ∀ b, b < 43 → a ≠ b → (TX3 a).2.1 ≠ (TX3 b).2.1 := by decide +kernel
set_option maxRecDepth 100000 in
theorem tyX3_ok : ∀ k, k < 43 → parseFieldDescriptor (TX3 k).2.2.1 = some (tyX3 k) := by decide +kernel
abbrev cX3_init : ByteArray := prog_9_method_1_code
def yX3_init : MethodName := ⟨RX3, "<init>", "()V"⟩
def dkwX3_init_9 : List UInt8 := [181, 0, 88, 42, 5, 188, 10, 181, 0, 92, 177]
abbrev dktX3_init_9 : List UInt8 := dkwX3_init_9 ++ []
def dkwX3_init_8 : List UInt8 := [181, 0, 79, 42, 16, 6, 188, 11, 181, 0, 82, 42, 16, 66, 188, 10, 181, 0, 85, 42, 5, 188, 4]
abbrev dktX3_init_8 : List UInt8 := dkwX3_init_8 ++ dktX3_init_9
def dkwX3_init_7 : List UInt8 := [17, 49, 56, 188, 10, 181, 0, 73, 42, 17, 1, 192, 188, 10, 181, 0, 76, 42, 16, 6, 188, 11]
abbrev dktX3_init_7 : List UInt8 := dkwX3_init_7 ++ dktX3_init_8
def dkwX3_init_6 : List UInt8 := [188, 10, 181, 0, 64, 42, 16, 10, 188, 10, 181, 0, 67, 42, 16, 10, 188, 10, 181, 0, 70, 42]
abbrev dktX3_init_6 : List UInt8 := dkwX3_init_6 ++ dktX3_init_7
def dkwX3_init_5 : List UInt8 := [16, 6, 188, 10, 181, 0, 54, 42, 2, 181, 0, 57, 42, 17, 0, 240, 188, 10, 181, 0, 61, 42, 16, 10]
abbrev dktX3_init_5 : List UInt8 := dkwX3_init_5 ++ dktX3_init_6
def dkwX3_init_4 : List UInt8 := [16, 33, 188, 10, 181, 0, 45, 42, 16, 33, 188, 10, 181, 0, 48, 42, 16, 6, 188, 10, 181, 0, 51, 42]
abbrev dktX3_init_4 : List UInt8 := dkwX3_init_4 ++ dktX3_init_5
def dkwX3_init_3 : List UInt8 := [188, 8, 181, 0, 36, 42, 16, 6, 188, 10, 181, 0, 39, 42, 17, 1, 140, 188, 10, 181, 0, 42, 42]
abbrev dktX3_init_3 : List UInt8 := dkwX3_init_3 ++ dktX3_init_4
def dkwX3_init_2 : List UInt8 := [188, 11, 181, 0, 26, 42, 16, 30, 188, 10, 181, 0, 30, 42, 16, 40, 188, 8, 181, 0, 33, 42, 16, 40]
abbrev dktX3_init_2 : List UInt8 := dkwX3_init_2 ++ dktX3_init_3
def dkwX3_init_1 : List UInt8 := [188, 10, 181, 0, 16, 42, 16, 6, 188, 10, 181, 0, 19, 42, 16, 80, 188, 8, 181, 0, 22, 42, 16, 16]
abbrev dktX3_init_1 : List UInt8 := dkwX3_init_1 ++ dktX3_init_2
def dkwX3_init_0 : List UInt8 := [42, 183, 0, 3, 42, 16, 33, 188, 10, 181, 0, 9, 42, 16, 6, 188, 10, 181, 0, 13, 42, 16, 6]
abbrev dktX3_init_0 : List UInt8 := dkwX3_init_0 ++ dktX3_init_1
theorem dksX3_init_0 : cX3_init.data.toList.drop 0 = dktX3_init_0 := by decide +kernel
theorem dksX3_init_1 : cX3_init.data.toList.drop 23 = dktX3_init_1 := dk_seg dksX3_init_0 23 rfl rfl
theorem dksX3_init_2 : cX3_init.data.toList.drop 47 = dktX3_init_2 := dk_seg dksX3_init_1 24 rfl rfl
theorem dksX3_init_3 : cX3_init.data.toList.drop 71 = dktX3_init_3 := dk_seg dksX3_init_2 24 rfl rfl
theorem dksX3_init_4 : cX3_init.data.toList.drop 94 = dktX3_init_4 := dk_seg dksX3_init_3 23 rfl rfl
theorem dksX3_init_5 : cX3_init.data.toList.drop 118 = dktX3_init_5 := dk_seg dksX3_init_4 24 rfl rfl
theorem dksX3_init_6 : cX3_init.data.toList.drop 142 = dktX3_init_6 := dk_seg dksX3_init_5 24 rfl rfl
theorem dksX3_init_7 : cX3_init.data.toList.drop 164 = dktX3_init_7 := dk_seg dksX3_init_6 22 rfl rfl
theorem dksX3_init_8 : cX3_init.data.toList.drop 186 = dktX3_init_8 := dk_seg dksX3_init_7 22 rfl rfl
theorem dksX3_init_9 : cX3_init.data.toList.drop 209 = dktX3_init_9 := dk_seg dksX3_init_8 23 rfl rfl
theorem dX3_init_0 : decode cX3_init 0 = .ok (.aload_n 0, 1) := dk_42 (dk_at dksX3_init_0 0 rfl rfl)
theorem dX3_init_1 : decode cX3_init 1 = .ok (.invokespecial 3, 3) := dk_183 0 3 (dk_at dksX3_init_0 1 rfl rfl)
theorem dX3_init_4 : decode cX3_init 4 = .ok (.aload_n 0, 1) := dk_42 (dk_at dksX3_init_0 4 rfl rfl)
theorem dX3_init_5 : decode cX3_init 5 = .ok (.bipush 33, 2) := dk_16 33 (dk_at dksX3_init_0 5 rfl rfl)
theorem dX3_init_7 : decode cX3_init 7 = .ok (.newarray .int, 2) := dk_188_10 (dk_at dksX3_init_0 7 rfl rfl)
theorem dX3_init_9 : decode cX3_init 9 = .ok (.putfield 9, 3) := dk_181 0 9 (dk_at dksX3_init_0 9 rfl rfl)
theorem dX3_init_12 : decode cX3_init 12 = .ok (.aload_n 0, 1) := dk_42 (dk_at dksX3_init_0 12 rfl rfl)
theorem dX3_init_13 : decode cX3_init 13 = .ok (.bipush 6, 2) := dk_16 6 (dk_at dksX3_init_0 13 rfl rfl)
theorem dX3_init_15 : decode cX3_init 15 = .ok (.newarray .int, 2) := dk_188_10 (dk_at dksX3_init_0 15 rfl rfl)
theorem dX3_init_17 : decode cX3_init 17 = .ok (.putfield 13, 3) := dk_181 0 13 (dk_at dksX3_init_0 17 rfl rfl)
theorem dX3_init_20 : decode cX3_init 20 = .ok (.aload_n 0, 1) := dk_42 (dk_at dksX3_init_0 20 rfl rfl)
theorem dX3_init_21 : decode cX3_init 21 = .ok (.bipush 6, 2) := dk_16 6 (dk_at dksX3_init_0 21 rfl rfl)
theorem dX3_init_23 : decode cX3_init 23 = .ok (.newarray .int, 2) := dk_188_10 (dk_at dksX3_init_1 0 rfl rfl)
theorem dX3_init_25 : decode cX3_init 25 = .ok (.putfield 16, 3) := dk_181 0 16 (dk_at dksX3_init_1 2 rfl rfl)
theorem dX3_init_28 : decode cX3_init 28 = .ok (.aload_n 0, 1) := dk_42 (dk_at dksX3_init_1 5 rfl rfl)
theorem dX3_init_29 : decode cX3_init 29 = .ok (.bipush 6, 2) := dk_16 6 (dk_at dksX3_init_1 6 rfl rfl)
theorem dX3_init_31 : decode cX3_init 31 = .ok (.newarray .int, 2) := dk_188_10 (dk_at dksX3_init_1 8 rfl rfl)
theorem dX3_init_33 : decode cX3_init 33 = .ok (.putfield 19, 3) := dk_181 0 19 (dk_at dksX3_init_1 10 rfl rfl)
theorem dX3_init_36 : decode cX3_init 36 = .ok (.aload_n 0, 1) := dk_42 (dk_at dksX3_init_1 13 rfl rfl)
theorem dX3_init_37 : decode cX3_init 37 = .ok (.bipush 80, 2) := dk_16 80 (dk_at dksX3_init_1 14 rfl rfl)
theorem dX3_init_39 : decode cX3_init 39 = .ok (.newarray .byte, 2) := dk_188_8 (dk_at dksX3_init_1 16 rfl rfl)
theorem dX3_init_41 : decode cX3_init 41 = .ok (.putfield 22, 3) := dk_181 0 22 (dk_at dksX3_init_1 18 rfl rfl)
theorem dX3_init_44 : decode cX3_init 44 = .ok (.aload_n 0, 1) := dk_42 (dk_at dksX3_init_1 21 rfl rfl)
theorem dX3_init_45 : decode cX3_init 45 = .ok (.bipush 16, 2) := dk_16 16 (dk_at dksX3_init_1 22 rfl rfl)
theorem dX3_init_47 : decode cX3_init 47 = .ok (.newarray .long, 2) := dk_188_11 (dk_at dksX3_init_2 0 rfl rfl)
theorem dX3_init_49 : decode cX3_init 49 = .ok (.putfield 26, 3) := dk_181 0 26 (dk_at dksX3_init_2 2 rfl rfl)
theorem dX3_init_52 : decode cX3_init 52 = .ok (.aload_n 0, 1) := dk_42 (dk_at dksX3_init_2 5 rfl rfl)
theorem dX3_init_53 : decode cX3_init 53 = .ok (.bipush 30, 2) := dk_16 30 (dk_at dksX3_init_2 6 rfl rfl)
theorem dX3_init_55 : decode cX3_init 55 = .ok (.newarray .int, 2) := dk_188_10 (dk_at dksX3_init_2 8 rfl rfl)
theorem dX3_init_57 : decode cX3_init 57 = .ok (.putfield 30, 3) := dk_181 0 30 (dk_at dksX3_init_2 10 rfl rfl)
theorem dX3_init_60 : decode cX3_init 60 = .ok (.aload_n 0, 1) := dk_42 (dk_at dksX3_init_2 13 rfl rfl)
theorem dX3_init_61 : decode cX3_init 61 = .ok (.bipush 40, 2) := dk_16 40 (dk_at dksX3_init_2 14 rfl rfl)
theorem dX3_init_63 : decode cX3_init 63 = .ok (.newarray .byte, 2) := dk_188_8 (dk_at dksX3_init_2 16 rfl rfl)
theorem dX3_init_65 : decode cX3_init 65 = .ok (.putfield 33, 3) := dk_181 0 33 (dk_at dksX3_init_2 18 rfl rfl)
theorem dX3_init_68 : decode cX3_init 68 = .ok (.aload_n 0, 1) := dk_42 (dk_at dksX3_init_2 21 rfl rfl)
theorem dX3_init_69 : decode cX3_init 69 = .ok (.bipush 40, 2) := dk_16 40 (dk_at dksX3_init_2 22 rfl rfl)
theorem dX3_init_71 : decode cX3_init 71 = .ok (.newarray .byte, 2) := dk_188_8 (dk_at dksX3_init_3 0 rfl rfl)
theorem dX3_init_73 : decode cX3_init 73 = .ok (.putfield 36, 3) := dk_181 0 36 (dk_at dksX3_init_3 2 rfl rfl)
theorem dX3_init_76 : decode cX3_init 76 = .ok (.aload_n 0, 1) := dk_42 (dk_at dksX3_init_3 5 rfl rfl)
theorem dX3_init_77 : decode cX3_init 77 = .ok (.bipush 6, 2) := dk_16 6 (dk_at dksX3_init_3 6 rfl rfl)
theorem dX3_init_79 : decode cX3_init 79 = .ok (.newarray .int, 2) := dk_188_10 (dk_at dksX3_init_3 8 rfl rfl)
theorem dX3_init_81 : decode cX3_init 81 = .ok (.putfield 39, 3) := dk_181 0 39 (dk_at dksX3_init_3 10 rfl rfl)
theorem dX3_init_84 : decode cX3_init 84 = .ok (.aload_n 0, 1) := dk_42 (dk_at dksX3_init_3 13 rfl rfl)
theorem dX3_init_85 : decode cX3_init 85 = .ok (.sipush 396, 3) := dk_17 1 140 (dk_at dksX3_init_3 14 rfl rfl)
theorem dX3_init_88 : decode cX3_init 88 = .ok (.newarray .int, 2) := dk_188_10 (dk_at dksX3_init_3 17 rfl rfl)
theorem dX3_init_90 : decode cX3_init 90 = .ok (.putfield 42, 3) := dk_181 0 42 (dk_at dksX3_init_3 19 rfl rfl)
theorem dX3_init_93 : decode cX3_init 93 = .ok (.aload_n 0, 1) := dk_42 (dk_at dksX3_init_3 22 rfl rfl)
theorem dX3_init_94 : decode cX3_init 94 = .ok (.bipush 33, 2) := dk_16 33 (dk_at dksX3_init_4 0 rfl rfl)
theorem dX3_init_96 : decode cX3_init 96 = .ok (.newarray .int, 2) := dk_188_10 (dk_at dksX3_init_4 2 rfl rfl)
theorem dX3_init_98 : decode cX3_init 98 = .ok (.putfield 45, 3) := dk_181 0 45 (dk_at dksX3_init_4 4 rfl rfl)
theorem dX3_init_101 : decode cX3_init 101 = .ok (.aload_n 0, 1) := dk_42 (dk_at dksX3_init_4 7 rfl rfl)
theorem dX3_init_102 : decode cX3_init 102 = .ok (.bipush 33, 2) := dk_16 33 (dk_at dksX3_init_4 8 rfl rfl)
theorem dX3_init_104 : decode cX3_init 104 = .ok (.newarray .int, 2) := dk_188_10 (dk_at dksX3_init_4 10 rfl rfl)
theorem dX3_init_106 : decode cX3_init 106 = .ok (.putfield 48, 3) := dk_181 0 48 (dk_at dksX3_init_4 12 rfl rfl)
theorem dX3_init_109 : decode cX3_init 109 = .ok (.aload_n 0, 1) := dk_42 (dk_at dksX3_init_4 15 rfl rfl)
theorem dX3_init_110 : decode cX3_init 110 = .ok (.bipush 6, 2) := dk_16 6 (dk_at dksX3_init_4 16 rfl rfl)
theorem dX3_init_112 : decode cX3_init 112 = .ok (.newarray .int, 2) := dk_188_10 (dk_at dksX3_init_4 18 rfl rfl)
theorem dX3_init_114 : decode cX3_init 114 = .ok (.putfield 51, 3) := dk_181 0 51 (dk_at dksX3_init_4 20 rfl rfl)
theorem dX3_init_117 : decode cX3_init 117 = .ok (.aload_n 0, 1) := dk_42 (dk_at dksX3_init_4 23 rfl rfl)
theorem dX3_init_118 : decode cX3_init 118 = .ok (.bipush 6, 2) := dk_16 6 (dk_at dksX3_init_5 0 rfl rfl)
theorem dX3_init_120 : decode cX3_init 120 = .ok (.newarray .int, 2) := dk_188_10 (dk_at dksX3_init_5 2 rfl rfl)
theorem dX3_init_122 : decode cX3_init 122 = .ok (.putfield 54, 3) := dk_181 0 54 (dk_at dksX3_init_5 4 rfl rfl)
theorem dX3_init_125 : decode cX3_init 125 = .ok (.aload_n 0, 1) := dk_42 (dk_at dksX3_init_5 7 rfl rfl)
theorem dX3_init_126 : decode cX3_init 126 = .ok (.iconst (-1), 1) := dk_2 (dk_at dksX3_init_5 8 rfl rfl)
theorem dX3_init_127 : decode cX3_init 127 = .ok (.putfield 57, 3) := dk_181 0 57 (dk_at dksX3_init_5 9 rfl rfl)
theorem dX3_init_130 : decode cX3_init 130 = .ok (.aload_n 0, 1) := dk_42 (dk_at dksX3_init_5 12 rfl rfl)
theorem dX3_init_131 : decode cX3_init 131 = .ok (.sipush 240, 3) := dk_17 0 240 (dk_at dksX3_init_5 13 rfl rfl)
theorem dX3_init_134 : decode cX3_init 134 = .ok (.newarray .int, 2) := dk_188_10 (dk_at dksX3_init_5 16 rfl rfl)
theorem dX3_init_136 : decode cX3_init 136 = .ok (.putfield 61, 3) := dk_181 0 61 (dk_at dksX3_init_5 18 rfl rfl)
theorem dX3_init_139 : decode cX3_init 139 = .ok (.aload_n 0, 1) := dk_42 (dk_at dksX3_init_5 21 rfl rfl)
theorem dX3_init_140 : decode cX3_init 140 = .ok (.bipush 10, 2) := dk_16 10 (dk_at dksX3_init_5 22 rfl rfl)
theorem dX3_init_142 : decode cX3_init 142 = .ok (.newarray .int, 2) := dk_188_10 (dk_at dksX3_init_6 0 rfl rfl)
theorem dX3_init_144 : decode cX3_init 144 = .ok (.putfield 64, 3) := dk_181 0 64 (dk_at dksX3_init_6 2 rfl rfl)
theorem dX3_init_147 : decode cX3_init 147 = .ok (.aload_n 0, 1) := dk_42 (dk_at dksX3_init_6 5 rfl rfl)
theorem dX3_init_148 : decode cX3_init 148 = .ok (.bipush 10, 2) := dk_16 10 (dk_at dksX3_init_6 6 rfl rfl)
theorem dX3_init_150 : decode cX3_init 150 = .ok (.newarray .int, 2) := dk_188_10 (dk_at dksX3_init_6 8 rfl rfl)
theorem dX3_init_152 : decode cX3_init 152 = .ok (.putfield 67, 3) := dk_181 0 67 (dk_at dksX3_init_6 10 rfl rfl)
theorem dX3_init_155 : decode cX3_init 155 = .ok (.aload_n 0, 1) := dk_42 (dk_at dksX3_init_6 13 rfl rfl)
theorem dX3_init_156 : decode cX3_init 156 = .ok (.bipush 10, 2) := dk_16 10 (dk_at dksX3_init_6 14 rfl rfl)
theorem dX3_init_158 : decode cX3_init 158 = .ok (.newarray .int, 2) := dk_188_10 (dk_at dksX3_init_6 16 rfl rfl)
theorem dX3_init_160 : decode cX3_init 160 = .ok (.putfield 70, 3) := dk_181 0 70 (dk_at dksX3_init_6 18 rfl rfl)
theorem dX3_init_163 : decode cX3_init 163 = .ok (.aload_n 0, 1) := dk_42 (dk_at dksX3_init_6 21 rfl rfl)
theorem dX3_init_164 : decode cX3_init 164 = .ok (.sipush 12600, 3) := dk_17 49 56 (dk_at dksX3_init_7 0 rfl rfl)
theorem dX3_init_167 : decode cX3_init 167 = .ok (.newarray .int, 2) := dk_188_10 (dk_at dksX3_init_7 3 rfl rfl)
theorem dX3_init_169 : decode cX3_init 169 = .ok (.putfield 73, 3) := dk_181 0 73 (dk_at dksX3_init_7 5 rfl rfl)
theorem dX3_init_172 : decode cX3_init 172 = .ok (.aload_n 0, 1) := dk_42 (dk_at dksX3_init_7 8 rfl rfl)
theorem dX3_init_173 : decode cX3_init 173 = .ok (.sipush 448, 3) := dk_17 1 192 (dk_at dksX3_init_7 9 rfl rfl)
theorem dX3_init_176 : decode cX3_init 176 = .ok (.newarray .int, 2) := dk_188_10 (dk_at dksX3_init_7 12 rfl rfl)
theorem dX3_init_178 : decode cX3_init 178 = .ok (.putfield 76, 3) := dk_181 0 76 (dk_at dksX3_init_7 14 rfl rfl)
theorem dX3_init_181 : decode cX3_init 181 = .ok (.aload_n 0, 1) := dk_42 (dk_at dksX3_init_7 17 rfl rfl)
theorem dX3_init_182 : decode cX3_init 182 = .ok (.bipush 6, 2) := dk_16 6 (dk_at dksX3_init_7 18 rfl rfl)
theorem dX3_init_184 : decode cX3_init 184 = .ok (.newarray .long, 2) := dk_188_11 (dk_at dksX3_init_7 20 rfl rfl)
theorem dX3_init_186 : decode cX3_init 186 = .ok (.putfield 79, 3) := dk_181 0 79 (dk_at dksX3_init_8 0 rfl rfl)
theorem dX3_init_189 : decode cX3_init 189 = .ok (.aload_n 0, 1) := dk_42 (dk_at dksX3_init_8 3 rfl rfl)
theorem dX3_init_190 : decode cX3_init 190 = .ok (.bipush 6, 2) := dk_16 6 (dk_at dksX3_init_8 4 rfl rfl)
theorem dX3_init_192 : decode cX3_init 192 = .ok (.newarray .long, 2) := dk_188_11 (dk_at dksX3_init_8 6 rfl rfl)
theorem dX3_init_194 : decode cX3_init 194 = .ok (.putfield 82, 3) := dk_181 0 82 (dk_at dksX3_init_8 8 rfl rfl)
theorem dX3_init_197 : decode cX3_init 197 = .ok (.aload_n 0, 1) := dk_42 (dk_at dksX3_init_8 11 rfl rfl)
theorem dX3_init_198 : decode cX3_init 198 = .ok (.bipush 66, 2) := dk_16 66 (dk_at dksX3_init_8 12 rfl rfl)
theorem dX3_init_200 : decode cX3_init 200 = .ok (.newarray .int, 2) := dk_188_10 (dk_at dksX3_init_8 14 rfl rfl)
theorem dX3_init_202 : decode cX3_init 202 = .ok (.putfield 85, 3) := dk_181 0 85 (dk_at dksX3_init_8 16 rfl rfl)
theorem dX3_init_205 : decode cX3_init 205 = .ok (.aload_n 0, 1) := dk_42 (dk_at dksX3_init_8 19 rfl rfl)
theorem dX3_init_206 : decode cX3_init 206 = .ok (.iconst 2, 1) := dk_5 (dk_at dksX3_init_8 20 rfl rfl)
theorem dX3_init_207 : decode cX3_init 207 = .ok (.newarray .boolean, 2) := dk_188_4 (dk_at dksX3_init_8 21 rfl rfl)
theorem dX3_init_209 : decode cX3_init 209 = .ok (.putfield 88, 3) := dk_181 0 88 (dk_at dksX3_init_9 0 rfl rfl)
theorem dX3_init_212 : decode cX3_init 212 = .ok (.aload_n 0, 1) := dk_42 (dk_at dksX3_init_9 3 rfl rfl)
theorem dX3_init_213 : decode cX3_init 213 = .ok (.iconst 2, 1) := dk_5 (dk_at dksX3_init_9 4 rfl rfl)
theorem dX3_init_214 : decode cX3_init 214 = .ok (.newarray .int, 2) := dk_188_10 (dk_at dksX3_init_9 5 rfl rfl)
theorem dX3_init_216 : decode cX3_init 216 = .ok (.putfield 92, 3) := dk_181 0 92 (dk_at dksX3_init_9 7 rfl rfl)
theorem dX3_init_219 : decode cX3_init 219 = .ok (.return_, 1) := dk_177 (dk_at dksX3_init_9 10 rfl rfl)
abbrev cX3_thrown : ByteArray := prog_9_method_2_code
def yX3_thrown : MethodName := ⟨RX3, "thrown", "()I"⟩
theorem dX3_thrown_0 : decode cX3_thrown 0 = .ok (.aload_n 0, 1) := by decide +kernel
theorem dX3_thrown_1 : decode cX3_thrown 1 = .ok (.getfield 95, 3) := by decide +kernel
theorem dX3_thrown_4 : decode cX3_thrown 4 = .ok (.ireturn, 1) := by decide +kernel
abbrev cX3_sign : ByteArray := prog_9_method_11_code
def yX3_sign : MethodName := ⟨RX3, "sign", "(I)I"⟩
def dkwX3_sign_2 : List UInt8 := [132, 2, 255, 167, 255, 226, 42, 180, 0, 112, 172]
abbrev dktX3_sign_2 : List UInt8 := dkwX3_sign_2 ++ []
def dkwX3_sign_1 : List UInt8 := [42, 180, 0, 22, 42, 89, 180, 0, 112, 90, 4, 96, 181, 0, 112, 27, 16, 8, 28, 104, 122, 145, 84]
abbrev dktX3_sign_1 : List UInt8 := dkwX3_sign_1 ++ dktX3_sign_2
def dkwX3_sign_0 : List UInt8 := [42, 3, 181, 0, 95, 42, 180, 0, 112, 7, 96, 16, 80, 164, 0, 5, 2, 172, 6, 61, 28, 155, 0, 32]
abbrev dktX3_sign_0 : List UInt8 := dkwX3_sign_0 ++ dktX3_sign_1
theorem dksX3_sign_0 : cX3_sign.data.toList.drop 0 = dktX3_sign_0 := by decide +kernel
theorem dksX3_sign_1 : cX3_sign.data.toList.drop 24 = dktX3_sign_1 := dk_seg dksX3_sign_0 24 rfl rfl
theorem dksX3_sign_2 : cX3_sign.data.toList.drop 47 = dktX3_sign_2 := dk_seg dksX3_sign_1 23 rfl rfl
theorem dX3_sign_0 : decode cX3_sign 0 = .ok (.aload_n 0, 1) := dk_42 (dk_at dksX3_sign_0 0 rfl rfl)
theorem dX3_sign_1 : decode cX3_sign 1 = .ok (.iconst 0, 1) := dk_3 (dk_at dksX3_sign_0 1 rfl rfl)
theorem dX3_sign_2 : decode cX3_sign 2 = .ok (.putfield 95, 3) := dk_181 0 95 (dk_at dksX3_sign_0 2 rfl rfl)
theorem dX3_sign_5 : decode cX3_sign 5 = .ok (.aload_n 0, 1) := dk_42 (dk_at dksX3_sign_0 5 rfl rfl)
theorem dX3_sign_6 : decode cX3_sign 6 = .ok (.getfield 112, 3) := dk_180 0 112 (dk_at dksX3_sign_0 6 rfl rfl)
theorem dX3_sign_9 : decode cX3_sign 9 = .ok (.iconst 4, 1) := dk_7 (dk_at dksX3_sign_0 9 rfl rfl)
theorem dX3_sign_10 : decode cX3_sign 10 = .ok (.iadd, 1) := dk_96 (dk_at dksX3_sign_0 10 rfl rfl)
theorem dX3_sign_11 : decode cX3_sign 11 = .ok (.bipush 80, 2) := dk_16 80 (dk_at dksX3_sign_0 11 rfl rfl)
theorem dX3_sign_13 : decode cX3_sign 13 = .ok (.if_icmp .le 5, 3) := dk_164 0 5 (dk_at dksX3_sign_0 13 rfl rfl)
theorem dX3_sign_16 : decode cX3_sign 16 = .ok (.iconst (-1), 1) := dk_2 (dk_at dksX3_sign_0 16 rfl rfl)
theorem dX3_sign_17 : decode cX3_sign 17 = .ok (.ireturn, 1) := dk_172 (dk_at dksX3_sign_0 17 rfl rfl)
theorem dX3_sign_18 : decode cX3_sign 18 = .ok (.iconst 3, 1) := dk_6 (dk_at dksX3_sign_0 18 rfl rfl)
theorem dX3_sign_19 : decode cX3_sign 19 = .ok (.istore_n 2, 1) := dk_61 (dk_at dksX3_sign_0 19 rfl rfl)
theorem dX3_sign_20 : decode cX3_sign 20 = .ok (.iload_n 2, 1) := dk_28 (dk_at dksX3_sign_0 20 rfl rfl)
theorem dX3_sign_21 : decode cX3_sign 21 = .ok (.ifCond .lt 32, 3) := dk_155 0 32 (dk_at dksX3_sign_0 21 rfl rfl)
theorem dX3_sign_24 : decode cX3_sign 24 = .ok (.aload_n 0, 1) := dk_42 (dk_at dksX3_sign_1 0 rfl rfl)
theorem dX3_sign_25 : decode cX3_sign 25 = .ok (.getfield 22, 3) := dk_180 0 22 (dk_at dksX3_sign_1 1 rfl rfl)
theorem dX3_sign_28 : decode cX3_sign 28 = .ok (.aload_n 0, 1) := dk_42 (dk_at dksX3_sign_1 4 rfl rfl)
theorem dX3_sign_29 : decode cX3_sign 29 = .ok (.dup, 1) := dk_89 (dk_at dksX3_sign_1 5 rfl rfl)
theorem dX3_sign_30 : decode cX3_sign 30 = .ok (.getfield 112, 3) := dk_180 0 112 (dk_at dksX3_sign_1 6 rfl rfl)
theorem dX3_sign_33 : decode cX3_sign 33 = .ok (.dup_x1, 1) := dk_90 (dk_at dksX3_sign_1 9 rfl rfl)
theorem dX3_sign_34 : decode cX3_sign 34 = .ok (.iconst 1, 1) := dk_4 (dk_at dksX3_sign_1 10 rfl rfl)
theorem dX3_sign_35 : decode cX3_sign 35 = .ok (.iadd, 1) := dk_96 (dk_at dksX3_sign_1 11 rfl rfl)
theorem dX3_sign_36 : decode cX3_sign 36 = .ok (.putfield 112, 3) := dk_181 0 112 (dk_at dksX3_sign_1 12 rfl rfl)
theorem dX3_sign_39 : decode cX3_sign 39 = .ok (.iload_n 1, 1) := dk_27 (dk_at dksX3_sign_1 15 rfl rfl)
theorem dX3_sign_40 : decode cX3_sign 40 = .ok (.bipush 8, 2) := dk_16 8 (dk_at dksX3_sign_1 16 rfl rfl)
theorem dX3_sign_42 : decode cX3_sign 42 = .ok (.iload_n 2, 1) := dk_28 (dk_at dksX3_sign_1 18 rfl rfl)
theorem dX3_sign_43 : decode cX3_sign 43 = .ok (.imul, 1) := dk_104 (dk_at dksX3_sign_1 19 rfl rfl)
theorem dX3_sign_44 : decode cX3_sign 44 = .ok (.ishr, 1) := dk_122 (dk_at dksX3_sign_1 20 rfl rfl)
theorem dX3_sign_45 : decode cX3_sign 45 = .ok (.i2b, 1) := dk_145 (dk_at dksX3_sign_1 21 rfl rfl)
theorem dX3_sign_46 : decode cX3_sign 46 = .ok (.bastore, 1) := dk_84 (dk_at dksX3_sign_1 22 rfl rfl)
theorem dX3_sign_47 : decode cX3_sign 47 = .ok (.iinc 2 (-1), 3) := dk_132 2 255 (dk_at dksX3_sign_2 0 rfl rfl)
theorem dX3_sign_50 : decode cX3_sign 50 = .ok (.goto (-30), 3) := dk_167 255 226 (dk_at dksX3_sign_2 3 rfl rfl)
theorem dX3_sign_53 : decode cX3_sign 53 = .ok (.aload_n 0, 1) := dk_42 (dk_at dksX3_sign_2 6 rfl rfl)
theorem dX3_sign_54 : decode cX3_sign 54 = .ok (.getfield 112, 3) := dk_180 0 112 (dk_at dksX3_sign_2 7 rfl rfl)
theorem dX3_sign_57 : decode cX3_sign 57 = .ok (.ireturn, 1) := dk_172 (dk_at dksX3_sign_2 10 rfl rfl)
abbrev cX3_end : ByteArray := prog_9_method_12_code
def yX3_end : MethodName := ⟨RX3, "end", "(I)Z"⟩
def dkwX3_end_1 : List UInt8 := [4, 172]
abbrev dktX3_end_1 : List UInt8 := dkwX3_end_1 ++ []
def dkwX3_end_0 : List UInt8 := [42, 3, 181, 0, 95, 27, 3, 42, 180, 0, 112, 184, 0, 104, 154, 0, 5, 3, 172, 42, 27, 181, 0, 112]
abbrev dktX3_end_0 : List UInt8 := dkwX3_end_0 ++ dktX3_end_1
theorem dksX3_end_0 : cX3_end.data.toList.drop 0 = dktX3_end_0 := by decide +kernel
theorem dksX3_end_1 : cX3_end.data.toList.drop 24 = dktX3_end_1 := dk_seg dksX3_end_0 24 rfl rfl
theorem dX3_end_0 : decode cX3_end 0 = .ok (.aload_n 0, 1) := dk_42 (dk_at dksX3_end_0 0 rfl rfl)
theorem dX3_end_1 : decode cX3_end 1 = .ok (.iconst 0, 1) := dk_3 (dk_at dksX3_end_0 1 rfl rfl)
theorem dX3_end_2 : decode cX3_end 2 = .ok (.putfield 95, 3) := dk_181 0 95 (dk_at dksX3_end_0 2 rfl rfl)
theorem dX3_end_5 : decode cX3_end 5 = .ok (.iload_n 1, 1) := dk_27 (dk_at dksX3_end_0 5 rfl rfl)
theorem dX3_end_6 : decode cX3_end 6 = .ok (.iconst 0, 1) := dk_3 (dk_at dksX3_end_0 6 rfl rfl)
theorem dX3_end_7 : decode cX3_end 7 = .ok (.aload_n 0, 1) := dk_42 (dk_at dksX3_end_0 7 rfl rfl)
theorem dX3_end_8 : decode cX3_end 8 = .ok (.getfield 112, 3) := dk_180 0 112 (dk_at dksX3_end_0 8 rfl rfl)
theorem dX3_end_11 : decode cX3_end 11 = .ok (.invokestatic 104, 3) := dk_184 0 104 (dk_at dksX3_end_0 11 rfl rfl)
theorem dX3_end_14 : decode cX3_end 14 = .ok (.ifCond .ne 5, 3) := dk_154 0 5 (dk_at dksX3_end_0 14 rfl rfl)
theorem dX3_end_17 : decode cX3_end 17 = .ok (.iconst 0, 1) := dk_3 (dk_at dksX3_end_0 17 rfl rfl)
theorem dX3_end_18 : decode cX3_end 18 = .ok (.ireturn, 1) := dk_172 (dk_at dksX3_end_0 18 rfl rfl)
theorem dX3_end_19 : decode cX3_end 19 = .ok (.aload_n 0, 1) := dk_42 (dk_at dksX3_end_0 19 rfl rfl)
theorem dX3_end_20 : decode cX3_end 20 = .ok (.iload_n 1, 1) := dk_27 (dk_at dksX3_end_0 20 rfl rfl)
theorem dX3_end_21 : decode cX3_end 21 = .ok (.putfield 112, 3) := dk_181 0 112 (dk_at dksX3_end_0 21 rfl rfl)
theorem dX3_end_24 : decode cX3_end 24 = .ok (.iconst 1, 1) := dk_4 (dk_at dksX3_end_1 0 rfl rfl)
theorem dX3_end_25 : decode cX3_end 25 = .ok (.ireturn, 1) := dk_172 (dk_at dksX3_end_1 1 rfl rfl)
abbrev cX3_in : ByteArray := prog_9_method_3_code
def yX3_in : MethodName := ⟨RX3, "in", "(III)Z"⟩
def dkwX3_in_0 : List UInt8 := [26, 27, 161, 0, 12, 26, 28, 163, 0, 7, 4, 167, 0, 4, 3, 172]
abbrev dktX3_in_0 : List UInt8 := dkwX3_in_0 ++ []
theorem dksX3_in_0 : cX3_in.data.toList.drop 0 = dktX3_in_0 := by decide +kernel
theorem dX3_in_0 : decode cX3_in 0 = .ok (.iload_n 0, 1) := dk_26 (dk_at dksX3_in_0 0 rfl rfl)
theorem dX3_in_1 : decode cX3_in 1 = .ok (.iload_n 1, 1) := dk_27 (dk_at dksX3_in_0 1 rfl rfl)
theorem dX3_in_2 : decode cX3_in 2 = .ok (.if_icmp .lt 12, 3) := dk_161 0 12 (dk_at dksX3_in_0 2 rfl rfl)
theorem dX3_in_5 : decode cX3_in 5 = .ok (.iload_n 0, 1) := dk_26 (dk_at dksX3_in_0 5 rfl rfl)
theorem dX3_in_6 : decode cX3_in 6 = .ok (.iload_n 2, 1) := dk_28 (dk_at dksX3_in_0 6 rfl rfl)
theorem dX3_in_7 : decode cX3_in 7 = .ok (.if_icmp .gt 7, 3) := dk_163 0 7 (dk_at dksX3_in_0 7 rfl rfl)
theorem dX3_in_10 : decode cX3_in 10 = .ok (.iconst 1, 1) := dk_4 (dk_at dksX3_in_0 10 rfl rfl)
theorem dX3_in_11 : decode cX3_in 11 = .ok (.goto 4, 3) := dk_167 0 4 (dk_at dksX3_in_0 11 rfl rfl)
theorem dX3_in_14 : decode cX3_in 14 = .ok (.iconst 0, 1) := dk_3 (dk_at dksX3_in_0 14 rfl rfl)
theorem dX3_in_15 : decode cX3_in 15 = .ok (.ireturn, 1) := dk_172 (dk_at dksX3_in_0 15 rfl rfl)
abbrev cX3_lakes : ByteArray := prog_9_method_24_code
def yX3_lakes : MethodName := ⟨RX3, "lakes", "()I"⟩
def dkwX3_lakes_11 : List UInt8 := [42, 89, 180, 0, 166, 4, 96, 181, 0, 166, 27, 172]
abbrev dktX3_lakes_11 : List UInt8 := dkwX3_lakes_11 ++ []
def dkwX3_lakes_10 : List UInt8 := [96, 46, 79, 42, 89, 180, 0, 101, 4, 96, 181, 0, 101, 132, 3, 1, 167, 255, 95, 42, 3, 181, 0, 163]
abbrev dktX3_lakes_10 : List UInt8 := dkwX3_lakes_10 ++ dktX3_lakes_11
def dkwX3_lakes_9 : List UInt8 := [104, 4, 96, 46, 79, 42, 180, 0, 9, 16, 24, 42, 180, 0, 101, 96, 42, 180, 0, 30, 8, 29, 104, 6]
abbrev dktX3_lakes_9 : List UInt8 := dkwX3_lakes_9 ++ dktX3_lakes_10
def dkwX3_lakes_8 : List UInt8 := [42, 180, 0, 101, 96, 3, 79, 42, 180, 0, 9, 16, 18, 42, 180, 0, 101, 96, 42, 180, 0, 30, 8, 29]
abbrev dktX3_lakes_8 : List UInt8 := dkwX3_lakes_8 ++ dktX3_lakes_9
def dkwX3_lakes_7 : List UInt8 := [180, 0, 101, 46, 79, 42, 180, 0, 9, 16, 6, 42, 180, 0, 101, 96, 3, 79, 42, 180, 0, 9, 16, 12]
abbrev dktX3_lakes_7 : List UInt8 := dkwX3_lakes_7 ++ dktX3_lakes_8
def dkwX3_lakes_6 : List UInt8 := [180, 0, 30, 8, 29, 104, 7, 96, 46, 79, 42, 180, 0, 9, 42, 180, 0, 101, 42, 180, 0, 13, 42]
abbrev dktX3_lakes_6 : List UInt8 := dkwX3_lakes_6 ++ dktX3_lakes_7
def dkwX3_lakes_5 : List UInt8 := [180, 0, 101, 42, 180, 0, 30, 8, 29, 104, 5, 96, 46, 79, 42, 180, 0, 19, 42, 180, 0, 101, 42]
abbrev dktX3_lakes_5 : List UInt8 := dkwX3_lakes_5 ++ dktX3_lakes_6
def dkwX3_lakes_4 : List UInt8 := [42, 180, 0, 13, 42, 180, 0, 101, 42, 180, 0, 30, 8, 29, 104, 46, 79, 42, 180, 0, 16, 42]
abbrev dktX3_lakes_4 : List UInt8 := dkwX3_lakes_4 ++ dktX3_lakes_5
def dkwX3_lakes_3 : List UInt8 := [167, 255, 208, 42, 182, 0, 160, 154, 0, 10, 2, 42, 180, 0, 127, 100, 172, 3, 62, 29, 27, 162, 0, 162]
abbrev dktX3_lakes_3 : List UInt8 := dkwX3_lakes_3 ++ dktX3_lakes_4
def dkwX3_lakes_2 : List UInt8 := [180, 0, 124, 182, 0, 146, 167, 0, 8, 42, 27, 182, 0, 157, 132, 1, 1, 42, 16, 59, 182, 0, 142, 61]
abbrev dktX3_lakes_2 : List UInt8 := dkwX3_lakes_2 ++ dktX3_lakes_3
def dkwX3_lakes_1 : List UInt8 := [28, 153, 0, 50, 42, 182, 0, 134, 153, 0, 43, 42, 180, 0, 101, 27, 96, 16, 6, 160, 0, 14, 42, 42]
abbrev dktX3_lakes_1 : List UInt8 := dkwX3_lakes_1 ++ dktX3_lakes_2
def dkwX3_lakes_0 : List UInt8 := [42, 3, 181, 0, 95, 42, 16, 41, 182, 0, 154, 42, 180, 0, 118, 154, 0, 5, 3, 172, 3, 60, 4, 61]
abbrev dktX3_lakes_0 : List UInt8 := dkwX3_lakes_0 ++ dktX3_lakes_1
theorem dksX3_lakes_0 : cX3_lakes.data.toList.drop 0 = dktX3_lakes_0 := by decide +kernel
theorem dksX3_lakes_1 : cX3_lakes.data.toList.drop 24 = dktX3_lakes_1 := dk_seg dksX3_lakes_0 24 rfl rfl
theorem dksX3_lakes_2 : cX3_lakes.data.toList.drop 48 = dktX3_lakes_2 := dk_seg dksX3_lakes_1 24 rfl rfl
theorem dksX3_lakes_3 : cX3_lakes.data.toList.drop 72 = dktX3_lakes_3 := dk_seg dksX3_lakes_2 24 rfl rfl
theorem dksX3_lakes_4 : cX3_lakes.data.toList.drop 96 = dktX3_lakes_4 := dk_seg dksX3_lakes_3 24 rfl rfl
theorem dksX3_lakes_5 : cX3_lakes.data.toList.drop 118 = dktX3_lakes_5 := dk_seg dksX3_lakes_4 22 rfl rfl
theorem dksX3_lakes_6 : cX3_lakes.data.toList.drop 141 = dktX3_lakes_6 := dk_seg dksX3_lakes_5 23 rfl rfl
theorem dksX3_lakes_7 : cX3_lakes.data.toList.drop 164 = dktX3_lakes_7 := dk_seg dksX3_lakes_6 23 rfl rfl
theorem dksX3_lakes_8 : cX3_lakes.data.toList.drop 188 = dktX3_lakes_8 := dk_seg dksX3_lakes_7 24 rfl rfl
theorem dksX3_lakes_9 : cX3_lakes.data.toList.drop 212 = dktX3_lakes_9 := dk_seg dksX3_lakes_8 24 rfl rfl
theorem dksX3_lakes_10 : cX3_lakes.data.toList.drop 236 = dktX3_lakes_10 := dk_seg dksX3_lakes_9 24 rfl rfl
theorem dksX3_lakes_11 : cX3_lakes.data.toList.drop 260 = dktX3_lakes_11 := dk_seg dksX3_lakes_10 24 rfl rfl
theorem dX3_lakes_0 : decode cX3_lakes 0 = .ok (.aload_n 0, 1) := dk_42 (dk_at dksX3_lakes_0 0 rfl rfl)
theorem dX3_lakes_1 : decode cX3_lakes 1 = .ok (.iconst 0, 1) := dk_3 (dk_at dksX3_lakes_0 1 rfl rfl)
theorem dX3_lakes_2 : decode cX3_lakes 2 = .ok (.putfield 95, 3) := dk_181 0 95 (dk_at dksX3_lakes_0 2 rfl rfl)
theorem dX3_lakes_5 : decode cX3_lakes 5 = .ok (.aload_n 0, 1) := dk_42 (dk_at dksX3_lakes_0 5 rfl rfl)
theorem dX3_lakes_6 : decode cX3_lakes 6 = .ok (.bipush 41, 2) := dk_16 41 (dk_at dksX3_lakes_0 6 rfl rfl)
theorem dX3_lakes_8 : decode cX3_lakes 8 = .ok (.invokevirtual 154, 3) := dk_182 0 154 (dk_at dksX3_lakes_0 8 rfl rfl)
theorem dX3_lakes_11 : decode cX3_lakes 11 = .ok (.aload_n 0, 1) := dk_42 (dk_at dksX3_lakes_0 11 rfl rfl)
theorem dX3_lakes_12 : decode cX3_lakes 12 = .ok (.getfield 118, 3) := dk_180 0 118 (dk_at dksX3_lakes_0 12 rfl rfl)
theorem dX3_lakes_15 : decode cX3_lakes 15 = .ok (.ifCond .ne 5, 3) := dk_154 0 5 (dk_at dksX3_lakes_0 15 rfl rfl)
theorem dX3_lakes_18 : decode cX3_lakes 18 = .ok (.iconst 0, 1) := dk_3 (dk_at dksX3_lakes_0 18 rfl rfl)
theorem dX3_lakes_19 : decode cX3_lakes 19 = .ok (.ireturn, 1) := dk_172 (dk_at dksX3_lakes_0 19 rfl rfl)
theorem dX3_lakes_20 : decode cX3_lakes 20 = .ok (.iconst 0, 1) := dk_3 (dk_at dksX3_lakes_0 20 rfl rfl)
theorem dX3_lakes_21 : decode cX3_lakes 21 = .ok (.istore_n 1, 1) := dk_60 (dk_at dksX3_lakes_0 21 rfl rfl)
theorem dX3_lakes_22 : decode cX3_lakes 22 = .ok (.iconst 1, 1) := dk_4 (dk_at dksX3_lakes_0 22 rfl rfl)
theorem dX3_lakes_23 : decode cX3_lakes 23 = .ok (.istore_n 2, 1) := dk_61 (dk_at dksX3_lakes_0 23 rfl rfl)
theorem dX3_lakes_24 : decode cX3_lakes 24 = .ok (.iload_n 2, 1) := dk_28 (dk_at dksX3_lakes_1 0 rfl rfl)
theorem dX3_lakes_25 : decode cX3_lakes 25 = .ok (.ifCond .eq 50, 3) := dk_153 0 50 (dk_at dksX3_lakes_1 1 rfl rfl)
theorem dX3_lakes_28 : decode cX3_lakes 28 = .ok (.aload_n 0, 1) := dk_42 (dk_at dksX3_lakes_1 4 rfl rfl)
theorem dX3_lakes_29 : decode cX3_lakes 29 = .ok (.invokevirtual 134, 3) := dk_182 0 134 (dk_at dksX3_lakes_1 5 rfl rfl)
theorem dX3_lakes_32 : decode cX3_lakes 32 = .ok (.ifCond .eq 43, 3) := dk_153 0 43 (dk_at dksX3_lakes_1 8 rfl rfl)
theorem dX3_lakes_35 : decode cX3_lakes 35 = .ok (.aload_n 0, 1) := dk_42 (dk_at dksX3_lakes_1 11 rfl rfl)
theorem dX3_lakes_36 : decode cX3_lakes 36 = .ok (.getfield 101, 3) := dk_180 0 101 (dk_at dksX3_lakes_1 12 rfl rfl)
theorem dX3_lakes_39 : decode cX3_lakes 39 = .ok (.iload_n 1, 1) := dk_27 (dk_at dksX3_lakes_1 15 rfl rfl)
theorem dX3_lakes_40 : decode cX3_lakes 40 = .ok (.iadd, 1) := dk_96 (dk_at dksX3_lakes_1 16 rfl rfl)
theorem dX3_lakes_41 : decode cX3_lakes 41 = .ok (.bipush 6, 2) := dk_16 6 (dk_at dksX3_lakes_1 17 rfl rfl)
theorem dX3_lakes_43 : decode cX3_lakes 43 = .ok (.if_icmp .ne 14, 3) := dk_160 0 14 (dk_at dksX3_lakes_1 19 rfl rfl)
theorem dX3_lakes_46 : decode cX3_lakes 46 = .ok (.aload_n 0, 1) := dk_42 (dk_at dksX3_lakes_1 22 rfl rfl)
theorem dX3_lakes_47 : decode cX3_lakes 47 = .ok (.aload_n 0, 1) := dk_42 (dk_at dksX3_lakes_1 23 rfl rfl)
theorem dX3_lakes_48 : decode cX3_lakes 48 = .ok (.getfield 124, 3) := dk_180 0 124 (dk_at dksX3_lakes_2 0 rfl rfl)
theorem dX3_lakes_51 : decode cX3_lakes 51 = .ok (.invokevirtual 146, 3) := dk_182 0 146 (dk_at dksX3_lakes_2 3 rfl rfl)
theorem dX3_lakes_54 : decode cX3_lakes 54 = .ok (.goto 8, 3) := dk_167 0 8 (dk_at dksX3_lakes_2 6 rfl rfl)
theorem dX3_lakes_57 : decode cX3_lakes 57 = .ok (.aload_n 0, 1) := dk_42 (dk_at dksX3_lakes_2 9 rfl rfl)
theorem dX3_lakes_58 : decode cX3_lakes 58 = .ok (.iload_n 1, 1) := dk_27 (dk_at dksX3_lakes_2 10 rfl rfl)
theorem dX3_lakes_59 : decode cX3_lakes 59 = .ok (.invokevirtual 157, 3) := dk_182 0 157 (dk_at dksX3_lakes_2 11 rfl rfl)
theorem dX3_lakes_62 : decode cX3_lakes 62 = .ok (.iinc 1 1, 3) := dk_132 1 1 (dk_at dksX3_lakes_2 14 rfl rfl)
theorem dX3_lakes_65 : decode cX3_lakes 65 = .ok (.aload_n 0, 1) := dk_42 (dk_at dksX3_lakes_2 17 rfl rfl)
theorem dX3_lakes_66 : decode cX3_lakes 66 = .ok (.bipush 59, 2) := dk_16 59 (dk_at dksX3_lakes_2 18 rfl rfl)
theorem dX3_lakes_68 : decode cX3_lakes 68 = .ok (.invokevirtual 142, 3) := dk_182 0 142 (dk_at dksX3_lakes_2 20 rfl rfl)
theorem dX3_lakes_71 : decode cX3_lakes 71 = .ok (.istore_n 2, 1) := dk_61 (dk_at dksX3_lakes_2 23 rfl rfl)
theorem dX3_lakes_72 : decode cX3_lakes 72 = .ok (.goto (-48), 3) := dk_167 255 208 (dk_at dksX3_lakes_3 0 rfl rfl)
theorem dX3_lakes_75 : decode cX3_lakes 75 = .ok (.aload_n 0, 1) := dk_42 (dk_at dksX3_lakes_3 3 rfl rfl)
theorem dX3_lakes_76 : decode cX3_lakes 76 = .ok (.invokevirtual 160, 3) := dk_182 0 160 (dk_at dksX3_lakes_3 4 rfl rfl)
theorem dX3_lakes_79 : decode cX3_lakes 79 = .ok (.ifCond .ne 10, 3) := dk_154 0 10 (dk_at dksX3_lakes_3 7 rfl rfl)
theorem dX3_lakes_82 : decode cX3_lakes 82 = .ok (.iconst (-1), 1) := dk_2 (dk_at dksX3_lakes_3 10 rfl rfl)
theorem dX3_lakes_83 : decode cX3_lakes 83 = .ok (.aload_n 0, 1) := dk_42 (dk_at dksX3_lakes_3 11 rfl rfl)
theorem dX3_lakes_84 : decode cX3_lakes 84 = .ok (.getfield 127, 3) := dk_180 0 127 (dk_at dksX3_lakes_3 12 rfl rfl)
theorem dX3_lakes_87 : decode cX3_lakes 87 = .ok (.isub, 1) := dk_100 (dk_at dksX3_lakes_3 15 rfl rfl)
theorem dX3_lakes_88 : decode cX3_lakes 88 = .ok (.ireturn, 1) := dk_172 (dk_at dksX3_lakes_3 16 rfl rfl)
theorem dX3_lakes_89 : decode cX3_lakes 89 = .ok (.iconst 0, 1) := dk_3 (dk_at dksX3_lakes_3 17 rfl rfl)
theorem dX3_lakes_90 : decode cX3_lakes 90 = .ok (.istore_n 3, 1) := dk_62 (dk_at dksX3_lakes_3 18 rfl rfl)
theorem dX3_lakes_91 : decode cX3_lakes 91 = .ok (.iload_n 3, 1) := dk_29 (dk_at dksX3_lakes_3 19 rfl rfl)
theorem dX3_lakes_92 : decode cX3_lakes 92 = .ok (.iload_n 1, 1) := dk_27 (dk_at dksX3_lakes_3 20 rfl rfl)
theorem dX3_lakes_93 : decode cX3_lakes 93 = .ok (.if_icmp .ge 162, 3) := dk_162 0 162 (dk_at dksX3_lakes_3 21 rfl rfl)
theorem dX3_lakes_96 : decode cX3_lakes 96 = .ok (.aload_n 0, 1) := dk_42 (dk_at dksX3_lakes_4 0 rfl rfl)
theorem dX3_lakes_97 : decode cX3_lakes 97 = .ok (.getfield 13, 3) := dk_180 0 13 (dk_at dksX3_lakes_4 1 rfl rfl)
theorem dX3_lakes_100 : decode cX3_lakes 100 = .ok (.aload_n 0, 1) := dk_42 (dk_at dksX3_lakes_4 4 rfl rfl)
theorem dX3_lakes_101 : decode cX3_lakes 101 = .ok (.getfield 101, 3) := dk_180 0 101 (dk_at dksX3_lakes_4 5 rfl rfl)
theorem dX3_lakes_104 : decode cX3_lakes 104 = .ok (.aload_n 0, 1) := dk_42 (dk_at dksX3_lakes_4 8 rfl rfl)
theorem dX3_lakes_105 : decode cX3_lakes 105 = .ok (.getfield 30, 3) := dk_180 0 30 (dk_at dksX3_lakes_4 9 rfl rfl)
theorem dX3_lakes_108 : decode cX3_lakes 108 = .ok (.iconst 5, 1) := dk_8 (dk_at dksX3_lakes_4 12 rfl rfl)
theorem dX3_lakes_109 : decode cX3_lakes 109 = .ok (.iload_n 3, 1) := dk_29 (dk_at dksX3_lakes_4 13 rfl rfl)
theorem dX3_lakes_110 : decode cX3_lakes 110 = .ok (.imul, 1) := dk_104 (dk_at dksX3_lakes_4 14 rfl rfl)
theorem dX3_lakes_111 : decode cX3_lakes 111 = .ok (.iaload, 1) := dk_46 (dk_at dksX3_lakes_4 15 rfl rfl)
theorem dX3_lakes_112 : decode cX3_lakes 112 = .ok (.iastore, 1) := dk_79 (dk_at dksX3_lakes_4 16 rfl rfl)
theorem dX3_lakes_113 : decode cX3_lakes 113 = .ok (.aload_n 0, 1) := dk_42 (dk_at dksX3_lakes_4 17 rfl rfl)
theorem dX3_lakes_114 : decode cX3_lakes 114 = .ok (.getfield 16, 3) := dk_180 0 16 (dk_at dksX3_lakes_4 18 rfl rfl)
theorem dX3_lakes_117 : decode cX3_lakes 117 = .ok (.aload_n 0, 1) := dk_42 (dk_at dksX3_lakes_4 21 rfl rfl)
theorem dX3_lakes_118 : decode cX3_lakes 118 = .ok (.getfield 101, 3) := dk_180 0 101 (dk_at dksX3_lakes_5 0 rfl rfl)
theorem dX3_lakes_121 : decode cX3_lakes 121 = .ok (.aload_n 0, 1) := dk_42 (dk_at dksX3_lakes_5 3 rfl rfl)
theorem dX3_lakes_122 : decode cX3_lakes 122 = .ok (.getfield 30, 3) := dk_180 0 30 (dk_at dksX3_lakes_5 4 rfl rfl)
theorem dX3_lakes_125 : decode cX3_lakes 125 = .ok (.iconst 5, 1) := dk_8 (dk_at dksX3_lakes_5 7 rfl rfl)
theorem dX3_lakes_126 : decode cX3_lakes 126 = .ok (.iload_n 3, 1) := dk_29 (dk_at dksX3_lakes_5 8 rfl rfl)
theorem dX3_lakes_127 : decode cX3_lakes 127 = .ok (.imul, 1) := dk_104 (dk_at dksX3_lakes_5 9 rfl rfl)
theorem dX3_lakes_128 : decode cX3_lakes 128 = .ok (.iconst 2, 1) := dk_5 (dk_at dksX3_lakes_5 10 rfl rfl)
theorem dX3_lakes_129 : decode cX3_lakes 129 = .ok (.iadd, 1) := dk_96 (dk_at dksX3_lakes_5 11 rfl rfl)
theorem dX3_lakes_130 : decode cX3_lakes 130 = .ok (.iaload, 1) := dk_46 (dk_at dksX3_lakes_5 12 rfl rfl)
theorem dX3_lakes_131 : decode cX3_lakes 131 = .ok (.iastore, 1) := dk_79 (dk_at dksX3_lakes_5 13 rfl rfl)
theorem dX3_lakes_132 : decode cX3_lakes 132 = .ok (.aload_n 0, 1) := dk_42 (dk_at dksX3_lakes_5 14 rfl rfl)
theorem dX3_lakes_133 : decode cX3_lakes 133 = .ok (.getfield 19, 3) := dk_180 0 19 (dk_at dksX3_lakes_5 15 rfl rfl)
theorem dX3_lakes_136 : decode cX3_lakes 136 = .ok (.aload_n 0, 1) := dk_42 (dk_at dksX3_lakes_5 18 rfl rfl)
theorem dX3_lakes_137 : decode cX3_lakes 137 = .ok (.getfield 101, 3) := dk_180 0 101 (dk_at dksX3_lakes_5 19 rfl rfl)
theorem dX3_lakes_140 : decode cX3_lakes 140 = .ok (.aload_n 0, 1) := dk_42 (dk_at dksX3_lakes_5 22 rfl rfl)
theorem dX3_lakes_141 : decode cX3_lakes 141 = .ok (.getfield 30, 3) := dk_180 0 30 (dk_at dksX3_lakes_6 0 rfl rfl)
theorem dX3_lakes_144 : decode cX3_lakes 144 = .ok (.iconst 5, 1) := dk_8 (dk_at dksX3_lakes_6 3 rfl rfl)
theorem dX3_lakes_145 : decode cX3_lakes 145 = .ok (.iload_n 3, 1) := dk_29 (dk_at dksX3_lakes_6 4 rfl rfl)
theorem dX3_lakes_146 : decode cX3_lakes 146 = .ok (.imul, 1) := dk_104 (dk_at dksX3_lakes_6 5 rfl rfl)
theorem dX3_lakes_147 : decode cX3_lakes 147 = .ok (.iconst 4, 1) := dk_7 (dk_at dksX3_lakes_6 6 rfl rfl)
theorem dX3_lakes_148 : decode cX3_lakes 148 = .ok (.iadd, 1) := dk_96 (dk_at dksX3_lakes_6 7 rfl rfl)
theorem dX3_lakes_149 : decode cX3_lakes 149 = .ok (.iaload, 1) := dk_46 (dk_at dksX3_lakes_6 8 rfl rfl)
theorem dX3_lakes_150 : decode cX3_lakes 150 = .ok (.iastore, 1) := dk_79 (dk_at dksX3_lakes_6 9 rfl rfl)
theorem dX3_lakes_151 : decode cX3_lakes 151 = .ok (.aload_n 0, 1) := dk_42 (dk_at dksX3_lakes_6 10 rfl rfl)
theorem dX3_lakes_152 : decode cX3_lakes 152 = .ok (.getfield 9, 3) := dk_180 0 9 (dk_at dksX3_lakes_6 11 rfl rfl)
theorem dX3_lakes_155 : decode cX3_lakes 155 = .ok (.aload_n 0, 1) := dk_42 (dk_at dksX3_lakes_6 14 rfl rfl)
theorem dX3_lakes_156 : decode cX3_lakes 156 = .ok (.getfield 101, 3) := dk_180 0 101 (dk_at dksX3_lakes_6 15 rfl rfl)
theorem dX3_lakes_159 : decode cX3_lakes 159 = .ok (.aload_n 0, 1) := dk_42 (dk_at dksX3_lakes_6 18 rfl rfl)
theorem dX3_lakes_160 : decode cX3_lakes 160 = .ok (.getfield 13, 3) := dk_180 0 13 (dk_at dksX3_lakes_6 19 rfl rfl)
theorem dX3_lakes_163 : decode cX3_lakes 163 = .ok (.aload_n 0, 1) := dk_42 (dk_at dksX3_lakes_6 22 rfl rfl)
theorem dX3_lakes_164 : decode cX3_lakes 164 = .ok (.getfield 101, 3) := dk_180 0 101 (dk_at dksX3_lakes_7 0 rfl rfl)
theorem dX3_lakes_167 : decode cX3_lakes 167 = .ok (.iaload, 1) := dk_46 (dk_at dksX3_lakes_7 3 rfl rfl)
theorem dX3_lakes_168 : decode cX3_lakes 168 = .ok (.iastore, 1) := dk_79 (dk_at dksX3_lakes_7 4 rfl rfl)
theorem dX3_lakes_169 : decode cX3_lakes 169 = .ok (.aload_n 0, 1) := dk_42 (dk_at dksX3_lakes_7 5 rfl rfl)
theorem dX3_lakes_170 : decode cX3_lakes 170 = .ok (.getfield 9, 3) := dk_180 0 9 (dk_at dksX3_lakes_7 6 rfl rfl)
theorem dX3_lakes_173 : decode cX3_lakes 173 = .ok (.bipush 6, 2) := dk_16 6 (dk_at dksX3_lakes_7 9 rfl rfl)
theorem dX3_lakes_175 : decode cX3_lakes 175 = .ok (.aload_n 0, 1) := dk_42 (dk_at dksX3_lakes_7 11 rfl rfl)
theorem dX3_lakes_176 : decode cX3_lakes 176 = .ok (.getfield 101, 3) := dk_180 0 101 (dk_at dksX3_lakes_7 12 rfl rfl)
theorem dX3_lakes_179 : decode cX3_lakes 179 = .ok (.iadd, 1) := dk_96 (dk_at dksX3_lakes_7 15 rfl rfl)
theorem dX3_lakes_180 : decode cX3_lakes 180 = .ok (.iconst 0, 1) := dk_3 (dk_at dksX3_lakes_7 16 rfl rfl)
theorem dX3_lakes_181 : decode cX3_lakes 181 = .ok (.iastore, 1) := dk_79 (dk_at dksX3_lakes_7 17 rfl rfl)
theorem dX3_lakes_182 : decode cX3_lakes 182 = .ok (.aload_n 0, 1) := dk_42 (dk_at dksX3_lakes_7 18 rfl rfl)
theorem dX3_lakes_183 : decode cX3_lakes 183 = .ok (.getfield 9, 3) := dk_180 0 9 (dk_at dksX3_lakes_7 19 rfl rfl)
theorem dX3_lakes_186 : decode cX3_lakes 186 = .ok (.bipush 12, 2) := dk_16 12 (dk_at dksX3_lakes_7 22 rfl rfl)
theorem dX3_lakes_188 : decode cX3_lakes 188 = .ok (.aload_n 0, 1) := dk_42 (dk_at dksX3_lakes_8 0 rfl rfl)
theorem dX3_lakes_189 : decode cX3_lakes 189 = .ok (.getfield 101, 3) := dk_180 0 101 (dk_at dksX3_lakes_8 1 rfl rfl)
theorem dX3_lakes_192 : decode cX3_lakes 192 = .ok (.iadd, 1) := dk_96 (dk_at dksX3_lakes_8 4 rfl rfl)
theorem dX3_lakes_193 : decode cX3_lakes 193 = .ok (.iconst 0, 1) := dk_3 (dk_at dksX3_lakes_8 5 rfl rfl)
theorem dX3_lakes_194 : decode cX3_lakes 194 = .ok (.iastore, 1) := dk_79 (dk_at dksX3_lakes_8 6 rfl rfl)
theorem dX3_lakes_195 : decode cX3_lakes 195 = .ok (.aload_n 0, 1) := dk_42 (dk_at dksX3_lakes_8 7 rfl rfl)
theorem dX3_lakes_196 : decode cX3_lakes 196 = .ok (.getfield 9, 3) := dk_180 0 9 (dk_at dksX3_lakes_8 8 rfl rfl)
theorem dX3_lakes_199 : decode cX3_lakes 199 = .ok (.bipush 18, 2) := dk_16 18 (dk_at dksX3_lakes_8 11 rfl rfl)
theorem dX3_lakes_201 : decode cX3_lakes 201 = .ok (.aload_n 0, 1) := dk_42 (dk_at dksX3_lakes_8 13 rfl rfl)
theorem dX3_lakes_202 : decode cX3_lakes 202 = .ok (.getfield 101, 3) := dk_180 0 101 (dk_at dksX3_lakes_8 14 rfl rfl)
theorem dX3_lakes_205 : decode cX3_lakes 205 = .ok (.iadd, 1) := dk_96 (dk_at dksX3_lakes_8 17 rfl rfl)
theorem dX3_lakes_206 : decode cX3_lakes 206 = .ok (.aload_n 0, 1) := dk_42 (dk_at dksX3_lakes_8 18 rfl rfl)
theorem dX3_lakes_207 : decode cX3_lakes 207 = .ok (.getfield 30, 3) := dk_180 0 30 (dk_at dksX3_lakes_8 19 rfl rfl)
theorem dX3_lakes_210 : decode cX3_lakes 210 = .ok (.iconst 5, 1) := dk_8 (dk_at dksX3_lakes_8 22 rfl rfl)
theorem dX3_lakes_211 : decode cX3_lakes 211 = .ok (.iload_n 3, 1) := dk_29 (dk_at dksX3_lakes_8 23 rfl rfl)
theorem dX3_lakes_212 : decode cX3_lakes 212 = .ok (.imul, 1) := dk_104 (dk_at dksX3_lakes_9 0 rfl rfl)
theorem dX3_lakes_213 : decode cX3_lakes 213 = .ok (.iconst 1, 1) := dk_4 (dk_at dksX3_lakes_9 1 rfl rfl)
theorem dX3_lakes_214 : decode cX3_lakes 214 = .ok (.iadd, 1) := dk_96 (dk_at dksX3_lakes_9 2 rfl rfl)
theorem dX3_lakes_215 : decode cX3_lakes 215 = .ok (.iaload, 1) := dk_46 (dk_at dksX3_lakes_9 3 rfl rfl)
theorem dX3_lakes_216 : decode cX3_lakes 216 = .ok (.iastore, 1) := dk_79 (dk_at dksX3_lakes_9 4 rfl rfl)
theorem dX3_lakes_217 : decode cX3_lakes 217 = .ok (.aload_n 0, 1) := dk_42 (dk_at dksX3_lakes_9 5 rfl rfl)
theorem dX3_lakes_218 : decode cX3_lakes 218 = .ok (.getfield 9, 3) := dk_180 0 9 (dk_at dksX3_lakes_9 6 rfl rfl)
theorem dX3_lakes_221 : decode cX3_lakes 221 = .ok (.bipush 24, 2) := dk_16 24 (dk_at dksX3_lakes_9 9 rfl rfl)
theorem dX3_lakes_223 : decode cX3_lakes 223 = .ok (.aload_n 0, 1) := dk_42 (dk_at dksX3_lakes_9 11 rfl rfl)
theorem dX3_lakes_224 : decode cX3_lakes 224 = .ok (.getfield 101, 3) := dk_180 0 101 (dk_at dksX3_lakes_9 12 rfl rfl)
theorem dX3_lakes_227 : decode cX3_lakes 227 = .ok (.iadd, 1) := dk_96 (dk_at dksX3_lakes_9 15 rfl rfl)
theorem dX3_lakes_228 : decode cX3_lakes 228 = .ok (.aload_n 0, 1) := dk_42 (dk_at dksX3_lakes_9 16 rfl rfl)
theorem dX3_lakes_229 : decode cX3_lakes 229 = .ok (.getfield 30, 3) := dk_180 0 30 (dk_at dksX3_lakes_9 17 rfl rfl)
theorem dX3_lakes_232 : decode cX3_lakes 232 = .ok (.iconst 5, 1) := dk_8 (dk_at dksX3_lakes_9 20 rfl rfl)
theorem dX3_lakes_233 : decode cX3_lakes 233 = .ok (.iload_n 3, 1) := dk_29 (dk_at dksX3_lakes_9 21 rfl rfl)
theorem dX3_lakes_234 : decode cX3_lakes 234 = .ok (.imul, 1) := dk_104 (dk_at dksX3_lakes_9 22 rfl rfl)
theorem dX3_lakes_235 : decode cX3_lakes 235 = .ok (.iconst 3, 1) := dk_6 (dk_at dksX3_lakes_9 23 rfl rfl)
theorem dX3_lakes_236 : decode cX3_lakes 236 = .ok (.iadd, 1) := dk_96 (dk_at dksX3_lakes_10 0 rfl rfl)
theorem dX3_lakes_237 : decode cX3_lakes 237 = .ok (.iaload, 1) := dk_46 (dk_at dksX3_lakes_10 1 rfl rfl)
theorem dX3_lakes_238 : decode cX3_lakes 238 = .ok (.iastore, 1) := dk_79 (dk_at dksX3_lakes_10 2 rfl rfl)
theorem dX3_lakes_239 : decode cX3_lakes 239 = .ok (.aload_n 0, 1) := dk_42 (dk_at dksX3_lakes_10 3 rfl rfl)
theorem dX3_lakes_240 : decode cX3_lakes 240 = .ok (.dup, 1) := dk_89 (dk_at dksX3_lakes_10 4 rfl rfl)
theorem dX3_lakes_241 : decode cX3_lakes 241 = .ok (.getfield 101, 3) := dk_180 0 101 (dk_at dksX3_lakes_10 5 rfl rfl)
theorem dX3_lakes_244 : decode cX3_lakes 244 = .ok (.iconst 1, 1) := dk_4 (dk_at dksX3_lakes_10 8 rfl rfl)
theorem dX3_lakes_245 : decode cX3_lakes 245 = .ok (.iadd, 1) := dk_96 (dk_at dksX3_lakes_10 9 rfl rfl)
theorem dX3_lakes_246 : decode cX3_lakes 246 = .ok (.putfield 101, 3) := dk_181 0 101 (dk_at dksX3_lakes_10 10 rfl rfl)
theorem dX3_lakes_249 : decode cX3_lakes 249 = .ok (.iinc 3 1, 3) := dk_132 3 1 (dk_at dksX3_lakes_10 13 rfl rfl)
theorem dX3_lakes_252 : decode cX3_lakes 252 = .ok (.goto (-161), 3) := dk_167 255 95 (dk_at dksX3_lakes_10 16 rfl rfl)
theorem dX3_lakes_255 : decode cX3_lakes 255 = .ok (.aload_n 0, 1) := dk_42 (dk_at dksX3_lakes_10 19 rfl rfl)
theorem dX3_lakes_256 : decode cX3_lakes 256 = .ok (.iconst 0, 1) := dk_3 (dk_at dksX3_lakes_10 20 rfl rfl)
theorem dX3_lakes_257 : decode cX3_lakes 257 = .ok (.putfield 163, 3) := dk_181 0 163 (dk_at dksX3_lakes_10 21 rfl rfl)
theorem dX3_lakes_260 : decode cX3_lakes 260 = .ok (.aload_n 0, 1) := dk_42 (dk_at dksX3_lakes_11 0 rfl rfl)
theorem dX3_lakes_261 : decode cX3_lakes 261 = .ok (.dup, 1) := dk_89 (dk_at dksX3_lakes_11 1 rfl rfl)
theorem dX3_lakes_262 : decode cX3_lakes 262 = .ok (.getfield 166, 3) := dk_180 0 166 (dk_at dksX3_lakes_11 2 rfl rfl)
theorem dX3_lakes_265 : decode cX3_lakes 265 = .ok (.iconst 1, 1) := dk_4 (dk_at dksX3_lakes_11 5 rfl rfl)
theorem dX3_lakes_266 : decode cX3_lakes 266 = .ok (.iadd, 1) := dk_96 (dk_at dksX3_lakes_11 6 rfl rfl)
theorem dX3_lakes_267 : decode cX3_lakes 267 = .ok (.putfield 166, 3) := dk_181 0 166 (dk_at dksX3_lakes_11 7 rfl rfl)
theorem dX3_lakes_270 : decode cX3_lakes 270 = .ok (.iload_n 1, 1) := dk_27 (dk_at dksX3_lakes_11 10 rfl rfl)
theorem dX3_lakes_271 : decode cX3_lakes 271 = .ok (.ireturn, 1) := dk_172 (dk_at dksX3_lakes_11 11 rfl rfl)
abbrev cX3_beginText : ByteArray := prog_9_method_14_code
def yX3_beginText : MethodName := ⟨RX3, "beginText", "(I)V"⟩
def dkwX3_beginText_0 : List UInt8 := [42, 42, 180, 0, 22, 42, 180, 0, 112, 27, 182, 0, 130, 42, 3, 181, 0, 112, 177]
abbrev dktX3_beginText_0 : List UInt8 := dkwX3_beginText_0 ++ []
theorem dksX3_beginText_0 : cX3_beginText.data.toList.drop 0 = dktX3_beginText_0 := by decide +kernel
theorem dX3_beginText_0 : decode cX3_beginText 0 = .ok (.aload_n 0, 1) := dk_42 (dk_at dksX3_beginText_0 0 rfl rfl)
theorem dX3_beginText_1 : decode cX3_beginText 1 = .ok (.aload_n 0, 1) := dk_42 (dk_at dksX3_beginText_0 1 rfl rfl)
theorem dX3_beginText_2 : decode cX3_beginText 2 = .ok (.getfield 22, 3) := dk_180 0 22 (dk_at dksX3_beginText_0 2 rfl rfl)
theorem dX3_beginText_5 : decode cX3_beginText 5 = .ok (.aload_n 0, 1) := dk_42 (dk_at dksX3_beginText_0 5 rfl rfl)
theorem dX3_beginText_6 : decode cX3_beginText 6 = .ok (.getfield 112, 3) := dk_180 0 112 (dk_at dksX3_beginText_0 6 rfl rfl)
theorem dX3_beginText_9 : decode cX3_beginText 9 = .ok (.iload_n 1, 1) := dk_27 (dk_at dksX3_beginText_0 9 rfl rfl)
theorem dX3_beginText_10 : decode cX3_beginText 10 = .ok (.invokevirtual 130, 3) := dk_182 0 130 (dk_at dksX3_beginText_0 10 rfl rfl)
theorem dX3_beginText_13 : decode cX3_beginText 13 = .ok (.aload_n 0, 1) := dk_42 (dk_at dksX3_beginText_0 13 rfl rfl)
theorem dX3_beginText_14 : decode cX3_beginText 14 = .ok (.iconst 0, 1) := dk_3 (dk_at dksX3_beginText_0 14 rfl rfl)
theorem dX3_beginText_15 : decode cX3_beginText 15 = .ok (.putfield 112, 3) := dk_181 0 112 (dk_at dksX3_beginText_0 15 rfl rfl)
theorem dX3_beginText_18 : decode cX3_beginText 18 = .ok (.return_, 1) := dk_177 (dk_at dksX3_beginText_0 18 rfl rfl)
abbrev cX3_begin : ByteArray := prog_9_method_13_code
def yX3_begin : MethodName := ⟨RX3, "begin", "([BII)V"⟩
def dkwX3_begin_1 : List UInt8 := [181, 0, 127, 177]
abbrev dktX3_begin_1 : List UInt8 := dkwX3_begin_1 ++ []
def dkwX3_begin_0 : List UInt8 := [42, 43, 181, 0, 115, 42, 28, 181, 0, 118, 42, 29, 181, 0, 121, 42, 3, 181, 0, 124, 42, 2]
abbrev dktX3_begin_0 : List UInt8 := dkwX3_begin_0 ++ dktX3_begin_1
theorem dksX3_begin_0 : cX3_begin.data.toList.drop 0 = dktX3_begin_0 := by decide +kernel
theorem dksX3_begin_1 : cX3_begin.data.toList.drop 22 = dktX3_begin_1 := dk_seg dksX3_begin_0 22 rfl rfl
theorem dX3_begin_0 : decode cX3_begin 0 = .ok (.aload_n 0, 1) := dk_42 (dk_at dksX3_begin_0 0 rfl rfl)
theorem dX3_begin_1 : decode cX3_begin 1 = .ok (.aload_n 1, 1) := dk_43 (dk_at dksX3_begin_0 1 rfl rfl)
theorem dX3_begin_2 : decode cX3_begin 2 = .ok (.putfield 115, 3) := dk_181 0 115 (dk_at dksX3_begin_0 2 rfl rfl)
theorem dX3_begin_5 : decode cX3_begin 5 = .ok (.aload_n 0, 1) := dk_42 (dk_at dksX3_begin_0 5 rfl rfl)
theorem dX3_begin_6 : decode cX3_begin 6 = .ok (.iload_n 2, 1) := dk_28 (dk_at dksX3_begin_0 6 rfl rfl)
theorem dX3_begin_7 : decode cX3_begin 7 = .ok (.putfield 118, 3) := dk_181 0 118 (dk_at dksX3_begin_0 7 rfl rfl)
theorem dX3_begin_10 : decode cX3_begin 10 = .ok (.aload_n 0, 1) := dk_42 (dk_at dksX3_begin_0 10 rfl rfl)
theorem dX3_begin_11 : decode cX3_begin 11 = .ok (.iload_n 3, 1) := dk_29 (dk_at dksX3_begin_0 11 rfl rfl)
theorem dX3_begin_12 : decode cX3_begin 12 = .ok (.putfield 121, 3) := dk_181 0 121 (dk_at dksX3_begin_0 12 rfl rfl)
theorem dX3_begin_15 : decode cX3_begin 15 = .ok (.aload_n 0, 1) := dk_42 (dk_at dksX3_begin_0 15 rfl rfl)
theorem dX3_begin_16 : decode cX3_begin 16 = .ok (.iconst 0, 1) := dk_3 (dk_at dksX3_begin_0 16 rfl rfl)
theorem dX3_begin_17 : decode cX3_begin 17 = .ok (.putfield 124, 3) := dk_181 0 124 (dk_at dksX3_begin_0 17 rfl rfl)
theorem dX3_begin_20 : decode cX3_begin 20 = .ok (.aload_n 0, 1) := dk_42 (dk_at dksX3_begin_0 20 rfl rfl)
theorem dX3_begin_21 : decode cX3_begin 21 = .ok (.iconst (-1), 1) := dk_2 (dk_at dksX3_begin_0 21 rfl rfl)
theorem dX3_begin_22 : decode cX3_begin 22 = .ok (.putfield 127, 3) := dk_181 0 127 (dk_at dksX3_begin_1 0 rfl rfl)
theorem dX3_begin_25 : decode cX3_begin 25 = .ok (.return_, 1) := dk_177 (dk_at dksX3_begin_1 3 rfl rfl)
abbrev cX3_fine : ByteArray := prog_9_method_16_code
def yX3_fine : MethodName := ⟨RX3, "fine", "()Z"⟩
def dkwX3_fine_0 : List UInt8 := [42, 180, 0, 127, 2, 160, 0, 7, 4, 167, 0, 4, 3, 172]
abbrev dktX3_fine_0 : List UInt8 := dkwX3_fine_0 ++ []
theorem dksX3_fine_0 : cX3_fine.data.toList.drop 0 = dktX3_fine_0 := by decide +kernel
theorem dX3_fine_0 : decode cX3_fine 0 = .ok (.aload_n 0, 1) := dk_42 (dk_at dksX3_fine_0 0 rfl rfl)
theorem dX3_fine_1 : decode cX3_fine 1 = .ok (.getfield 127, 3) := dk_180 0 127 (dk_at dksX3_fine_0 1 rfl rfl)
theorem dX3_fine_4 : decode cX3_fine 4 = .ok (.iconst (-1), 1) := dk_2 (dk_at dksX3_fine_0 4 rfl rfl)
theorem dX3_fine_5 : decode cX3_fine 5 = .ok (.if_icmp .ne 7, 3) := dk_160 0 7 (dk_at dksX3_fine_0 5 rfl rfl)
theorem dX3_fine_8 : decode cX3_fine 8 = .ok (.iconst 1, 1) := dk_4 (dk_at dksX3_fine_0 8 rfl rfl)
theorem dX3_fine_9 : decode cX3_fine 9 = .ok (.goto 4, 3) := dk_167 0 4 (dk_at dksX3_fine_0 9 rfl rfl)
theorem dX3_fine_12 : decode cX3_fine 12 = .ok (.iconst 0, 1) := dk_3 (dk_at dksX3_fine_0 12 rfl rfl)
theorem dX3_fine_13 : decode cX3_fine 13 = .ok (.ireturn, 1) := dk_172 (dk_at dksX3_fine_0 13 rfl rfl)
abbrev cX3_fault : ByteArray := prog_9_method_17_code
def yX3_fault : MethodName := ⟨RX3, "fault", "(I)V"⟩
def dkwX3_fault_0 : List UInt8 := [42, 182, 0, 134, 153, 0, 8, 42, 27, 181, 0, 127, 177]
abbrev dktX3_fault_0 : List UInt8 := dkwX3_fault_0 ++ []
theorem dksX3_fault_0 : cX3_fault.data.toList.drop 0 = dktX3_fault_0 := by decide +kernel
theorem dX3_fault_0 : decode cX3_fault 0 = .ok (.aload_n 0, 1) := dk_42 (dk_at dksX3_fault_0 0 rfl rfl)
theorem dX3_fault_1 : decode cX3_fault 1 = .ok (.invokevirtual 134, 3) := dk_182 0 134 (dk_at dksX3_fault_0 1 rfl rfl)
theorem dX3_fault_4 : decode cX3_fault 4 = .ok (.ifCond .eq 8, 3) := dk_153 0 8 (dk_at dksX3_fault_0 4 rfl rfl)
theorem dX3_fault_7 : decode cX3_fault 7 = .ok (.aload_n 0, 1) := dk_42 (dk_at dksX3_fault_0 7 rfl rfl)
theorem dX3_fault_8 : decode cX3_fault 8 = .ok (.iload_n 1, 1) := dk_27 (dk_at dksX3_fault_0 8 rfl rfl)
theorem dX3_fault_9 : decode cX3_fault 9 = .ok (.putfield 127, 3) := dk_181 0 127 (dk_at dksX3_fault_0 9 rfl rfl)
theorem dX3_fault_12 : decode cX3_fault 12 = .ok (.return_, 1) := dk_177 (dk_at dksX3_fault_0 12 rfl rfl)
abbrev cX3_readLake : ByteArray := prog_9_method_23_code
def yX3_readLake : MethodName := ⟨RX3, "readLake", "(I)V"⟩
def dkwX3_readLake_5 : List UInt8 := [182, 0, 142, 153, 0, 7, 2, 167, 0, 15, 42, 16, 48, 42, 180, 0, 101, 27, 96, 182, 0, 150, 79, 177]
abbrev dktX3_readLake_5 : List UInt8 := dkwX3_readLake_5 ++ []
def dkwX3_readLake_4 : List UInt8 := [180, 0, 30, 28, 6, 96, 42, 16, 97, 7, 182, 0, 150, 79, 42, 180, 0, 30, 28, 7, 96, 42, 16, 45]
abbrev dktX3_readLake_4 : List UInt8 := dkwX3_readLake_4 ++ dktX3_readLake_5
def dkwX3_readLake_3 : List UInt8 := [16, 10, 182, 0, 150, 79, 42, 180, 0, 30, 28, 5, 96, 42, 16, 48, 16, 10, 182, 0, 150, 79, 42]
abbrev dktX3_readLake_3 : List UInt8 := dkwX3_readLake_3 ++ dktX3_readLake_4
def dkwX3_readLake_2 : List UInt8 := [154, 0, 13, 42, 42, 180, 0, 124, 4, 100, 182, 0, 146, 42, 180, 0, 30, 28, 4, 96, 42, 16, 48]
abbrev dktX3_readLake_2 : List UInt8 := dkwX3_readLake_2 ++ dktX3_readLake_3
def dkwX3_readLake_1 : List UInt8 := [16, 48, 16, 10, 182, 0, 150, 96, 79, 42, 182, 0, 134, 153, 0, 22, 42, 180, 0, 30, 28, 46]
abbrev dktX3_readLake_1 : List UInt8 := dkwX3_readLake_1 ++ dktX3_readLake_2
def dkwX3_readLake_0 : List UInt8 := [8, 27, 104, 61, 42, 16, 48, 16, 10, 182, 0, 150, 62, 42, 180, 0, 30, 28, 16, 10, 29, 104, 42]
abbrev dktX3_readLake_0 : List UInt8 := dkwX3_readLake_0 ++ dktX3_readLake_1
theorem dksX3_readLake_0 : cX3_readLake.data.toList.drop 0 = dktX3_readLake_0 := by decide +kernel
theorem dksX3_readLake_1 : cX3_readLake.data.toList.drop 23 = dktX3_readLake_1 := dk_seg dksX3_readLake_0 23 rfl rfl
theorem dksX3_readLake_2 : cX3_readLake.data.toList.drop 45 = dktX3_readLake_2 := dk_seg dksX3_readLake_1 22 rfl rfl
theorem dksX3_readLake_3 : cX3_readLake.data.toList.drop 68 = dktX3_readLake_3 := dk_seg dksX3_readLake_2 23 rfl rfl
theorem dksX3_readLake_4 : cX3_readLake.data.toList.drop 91 = dktX3_readLake_4 := dk_seg dksX3_readLake_3 23 rfl rfl
theorem dksX3_readLake_5 : cX3_readLake.data.toList.drop 115 = dktX3_readLake_5 := dk_seg dksX3_readLake_4 24 rfl rfl
theorem dX3_readLake_0 : decode cX3_readLake 0 = .ok (.iconst 5, 1) := dk_8 (dk_at dksX3_readLake_0 0 rfl rfl)
theorem dX3_readLake_1 : decode cX3_readLake 1 = .ok (.iload_n 1, 1) := dk_27 (dk_at dksX3_readLake_0 1 rfl rfl)
theorem dX3_readLake_2 : decode cX3_readLake 2 = .ok (.imul, 1) := dk_104 (dk_at dksX3_readLake_0 2 rfl rfl)
theorem dX3_readLake_3 : decode cX3_readLake 3 = .ok (.istore_n 2, 1) := dk_61 (dk_at dksX3_readLake_0 3 rfl rfl)
theorem dX3_readLake_4 : decode cX3_readLake 4 = .ok (.aload_n 0, 1) := dk_42 (dk_at dksX3_readLake_0 4 rfl rfl)
theorem dX3_readLake_5 : decode cX3_readLake 5 = .ok (.bipush 48, 2) := dk_16 48 (dk_at dksX3_readLake_0 5 rfl rfl)
theorem dX3_readLake_7 : decode cX3_readLake 7 = .ok (.bipush 10, 2) := dk_16 10 (dk_at dksX3_readLake_0 7 rfl rfl)
theorem dX3_readLake_9 : decode cX3_readLake 9 = .ok (.invokevirtual 150, 3) := dk_182 0 150 (dk_at dksX3_readLake_0 9 rfl rfl)
theorem dX3_readLake_12 : decode cX3_readLake 12 = .ok (.istore_n 3, 1) := dk_62 (dk_at dksX3_readLake_0 12 rfl rfl)
theorem dX3_readLake_13 : decode cX3_readLake 13 = .ok (.aload_n 0, 1) := dk_42 (dk_at dksX3_readLake_0 13 rfl rfl)
theorem dX3_readLake_14 : decode cX3_readLake 14 = .ok (.getfield 30, 3) := dk_180 0 30 (dk_at dksX3_readLake_0 14 rfl rfl)
theorem dX3_readLake_17 : decode cX3_readLake 17 = .ok (.iload_n 2, 1) := dk_28 (dk_at dksX3_readLake_0 17 rfl rfl)
theorem dX3_readLake_18 : decode cX3_readLake 18 = .ok (.bipush 10, 2) := dk_16 10 (dk_at dksX3_readLake_0 18 rfl rfl)
theorem dX3_readLake_20 : decode cX3_readLake 20 = .ok (.iload_n 3, 1) := dk_29 (dk_at dksX3_readLake_0 20 rfl rfl)
theorem dX3_readLake_21 : decode cX3_readLake 21 = .ok (.imul, 1) := dk_104 (dk_at dksX3_readLake_0 21 rfl rfl)
theorem dX3_readLake_22 : decode cX3_readLake 22 = .ok (.aload_n 0, 1) := dk_42 (dk_at dksX3_readLake_0 22 rfl rfl)
theorem dX3_readLake_23 : decode cX3_readLake 23 = .ok (.bipush 48, 2) := dk_16 48 (dk_at dksX3_readLake_1 0 rfl rfl)
theorem dX3_readLake_25 : decode cX3_readLake 25 = .ok (.bipush 10, 2) := dk_16 10 (dk_at dksX3_readLake_1 2 rfl rfl)
theorem dX3_readLake_27 : decode cX3_readLake 27 = .ok (.invokevirtual 150, 3) := dk_182 0 150 (dk_at dksX3_readLake_1 4 rfl rfl)
theorem dX3_readLake_30 : decode cX3_readLake 30 = .ok (.iadd, 1) := dk_96 (dk_at dksX3_readLake_1 7 rfl rfl)
theorem dX3_readLake_31 : decode cX3_readLake 31 = .ok (.iastore, 1) := dk_79 (dk_at dksX3_readLake_1 8 rfl rfl)
theorem dX3_readLake_32 : decode cX3_readLake 32 = .ok (.aload_n 0, 1) := dk_42 (dk_at dksX3_readLake_1 9 rfl rfl)
theorem dX3_readLake_33 : decode cX3_readLake 33 = .ok (.invokevirtual 134, 3) := dk_182 0 134 (dk_at dksX3_readLake_1 10 rfl rfl)
theorem dX3_readLake_36 : decode cX3_readLake 36 = .ok (.ifCond .eq 22, 3) := dk_153 0 22 (dk_at dksX3_readLake_1 13 rfl rfl)
theorem dX3_readLake_39 : decode cX3_readLake 39 = .ok (.aload_n 0, 1) := dk_42 (dk_at dksX3_readLake_1 16 rfl rfl)
theorem dX3_readLake_40 : decode cX3_readLake 40 = .ok (.getfield 30, 3) := dk_180 0 30 (dk_at dksX3_readLake_1 17 rfl rfl)
theorem dX3_readLake_43 : decode cX3_readLake 43 = .ok (.iload_n 2, 1) := dk_28 (dk_at dksX3_readLake_1 20 rfl rfl)
theorem dX3_readLake_44 : decode cX3_readLake 44 = .ok (.iaload, 1) := dk_46 (dk_at dksX3_readLake_1 21 rfl rfl)
theorem dX3_readLake_45 : decode cX3_readLake 45 = .ok (.ifCond .ne 13, 3) := dk_154 0 13 (dk_at dksX3_readLake_2 0 rfl rfl)
theorem dX3_readLake_48 : decode cX3_readLake 48 = .ok (.aload_n 0, 1) := dk_42 (dk_at dksX3_readLake_2 3 rfl rfl)
theorem dX3_readLake_49 : decode cX3_readLake 49 = .ok (.aload_n 0, 1) := dk_42 (dk_at dksX3_readLake_2 4 rfl rfl)
theorem dX3_readLake_50 : decode cX3_readLake 50 = .ok (.getfield 124, 3) := dk_180 0 124 (dk_at dksX3_readLake_2 5 rfl rfl)
theorem dX3_readLake_53 : decode cX3_readLake 53 = .ok (.iconst 1, 1) := dk_4 (dk_at dksX3_readLake_2 8 rfl rfl)
theorem dX3_readLake_54 : decode cX3_readLake 54 = .ok (.isub, 1) := dk_100 (dk_at dksX3_readLake_2 9 rfl rfl)
theorem dX3_readLake_55 : decode cX3_readLake 55 = .ok (.invokevirtual 146, 3) := dk_182 0 146 (dk_at dksX3_readLake_2 10 rfl rfl)
theorem dX3_readLake_58 : decode cX3_readLake 58 = .ok (.aload_n 0, 1) := dk_42 (dk_at dksX3_readLake_2 13 rfl rfl)
theorem dX3_readLake_59 : decode cX3_readLake 59 = .ok (.getfield 30, 3) := dk_180 0 30 (dk_at dksX3_readLake_2 14 rfl rfl)
theorem dX3_readLake_62 : decode cX3_readLake 62 = .ok (.iload_n 2, 1) := dk_28 (dk_at dksX3_readLake_2 17 rfl rfl)
theorem dX3_readLake_63 : decode cX3_readLake 63 = .ok (.iconst 1, 1) := dk_4 (dk_at dksX3_readLake_2 18 rfl rfl)
theorem dX3_readLake_64 : decode cX3_readLake 64 = .ok (.iadd, 1) := dk_96 (dk_at dksX3_readLake_2 19 rfl rfl)
theorem dX3_readLake_65 : decode cX3_readLake 65 = .ok (.aload_n 0, 1) := dk_42 (dk_at dksX3_readLake_2 20 rfl rfl)
theorem dX3_readLake_66 : decode cX3_readLake 66 = .ok (.bipush 48, 2) := dk_16 48 (dk_at dksX3_readLake_2 21 rfl rfl)
theorem dX3_readLake_68 : decode cX3_readLake 68 = .ok (.bipush 10, 2) := dk_16 10 (dk_at dksX3_readLake_3 0 rfl rfl)
theorem dX3_readLake_70 : decode cX3_readLake 70 = .ok (.invokevirtual 150, 3) := dk_182 0 150 (dk_at dksX3_readLake_3 2 rfl rfl)
theorem dX3_readLake_73 : decode cX3_readLake 73 = .ok (.iastore, 1) := dk_79 (dk_at dksX3_readLake_3 5 rfl rfl)
theorem dX3_readLake_74 : decode cX3_readLake 74 = .ok (.aload_n 0, 1) := dk_42 (dk_at dksX3_readLake_3 6 rfl rfl)
theorem dX3_readLake_75 : decode cX3_readLake 75 = .ok (.getfield 30, 3) := dk_180 0 30 (dk_at dksX3_readLake_3 7 rfl rfl)
theorem dX3_readLake_78 : decode cX3_readLake 78 = .ok (.iload_n 2, 1) := dk_28 (dk_at dksX3_readLake_3 10 rfl rfl)
theorem dX3_readLake_79 : decode cX3_readLake 79 = .ok (.iconst 2, 1) := dk_5 (dk_at dksX3_readLake_3 11 rfl rfl)
theorem dX3_readLake_80 : decode cX3_readLake 80 = .ok (.iadd, 1) := dk_96 (dk_at dksX3_readLake_3 12 rfl rfl)
theorem dX3_readLake_81 : decode cX3_readLake 81 = .ok (.aload_n 0, 1) := dk_42 (dk_at dksX3_readLake_3 13 rfl rfl)
theorem dX3_readLake_82 : decode cX3_readLake 82 = .ok (.bipush 48, 2) := dk_16 48 (dk_at dksX3_readLake_3 14 rfl rfl)
theorem dX3_readLake_84 : decode cX3_readLake 84 = .ok (.bipush 10, 2) := dk_16 10 (dk_at dksX3_readLake_3 16 rfl rfl)
theorem dX3_readLake_86 : decode cX3_readLake 86 = .ok (.invokevirtual 150, 3) := dk_182 0 150 (dk_at dksX3_readLake_3 18 rfl rfl)
theorem dX3_readLake_89 : decode cX3_readLake 89 = .ok (.iastore, 1) := dk_79 (dk_at dksX3_readLake_3 21 rfl rfl)
theorem dX3_readLake_90 : decode cX3_readLake 90 = .ok (.aload_n 0, 1) := dk_42 (dk_at dksX3_readLake_3 22 rfl rfl)
theorem dX3_readLake_91 : decode cX3_readLake 91 = .ok (.getfield 30, 3) := dk_180 0 30 (dk_at dksX3_readLake_4 0 rfl rfl)
theorem dX3_readLake_94 : decode cX3_readLake 94 = .ok (.iload_n 2, 1) := dk_28 (dk_at dksX3_readLake_4 3 rfl rfl)
theorem dX3_readLake_95 : decode cX3_readLake 95 = .ok (.iconst 3, 1) := dk_6 (dk_at dksX3_readLake_4 4 rfl rfl)
theorem dX3_readLake_96 : decode cX3_readLake 96 = .ok (.iadd, 1) := dk_96 (dk_at dksX3_readLake_4 5 rfl rfl)
theorem dX3_readLake_97 : decode cX3_readLake 97 = .ok (.aload_n 0, 1) := dk_42 (dk_at dksX3_readLake_4 6 rfl rfl)
theorem dX3_readLake_98 : decode cX3_readLake 98 = .ok (.bipush 97, 2) := dk_16 97 (dk_at dksX3_readLake_4 7 rfl rfl)
theorem dX3_readLake_100 : decode cX3_readLake 100 = .ok (.iconst 4, 1) := dk_7 (dk_at dksX3_readLake_4 9 rfl rfl)
theorem dX3_readLake_101 : decode cX3_readLake 101 = .ok (.invokevirtual 150, 3) := dk_182 0 150 (dk_at dksX3_readLake_4 10 rfl rfl)
theorem dX3_readLake_104 : decode cX3_readLake 104 = .ok (.iastore, 1) := dk_79 (dk_at dksX3_readLake_4 13 rfl rfl)
theorem dX3_readLake_105 : decode cX3_readLake 105 = .ok (.aload_n 0, 1) := dk_42 (dk_at dksX3_readLake_4 14 rfl rfl)
theorem dX3_readLake_106 : decode cX3_readLake 106 = .ok (.getfield 30, 3) := dk_180 0 30 (dk_at dksX3_readLake_4 15 rfl rfl)
theorem dX3_readLake_109 : decode cX3_readLake 109 = .ok (.iload_n 2, 1) := dk_28 (dk_at dksX3_readLake_4 18 rfl rfl)
theorem dX3_readLake_110 : decode cX3_readLake 110 = .ok (.iconst 4, 1) := dk_7 (dk_at dksX3_readLake_4 19 rfl rfl)
theorem dX3_readLake_111 : decode cX3_readLake 111 = .ok (.iadd, 1) := dk_96 (dk_at dksX3_readLake_4 20 rfl rfl)
theorem dX3_readLake_112 : decode cX3_readLake 112 = .ok (.aload_n 0, 1) := dk_42 (dk_at dksX3_readLake_4 21 rfl rfl)
theorem dX3_readLake_113 : decode cX3_readLake 113 = .ok (.bipush 45, 2) := dk_16 45 (dk_at dksX3_readLake_4 22 rfl rfl)
theorem dX3_readLake_115 : decode cX3_readLake 115 = .ok (.invokevirtual 142, 3) := dk_182 0 142 (dk_at dksX3_readLake_5 0 rfl rfl)
theorem dX3_readLake_118 : decode cX3_readLake 118 = .ok (.ifCond .eq 7, 3) := dk_153 0 7 (dk_at dksX3_readLake_5 3 rfl rfl)
theorem dX3_readLake_121 : decode cX3_readLake 121 = .ok (.iconst (-1), 1) := dk_2 (dk_at dksX3_readLake_5 6 rfl rfl)
theorem dX3_readLake_122 : decode cX3_readLake 122 = .ok (.goto 15, 3) := dk_167 0 15 (dk_at dksX3_readLake_5 7 rfl rfl)
theorem dX3_readLake_125 : decode cX3_readLake 125 = .ok (.aload_n 0, 1) := dk_42 (dk_at dksX3_readLake_5 10 rfl rfl)
theorem dX3_readLake_126 : decode cX3_readLake 126 = .ok (.bipush 48, 2) := dk_16 48 (dk_at dksX3_readLake_5 11 rfl rfl)
theorem dX3_readLake_128 : decode cX3_readLake 128 = .ok (.aload_n 0, 1) := dk_42 (dk_at dksX3_readLake_5 13 rfl rfl)
theorem dX3_readLake_129 : decode cX3_readLake 129 = .ok (.getfield 101, 3) := dk_180 0 101 (dk_at dksX3_readLake_5 14 rfl rfl)
theorem dX3_readLake_132 : decode cX3_readLake 132 = .ok (.iload_n 1, 1) := dk_27 (dk_at dksX3_readLake_5 17 rfl rfl)
theorem dX3_readLake_133 : decode cX3_readLake 133 = .ok (.iadd, 1) := dk_96 (dk_at dksX3_readLake_5 18 rfl rfl)
theorem dX3_readLake_134 : decode cX3_readLake 134 = .ok (.invokevirtual 150, 3) := dk_182 0 150 (dk_at dksX3_readLake_5 19 rfl rfl)
theorem dX3_readLake_137 : decode cX3_readLake 137 = .ok (.iastore, 1) := dk_79 (dk_at dksX3_readLake_5 22 rfl rfl)
theorem dX3_readLake_138 : decode cX3_readLake 138 = .ok (.return_, 1) := dk_177 (dk_at dksX3_readLake_5 23 rfl rfl)
abbrev cX3_oneOf : ByteArray := prog_9_method_20_code
def yX3_oneOf : MethodName := ⟨RX3, "oneOf", "(CI)I"⟩
def dkwX3_oneOf_2 : List UInt8 := [180, 0, 115, 42, 180, 0, 124, 4, 100, 51, 27, 100, 172]
abbrev dktX3_oneOf_2 : List UInt8 := dkwX3_oneOf_2 ++ []
def dkwX3_oneOf_1 : List UInt8 := [154, 0, 13, 42, 42, 180, 0, 124, 182, 0, 146, 3, 172, 42, 89, 180, 0, 124, 4, 96, 181, 0, 124, 42]
abbrev dktX3_oneOf_1 : List UInt8 := dkwX3_oneOf_1 ++ dktX3_oneOf_2
def dkwX3_oneOf_0 : List UInt8 := [42, 182, 0, 134, 154, 0, 5, 3, 172, 42, 182, 0, 138, 27, 27, 28, 96, 4, 100, 184, 0, 104]
abbrev dktX3_oneOf_0 : List UInt8 := dkwX3_oneOf_0 ++ dktX3_oneOf_1
theorem dksX3_oneOf_0 : cX3_oneOf.data.toList.drop 0 = dktX3_oneOf_0 := by decide +kernel
theorem dksX3_oneOf_1 : cX3_oneOf.data.toList.drop 22 = dktX3_oneOf_1 := dk_seg dksX3_oneOf_0 22 rfl rfl
theorem dksX3_oneOf_2 : cX3_oneOf.data.toList.drop 46 = dktX3_oneOf_2 := dk_seg dksX3_oneOf_1 24 rfl rfl
theorem dX3_oneOf_0 : decode cX3_oneOf 0 = .ok (.aload_n 0, 1) := dk_42 (dk_at dksX3_oneOf_0 0 rfl rfl)
theorem dX3_oneOf_1 : decode cX3_oneOf 1 = .ok (.invokevirtual 134, 3) := dk_182 0 134 (dk_at dksX3_oneOf_0 1 rfl rfl)
theorem dX3_oneOf_4 : decode cX3_oneOf 4 = .ok (.ifCond .ne 5, 3) := dk_154 0 5 (dk_at dksX3_oneOf_0 4 rfl rfl)
theorem dX3_oneOf_7 : decode cX3_oneOf 7 = .ok (.iconst 0, 1) := dk_3 (dk_at dksX3_oneOf_0 7 rfl rfl)
theorem dX3_oneOf_8 : decode cX3_oneOf 8 = .ok (.ireturn, 1) := dk_172 (dk_at dksX3_oneOf_0 8 rfl rfl)
theorem dX3_oneOf_9 : decode cX3_oneOf 9 = .ok (.aload_n 0, 1) := dk_42 (dk_at dksX3_oneOf_0 9 rfl rfl)
theorem dX3_oneOf_10 : decode cX3_oneOf 10 = .ok (.invokevirtual 138, 3) := dk_182 0 138 (dk_at dksX3_oneOf_0 10 rfl rfl)
theorem dX3_oneOf_13 : decode cX3_oneOf 13 = .ok (.iload_n 1, 1) := dk_27 (dk_at dksX3_oneOf_0 13 rfl rfl)
theorem dX3_oneOf_14 : decode cX3_oneOf 14 = .ok (.iload_n 1, 1) := dk_27 (dk_at dksX3_oneOf_0 14 rfl rfl)
theorem dX3_oneOf_15 : decode cX3_oneOf 15 = .ok (.iload_n 2, 1) := dk_28 (dk_at dksX3_oneOf_0 15 rfl rfl)
theorem dX3_oneOf_16 : decode cX3_oneOf 16 = .ok (.iadd, 1) := dk_96 (dk_at dksX3_oneOf_0 16 rfl rfl)
theorem dX3_oneOf_17 : decode cX3_oneOf 17 = .ok (.iconst 1, 1) := dk_4 (dk_at dksX3_oneOf_0 17 rfl rfl)
theorem dX3_oneOf_18 : decode cX3_oneOf 18 = .ok (.isub, 1) := dk_100 (dk_at dksX3_oneOf_0 18 rfl rfl)
theorem dX3_oneOf_19 : decode cX3_oneOf 19 = .ok (.invokestatic 104, 3) := dk_184 0 104 (dk_at dksX3_oneOf_0 19 rfl rfl)
theorem dX3_oneOf_22 : decode cX3_oneOf 22 = .ok (.ifCond .ne 13, 3) := dk_154 0 13 (dk_at dksX3_oneOf_1 0 rfl rfl)
theorem dX3_oneOf_25 : decode cX3_oneOf 25 = .ok (.aload_n 0, 1) := dk_42 (dk_at dksX3_oneOf_1 3 rfl rfl)
theorem dX3_oneOf_26 : decode cX3_oneOf 26 = .ok (.aload_n 0, 1) := dk_42 (dk_at dksX3_oneOf_1 4 rfl rfl)
theorem dX3_oneOf_27 : decode cX3_oneOf 27 = .ok (.getfield 124, 3) := dk_180 0 124 (dk_at dksX3_oneOf_1 5 rfl rfl)
theorem dX3_oneOf_30 : decode cX3_oneOf 30 = .ok (.invokevirtual 146, 3) := dk_182 0 146 (dk_at dksX3_oneOf_1 8 rfl rfl)
theorem dX3_oneOf_33 : decode cX3_oneOf 33 = .ok (.iconst 0, 1) := dk_3 (dk_at dksX3_oneOf_1 11 rfl rfl)
theorem dX3_oneOf_34 : decode cX3_oneOf 34 = .ok (.ireturn, 1) := dk_172 (dk_at dksX3_oneOf_1 12 rfl rfl)
theorem dX3_oneOf_35 : decode cX3_oneOf 35 = .ok (.aload_n 0, 1) := dk_42 (dk_at dksX3_oneOf_1 13 rfl rfl)
theorem dX3_oneOf_36 : decode cX3_oneOf 36 = .ok (.dup, 1) := dk_89 (dk_at dksX3_oneOf_1 14 rfl rfl)
theorem dX3_oneOf_37 : decode cX3_oneOf 37 = .ok (.getfield 124, 3) := dk_180 0 124 (dk_at dksX3_oneOf_1 15 rfl rfl)
theorem dX3_oneOf_40 : decode cX3_oneOf 40 = .ok (.iconst 1, 1) := dk_4 (dk_at dksX3_oneOf_1 18 rfl rfl)
theorem dX3_oneOf_41 : decode cX3_oneOf 41 = .ok (.iadd, 1) := dk_96 (dk_at dksX3_oneOf_1 19 rfl rfl)
theorem dX3_oneOf_42 : decode cX3_oneOf 42 = .ok (.putfield 124, 3) := dk_181 0 124 (dk_at dksX3_oneOf_1 20 rfl rfl)
theorem dX3_oneOf_45 : decode cX3_oneOf 45 = .ok (.aload_n 0, 1) := dk_42 (dk_at dksX3_oneOf_1 23 rfl rfl)
theorem dX3_oneOf_46 : decode cX3_oneOf 46 = .ok (.getfield 115, 3) := dk_180 0 115 (dk_at dksX3_oneOf_2 0 rfl rfl)
theorem dX3_oneOf_49 : decode cX3_oneOf 49 = .ok (.aload_n 0, 1) := dk_42 (dk_at dksX3_oneOf_2 3 rfl rfl)
theorem dX3_oneOf_50 : decode cX3_oneOf 50 = .ok (.getfield 124, 3) := dk_180 0 124 (dk_at dksX3_oneOf_2 4 rfl rfl)
theorem dX3_oneOf_53 : decode cX3_oneOf 53 = .ok (.iconst 1, 1) := dk_4 (dk_at dksX3_oneOf_2 7 rfl rfl)
theorem dX3_oneOf_54 : decode cX3_oneOf 54 = .ok (.isub, 1) := dk_100 (dk_at dksX3_oneOf_2 8 rfl rfl)
theorem dX3_oneOf_55 : decode cX3_oneOf 55 = .ok (.baload, 1) := dk_51 (dk_at dksX3_oneOf_2 9 rfl rfl)
theorem dX3_oneOf_56 : decode cX3_oneOf 56 = .ok (.iload_n 1, 1) := dk_27 (dk_at dksX3_oneOf_2 10 rfl rfl)
theorem dX3_oneOf_57 : decode cX3_oneOf 57 = .ok (.isub, 1) := dk_100 (dk_at dksX3_oneOf_2 11 rfl rfl)
theorem dX3_oneOf_58 : decode cX3_oneOf 58 = .ok (.ireturn, 1) := dk_172 (dk_at dksX3_oneOf_2 12 rfl rfl)
abbrev cX3_here : ByteArray := prog_9_method_15_code
def yX3_here : MethodName := ⟨RX3, "here", "()I"⟩
def dkwX3_here_1 : List UInt8 := [180, 0, 115, 42, 180, 0, 124, 51, 17, 0, 255, 126, 167, 0, 4, 2, 172]
abbrev dktX3_here_1 : List UInt8 := dkwX3_here_1 ++ []
def dkwX3_here_0 : List UInt8 := [42, 180, 0, 124, 42, 180, 0, 118, 162, 0, 30, 42, 180, 0, 124, 42, 180, 0, 121, 162, 0, 19, 42]
abbrev dktX3_here_0 : List UInt8 := dkwX3_here_0 ++ dktX3_here_1
theorem dksX3_here_0 : cX3_here.data.toList.drop 0 = dktX3_here_0 := by decide +kernel
theorem dksX3_here_1 : cX3_here.data.toList.drop 23 = dktX3_here_1 := dk_seg dksX3_here_0 23 rfl rfl
theorem dX3_here_0 : decode cX3_here 0 = .ok (.aload_n 0, 1) := dk_42 (dk_at dksX3_here_0 0 rfl rfl)
theorem dX3_here_1 : decode cX3_here 1 = .ok (.getfield 124, 3) := dk_180 0 124 (dk_at dksX3_here_0 1 rfl rfl)
theorem dX3_here_4 : decode cX3_here 4 = .ok (.aload_n 0, 1) := dk_42 (dk_at dksX3_here_0 4 rfl rfl)
theorem dX3_here_5 : decode cX3_here 5 = .ok (.getfield 118, 3) := dk_180 0 118 (dk_at dksX3_here_0 5 rfl rfl)
theorem dX3_here_8 : decode cX3_here 8 = .ok (.if_icmp .ge 30, 3) := dk_162 0 30 (dk_at dksX3_here_0 8 rfl rfl)
theorem dX3_here_11 : decode cX3_here 11 = .ok (.aload_n 0, 1) := dk_42 (dk_at dksX3_here_0 11 rfl rfl)
theorem dX3_here_12 : decode cX3_here 12 = .ok (.getfield 124, 3) := dk_180 0 124 (dk_at dksX3_here_0 12 rfl rfl)
theorem dX3_here_15 : decode cX3_here 15 = .ok (.aload_n 0, 1) := dk_42 (dk_at dksX3_here_0 15 rfl rfl)
theorem dX3_here_16 : decode cX3_here 16 = .ok (.getfield 121, 3) := dk_180 0 121 (dk_at dksX3_here_0 16 rfl rfl)
theorem dX3_here_19 : decode cX3_here 19 = .ok (.if_icmp .ge 19, 3) := dk_162 0 19 (dk_at dksX3_here_0 19 rfl rfl)
theorem dX3_here_22 : decode cX3_here 22 = .ok (.aload_n 0, 1) := dk_42 (dk_at dksX3_here_0 22 rfl rfl)
theorem dX3_here_23 : decode cX3_here 23 = .ok (.getfield 115, 3) := dk_180 0 115 (dk_at dksX3_here_1 0 rfl rfl)
theorem dX3_here_26 : decode cX3_here 26 = .ok (.aload_n 0, 1) := dk_42 (dk_at dksX3_here_1 3 rfl rfl)
theorem dX3_here_27 : decode cX3_here 27 = .ok (.getfield 124, 3) := dk_180 0 124 (dk_at dksX3_here_1 4 rfl rfl)
theorem dX3_here_30 : decode cX3_here 30 = .ok (.baload, 1) := dk_51 (dk_at dksX3_here_1 7 rfl rfl)
theorem dX3_here_31 : decode cX3_here 31 = .ok (.sipush 255, 3) := dk_17 0 255 (dk_at dksX3_here_1 8 rfl rfl)
theorem dX3_here_34 : decode cX3_here 34 = .ok (.iand, 1) := dk_126 (dk_at dksX3_here_1 11 rfl rfl)
theorem dX3_here_35 : decode cX3_here 35 = .ok (.goto 4, 3) := dk_167 0 4 (dk_at dksX3_here_1 12 rfl rfl)
theorem dX3_here_38 : decode cX3_here 38 = .ok (.iconst (-1), 1) := dk_2 (dk_at dksX3_here_1 15 rfl rfl)
theorem dX3_here_39 : decode cX3_here 39 = .ok (.ireturn, 1) := dk_172 (dk_at dksX3_here_1 16 rfl rfl)
abbrev cX3_passes : ByteArray := prog_9_method_18_code
def yX3_passes : MethodName := ⟨RX3, "passes", "(C)Z"⟩
def dkwX3_passes_1 : List UInt8 := [181, 0, 124, 4, 172]
abbrev dktX3_passes_1 : List UInt8 := dkwX3_passes_1 ++ []
def dkwX3_passes_0 : List UInt8 := [42, 182, 0, 134, 153, 0, 11, 42, 182, 0, 138, 27, 159, 0, 5, 3, 172, 42, 89, 180, 0, 124, 4, 96]
abbrev dktX3_passes_0 : List UInt8 := dkwX3_passes_0 ++ dktX3_passes_1
theorem dksX3_passes_0 : cX3_passes.data.toList.drop 0 = dktX3_passes_0 := by decide +kernel
theorem dksX3_passes_1 : cX3_passes.data.toList.drop 24 = dktX3_passes_1 := dk_seg dksX3_passes_0 24 rfl rfl
theorem dX3_passes_0 : decode cX3_passes 0 = .ok (.aload_n 0, 1) := dk_42 (dk_at dksX3_passes_0 0 rfl rfl)
theorem dX3_passes_1 : decode cX3_passes 1 = .ok (.invokevirtual 134, 3) := dk_182 0 134 (dk_at dksX3_passes_0 1 rfl rfl)
theorem dX3_passes_4 : decode cX3_passes 4 = .ok (.ifCond .eq 11, 3) := dk_153 0 11 (dk_at dksX3_passes_0 4 rfl rfl)
theorem dX3_passes_7 : decode cX3_passes 7 = .ok (.aload_n 0, 1) := dk_42 (dk_at dksX3_passes_0 7 rfl rfl)
theorem dX3_passes_8 : decode cX3_passes 8 = .ok (.invokevirtual 138, 3) := dk_182 0 138 (dk_at dksX3_passes_0 8 rfl rfl)
theorem dX3_passes_11 : decode cX3_passes 11 = .ok (.iload_n 1, 1) := dk_27 (dk_at dksX3_passes_0 11 rfl rfl)
theorem dX3_passes_12 : decode cX3_passes 12 = .ok (.if_icmp .eq 5, 3) := dk_159 0 5 (dk_at dksX3_passes_0 12 rfl rfl)
theorem dX3_passes_15 : decode cX3_passes 15 = .ok (.iconst 0, 1) := dk_3 (dk_at dksX3_passes_0 15 rfl rfl)
theorem dX3_passes_16 : decode cX3_passes 16 = .ok (.ireturn, 1) := dk_172 (dk_at dksX3_passes_0 16 rfl rfl)
theorem dX3_passes_17 : decode cX3_passes 17 = .ok (.aload_n 0, 1) := dk_42 (dk_at dksX3_passes_0 17 rfl rfl)
theorem dX3_passes_18 : decode cX3_passes 18 = .ok (.dup, 1) := dk_89 (dk_at dksX3_passes_0 18 rfl rfl)
theorem dX3_passes_19 : decode cX3_passes 19 = .ok (.getfield 124, 3) := dk_180 0 124 (dk_at dksX3_passes_0 19 rfl rfl)
theorem dX3_passes_22 : decode cX3_passes 22 = .ok (.iconst 1, 1) := dk_4 (dk_at dksX3_passes_0 22 rfl rfl)
theorem dX3_passes_23 : decode cX3_passes 23 = .ok (.iadd, 1) := dk_96 (dk_at dksX3_passes_0 23 rfl rfl)
theorem dX3_passes_24 : decode cX3_passes 24 = .ok (.putfield 124, 3) := dk_181 0 124 (dk_at dksX3_passes_1 0 rfl rfl)
theorem dX3_passes_27 : decode cX3_passes 27 = .ok (.iconst 1, 1) := dk_4 (dk_at dksX3_passes_1 3 rfl rfl)
theorem dX3_passes_28 : decode cX3_passes 28 = .ok (.ireturn, 1) := dk_172 (dk_at dksX3_passes_1 4 rfl rfl)
abbrev cX3_wasRight : ByteArray := prog_9_method_22_code
def yX3_wasRight : MethodName := ⟨RX3, "wasRight", "()Z"⟩
def dkwX3_wasRight_0 : List UInt8 := [42, 180, 0, 124, 42, 180, 0, 118, 162, 0, 11, 42, 42, 180, 0, 124, 182, 0, 146, 42, 182, 0, 134, 172]
abbrev dktX3_wasRight_0 : List UInt8 := dkwX3_wasRight_0 ++ []
theorem dksX3_wasRight_0 : cX3_wasRight.data.toList.drop 0 = dktX3_wasRight_0 := by decide +kernel
theorem dX3_wasRight_0 : decode cX3_wasRight 0 = .ok (.aload_n 0, 1) := dk_42 (dk_at dksX3_wasRight_0 0 rfl rfl)
theorem dX3_wasRight_1 : decode cX3_wasRight 1 = .ok (.getfield 124, 3) := dk_180 0 124 (dk_at dksX3_wasRight_0 1 rfl rfl)
theorem dX3_wasRight_4 : decode cX3_wasRight 4 = .ok (.aload_n 0, 1) := dk_42 (dk_at dksX3_wasRight_0 4 rfl rfl)
theorem dX3_wasRight_5 : decode cX3_wasRight 5 = .ok (.getfield 118, 3) := dk_180 0 118 (dk_at dksX3_wasRight_0 5 rfl rfl)
theorem dX3_wasRight_8 : decode cX3_wasRight 8 = .ok (.if_icmp .ge 11, 3) := dk_162 0 11 (dk_at dksX3_wasRight_0 8 rfl rfl)
theorem dX3_wasRight_11 : decode cX3_wasRight 11 = .ok (.aload_n 0, 1) := dk_42 (dk_at dksX3_wasRight_0 11 rfl rfl)
theorem dX3_wasRight_12 : decode cX3_wasRight 12 = .ok (.aload_n 0, 1) := dk_42 (dk_at dksX3_wasRight_0 12 rfl rfl)
theorem dX3_wasRight_13 : decode cX3_wasRight 13 = .ok (.getfield 124, 3) := dk_180 0 124 (dk_at dksX3_wasRight_0 13 rfl rfl)
theorem dX3_wasRight_16 : decode cX3_wasRight 16 = .ok (.invokevirtual 146, 3) := dk_182 0 146 (dk_at dksX3_wasRight_0 16 rfl rfl)
theorem dX3_wasRight_19 : decode cX3_wasRight 19 = .ok (.aload_n 0, 1) := dk_42 (dk_at dksX3_wasRight_0 19 rfl rfl)
theorem dX3_wasRight_20 : decode cX3_wasRight 20 = .ok (.invokevirtual 134, 3) := dk_182 0 134 (dk_at dksX3_wasRight_0 20 rfl rfl)
theorem dX3_wasRight_23 : decode cX3_wasRight 23 = .ok (.ireturn, 1) := dk_172 (dk_at dksX3_wasRight_0 23 rfl rfl)
abbrev cX3_rule : ByteArray := prog_9_method_31_code
def yX3_rule : MethodName := ⟨RX3, "rule", "()I"⟩
def dkwX3_rule_2 : List UInt8 := [167, 255, 236, 42, 27, 181, 0, 199, 3, 172]
abbrev dktX3_rule_2 : List UInt8 := dkwX3_rule_2 ++ []
def dkwX3_rule_1 : List UInt8 := [3, 61, 28, 27, 162, 0, 21, 42, 180, 0, 33, 28, 42, 180, 0, 22, 28, 51, 84, 132, 2, 1]
abbrev dktX3_rule_1 : List UInt8 := dkwX3_rule_1 ++ dktX3_rule_2
def dkwX3_rule_0 : List UInt8 := [42, 3, 181, 0, 95, 42, 180, 0, 112, 60, 42, 182, 0, 196, 154, 0, 10, 2, 42, 180, 0, 127, 100, 172]
abbrev dktX3_rule_0 : List UInt8 := dkwX3_rule_0 ++ dktX3_rule_1
theorem dksX3_rule_0 : cX3_rule.data.toList.drop 0 = dktX3_rule_0 := by decide +kernel
theorem dksX3_rule_1 : cX3_rule.data.toList.drop 24 = dktX3_rule_1 := dk_seg dksX3_rule_0 24 rfl rfl
theorem dksX3_rule_2 : cX3_rule.data.toList.drop 46 = dktX3_rule_2 := dk_seg dksX3_rule_1 22 rfl rfl
theorem dX3_rule_0 : decode cX3_rule 0 = .ok (.aload_n 0, 1) := dk_42 (dk_at dksX3_rule_0 0 rfl rfl)
theorem dX3_rule_1 : decode cX3_rule 1 = .ok (.iconst 0, 1) := dk_3 (dk_at dksX3_rule_0 1 rfl rfl)
theorem dX3_rule_2 : decode cX3_rule 2 = .ok (.putfield 95, 3) := dk_181 0 95 (dk_at dksX3_rule_0 2 rfl rfl)
theorem dX3_rule_5 : decode cX3_rule 5 = .ok (.aload_n 0, 1) := dk_42 (dk_at dksX3_rule_0 5 rfl rfl)
theorem dX3_rule_6 : decode cX3_rule 6 = .ok (.getfield 112, 3) := dk_180 0 112 (dk_at dksX3_rule_0 6 rfl rfl)
theorem dX3_rule_9 : decode cX3_rule 9 = .ok (.istore_n 1, 1) := dk_60 (dk_at dksX3_rule_0 9 rfl rfl)
theorem dX3_rule_10 : decode cX3_rule 10 = .ok (.aload_n 0, 1) := dk_42 (dk_at dksX3_rule_0 10 rfl rfl)
theorem dX3_rule_11 : decode cX3_rule 11 = .ok (.invokevirtual 196, 3) := dk_182 0 196 (dk_at dksX3_rule_0 11 rfl rfl)
theorem dX3_rule_14 : decode cX3_rule 14 = .ok (.ifCond .ne 10, 3) := dk_154 0 10 (dk_at dksX3_rule_0 14 rfl rfl)
theorem dX3_rule_17 : decode cX3_rule 17 = .ok (.iconst (-1), 1) := dk_2 (dk_at dksX3_rule_0 17 rfl rfl)
theorem dX3_rule_18 : decode cX3_rule 18 = .ok (.aload_n 0, 1) := dk_42 (dk_at dksX3_rule_0 18 rfl rfl)
theorem dX3_rule_19 : decode cX3_rule 19 = .ok (.getfield 127, 3) := dk_180 0 127 (dk_at dksX3_rule_0 19 rfl rfl)
theorem dX3_rule_22 : decode cX3_rule 22 = .ok (.isub, 1) := dk_100 (dk_at dksX3_rule_0 22 rfl rfl)
theorem dX3_rule_23 : decode cX3_rule 23 = .ok (.ireturn, 1) := dk_172 (dk_at dksX3_rule_0 23 rfl rfl)
theorem dX3_rule_24 : decode cX3_rule 24 = .ok (.iconst 0, 1) := dk_3 (dk_at dksX3_rule_1 0 rfl rfl)
theorem dX3_rule_25 : decode cX3_rule 25 = .ok (.istore_n 2, 1) := dk_61 (dk_at dksX3_rule_1 1 rfl rfl)
theorem dX3_rule_26 : decode cX3_rule 26 = .ok (.iload_n 2, 1) := dk_28 (dk_at dksX3_rule_1 2 rfl rfl)
theorem dX3_rule_27 : decode cX3_rule 27 = .ok (.iload_n 1, 1) := dk_27 (dk_at dksX3_rule_1 3 rfl rfl)
theorem dX3_rule_28 : decode cX3_rule 28 = .ok (.if_icmp .ge 21, 3) := dk_162 0 21 (dk_at dksX3_rule_1 4 rfl rfl)
theorem dX3_rule_31 : decode cX3_rule 31 = .ok (.aload_n 0, 1) := dk_42 (dk_at dksX3_rule_1 7 rfl rfl)
theorem dX3_rule_32 : decode cX3_rule 32 = .ok (.getfield 33, 3) := dk_180 0 33 (dk_at dksX3_rule_1 8 rfl rfl)
theorem dX3_rule_35 : decode cX3_rule 35 = .ok (.iload_n 2, 1) := dk_28 (dk_at dksX3_rule_1 11 rfl rfl)
theorem dX3_rule_36 : decode cX3_rule 36 = .ok (.aload_n 0, 1) := dk_42 (dk_at dksX3_rule_1 12 rfl rfl)
theorem dX3_rule_37 : decode cX3_rule 37 = .ok (.getfield 22, 3) := dk_180 0 22 (dk_at dksX3_rule_1 13 rfl rfl)
theorem dX3_rule_40 : decode cX3_rule 40 = .ok (.iload_n 2, 1) := dk_28 (dk_at dksX3_rule_1 16 rfl rfl)
theorem dX3_rule_41 : decode cX3_rule 41 = .ok (.baload, 1) := dk_51 (dk_at dksX3_rule_1 17 rfl rfl)
theorem dX3_rule_42 : decode cX3_rule 42 = .ok (.bastore, 1) := dk_84 (dk_at dksX3_rule_1 18 rfl rfl)
theorem dX3_rule_43 : decode cX3_rule 43 = .ok (.iinc 2 1, 3) := dk_132 2 1 (dk_at dksX3_rule_1 19 rfl rfl)
theorem dX3_rule_46 : decode cX3_rule 46 = .ok (.goto (-20), 3) := dk_167 255 236 (dk_at dksX3_rule_2 0 rfl rfl)
theorem dX3_rule_49 : decode cX3_rule 49 = .ok (.aload_n 0, 1) := dk_42 (dk_at dksX3_rule_2 3 rfl rfl)
theorem dX3_rule_50 : decode cX3_rule 50 = .ok (.iload_n 1, 1) := dk_27 (dk_at dksX3_rule_2 4 rfl rfl)
theorem dX3_rule_51 : decode cX3_rule 51 = .ok (.putfield 199, 3) := dk_181 0 199 (dk_at dksX3_rule_2 5 rfl rfl)
theorem dX3_rule_54 : decode cX3_rule 54 = .ok (.iconst 0, 1) := dk_3 (dk_at dksX3_rule_2 8 rfl rfl)
theorem dX3_rule_55 : decode cX3_rule 55 = .ok (.ireturn, 1) := dk_172 (dk_at dksX3_rule_2 9 rfl rfl)
abbrev cX3_readRule : ByteArray := prog_9_method_30_code
def yX3_readRule : MethodName := ⟨RX3, "readRule", "()Z"⟩
def dkwX3_readRule_1 : List UInt8 := [42, 182, 0, 160, 172]
abbrev dktX3_readRule_1 : List UInt8 := dkwX3_readRule_1 ++ []
def dkwX3_readRule_0 : List UInt8 := [42, 16, 40, 182, 0, 154, 42, 3, 181, 0, 192, 42, 180, 0, 118, 158, 0, 9, 42, 3, 182, 0, 179, 87]
abbrev dktX3_readRule_0 : List UInt8 := dkwX3_readRule_0 ++ dktX3_readRule_1
theorem dksX3_readRule_0 : cX3_readRule.data.toList.drop 0 = dktX3_readRule_0 := by decide +kernel
theorem dksX3_readRule_1 : cX3_readRule.data.toList.drop 24 = dktX3_readRule_1 := dk_seg dksX3_readRule_0 24 rfl rfl
theorem dX3_readRule_0 : decode cX3_readRule 0 = .ok (.aload_n 0, 1) := dk_42 (dk_at dksX3_readRule_0 0 rfl rfl)
theorem dX3_readRule_1 : decode cX3_readRule 1 = .ok (.bipush 40, 2) := dk_16 40 (dk_at dksX3_readRule_0 1 rfl rfl)
theorem dX3_readRule_3 : decode cX3_readRule 3 = .ok (.invokevirtual 154, 3) := dk_182 0 154 (dk_at dksX3_readRule_0 3 rfl rfl)
theorem dX3_readRule_6 : decode cX3_readRule 6 = .ok (.aload_n 0, 1) := dk_42 (dk_at dksX3_readRule_0 6 rfl rfl)
theorem dX3_readRule_7 : decode cX3_readRule 7 = .ok (.iconst 0, 1) := dk_3 (dk_at dksX3_readRule_0 7 rfl rfl)
theorem dX3_readRule_8 : decode cX3_readRule 8 = .ok (.putfield 192, 3) := dk_181 0 192 (dk_at dksX3_readRule_0 8 rfl rfl)
theorem dX3_readRule_11 : decode cX3_readRule 11 = .ok (.aload_n 0, 1) := dk_42 (dk_at dksX3_readRule_0 11 rfl rfl)
theorem dX3_readRule_12 : decode cX3_readRule 12 = .ok (.getfield 118, 3) := dk_180 0 118 (dk_at dksX3_readRule_0 12 rfl rfl)
theorem dX3_readRule_15 : decode cX3_readRule 15 = .ok (.ifCond .le 9, 3) := dk_158 0 9 (dk_at dksX3_readRule_0 15 rfl rfl)
theorem dX3_readRule_18 : decode cX3_readRule 18 = .ok (.aload_n 0, 1) := dk_42 (dk_at dksX3_readRule_0 18 rfl rfl)
theorem dX3_readRule_19 : decode cX3_readRule 19 = .ok (.iconst 0, 1) := dk_3 (dk_at dksX3_readRule_0 19 rfl rfl)
theorem dX3_readRule_20 : decode cX3_readRule 20 = .ok (.invokevirtual 179, 3) := dk_182 0 179 (dk_at dksX3_readRule_0 20 rfl rfl)
theorem dX3_readRule_23 : decode cX3_readRule 23 = .ok (.pop, 1) := dk_87 (dk_at dksX3_readRule_0 23 rfl rfl)
theorem dX3_readRule_24 : decode cX3_readRule 24 = .ok (.aload_n 0, 1) := dk_42 (dk_at dksX3_readRule_1 0 rfl rfl)
theorem dX3_readRule_25 : decode cX3_readRule 25 = .ok (.invokevirtual 160, 3) := dk_182 0 160 (dk_at dksX3_readRule_1 1 rfl rfl)
theorem dX3_readRule_28 : decode cX3_readRule 28 = .ok (.ireturn, 1) := dk_172 (dk_at dksX3_readRule_1 4 rfl rfl)
abbrev cX3_held : ByteArray := prog_9_method_25_code
def yX3_held : MethodName := ⟨RX3, "held", "(I)I"⟩
def dkwX3_held_3 : List UInt8 := [4, 167, 0, 4, 3, 172, 28, 172]
abbrev dktX3_held_3 : List UInt8 := dkwX3_held_3 ++ []
def dkwX3_held_2 : List UInt8 := [4, 167, 0, 4, 3, 172, 42, 16, 61, 182, 0, 142, 153, 0, 18, 28, 42, 27, 182, 0, 169, 160, 0, 7]
abbrev dktX3_held_2 : List UInt8 := dkwX3_held_2 ++ dktX3_held_3
def dkwX3_held_1 : List UInt8 := [4, 167, 0, 4, 3, 172, 42, 16, 62, 182, 0, 142, 153, 0, 18, 28, 42, 27, 182, 0, 169, 164, 0, 7]
abbrev dktX3_held_1 : List UInt8 := dkwX3_held_1 ++ dktX3_held_2
def dkwX3_held_0 : List UInt8 := [42, 27, 182, 0, 169, 61, 42, 16, 60, 182, 0, 142, 153, 0, 18, 28, 42, 27, 182, 0, 169, 162, 0, 7]
abbrev dktX3_held_0 : List UInt8 := dkwX3_held_0 ++ dktX3_held_1
theorem dksX3_held_0 : cX3_held.data.toList.drop 0 = dktX3_held_0 := by decide +kernel
theorem dksX3_held_1 : cX3_held.data.toList.drop 24 = dktX3_held_1 := dk_seg dksX3_held_0 24 rfl rfl
theorem dksX3_held_2 : cX3_held.data.toList.drop 48 = dktX3_held_2 := dk_seg dksX3_held_1 24 rfl rfl
theorem dksX3_held_3 : cX3_held.data.toList.drop 72 = dktX3_held_3 := dk_seg dksX3_held_2 24 rfl rfl
theorem dX3_held_0 : decode cX3_held 0 = .ok (.aload_n 0, 1) := dk_42 (dk_at dksX3_held_0 0 rfl rfl)
theorem dX3_held_1 : decode cX3_held 1 = .ok (.iload_n 1, 1) := dk_27 (dk_at dksX3_held_0 1 rfl rfl)
theorem dX3_held_2 : decode cX3_held 2 = .ok (.invokevirtual 169, 3) := dk_182 0 169 (dk_at dksX3_held_0 2 rfl rfl)
theorem dX3_held_5 : decode cX3_held 5 = .ok (.istore_n 2, 1) := dk_61 (dk_at dksX3_held_0 5 rfl rfl)
theorem dX3_held_6 : decode cX3_held 6 = .ok (.aload_n 0, 1) := dk_42 (dk_at dksX3_held_0 6 rfl rfl)
theorem dX3_held_7 : decode cX3_held 7 = .ok (.bipush 60, 2) := dk_16 60 (dk_at dksX3_held_0 7 rfl rfl)
theorem dX3_held_9 : decode cX3_held 9 = .ok (.invokevirtual 142, 3) := dk_182 0 142 (dk_at dksX3_held_0 9 rfl rfl)
theorem dX3_held_12 : decode cX3_held 12 = .ok (.ifCond .eq 18, 3) := dk_153 0 18 (dk_at dksX3_held_0 12 rfl rfl)
theorem dX3_held_15 : decode cX3_held 15 = .ok (.iload_n 2, 1) := dk_28 (dk_at dksX3_held_0 15 rfl rfl)
theorem dX3_held_16 : decode cX3_held 16 = .ok (.aload_n 0, 1) := dk_42 (dk_at dksX3_held_0 16 rfl rfl)
theorem dX3_held_17 : decode cX3_held 17 = .ok (.iload_n 1, 1) := dk_27 (dk_at dksX3_held_0 17 rfl rfl)
theorem dX3_held_18 : decode cX3_held 18 = .ok (.invokevirtual 169, 3) := dk_182 0 169 (dk_at dksX3_held_0 18 rfl rfl)
theorem dX3_held_21 : decode cX3_held 21 = .ok (.if_icmp .ge 7, 3) := dk_162 0 7 (dk_at dksX3_held_0 21 rfl rfl)
theorem dX3_held_24 : decode cX3_held 24 = .ok (.iconst 1, 1) := dk_4 (dk_at dksX3_held_1 0 rfl rfl)
theorem dX3_held_25 : decode cX3_held 25 = .ok (.goto 4, 3) := dk_167 0 4 (dk_at dksX3_held_1 1 rfl rfl)
theorem dX3_held_28 : decode cX3_held 28 = .ok (.iconst 0, 1) := dk_3 (dk_at dksX3_held_1 4 rfl rfl)
theorem dX3_held_29 : decode cX3_held 29 = .ok (.ireturn, 1) := dk_172 (dk_at dksX3_held_1 5 rfl rfl)
theorem dX3_held_30 : decode cX3_held 30 = .ok (.aload_n 0, 1) := dk_42 (dk_at dksX3_held_1 6 rfl rfl)
theorem dX3_held_31 : decode cX3_held 31 = .ok (.bipush 62, 2) := dk_16 62 (dk_at dksX3_held_1 7 rfl rfl)
theorem dX3_held_33 : decode cX3_held 33 = .ok (.invokevirtual 142, 3) := dk_182 0 142 (dk_at dksX3_held_1 9 rfl rfl)
theorem dX3_held_36 : decode cX3_held 36 = .ok (.ifCond .eq 18, 3) := dk_153 0 18 (dk_at dksX3_held_1 12 rfl rfl)
theorem dX3_held_39 : decode cX3_held 39 = .ok (.iload_n 2, 1) := dk_28 (dk_at dksX3_held_1 15 rfl rfl)
theorem dX3_held_40 : decode cX3_held 40 = .ok (.aload_n 0, 1) := dk_42 (dk_at dksX3_held_1 16 rfl rfl)
theorem dX3_held_41 : decode cX3_held 41 = .ok (.iload_n 1, 1) := dk_27 (dk_at dksX3_held_1 17 rfl rfl)
theorem dX3_held_42 : decode cX3_held 42 = .ok (.invokevirtual 169, 3) := dk_182 0 169 (dk_at dksX3_held_1 18 rfl rfl)
theorem dX3_held_45 : decode cX3_held 45 = .ok (.if_icmp .le 7, 3) := dk_164 0 7 (dk_at dksX3_held_1 21 rfl rfl)
theorem dX3_held_48 : decode cX3_held 48 = .ok (.iconst 1, 1) := dk_4 (dk_at dksX3_held_2 0 rfl rfl)
theorem dX3_held_49 : decode cX3_held 49 = .ok (.goto 4, 3) := dk_167 0 4 (dk_at dksX3_held_2 1 rfl rfl)
theorem dX3_held_52 : decode cX3_held 52 = .ok (.iconst 0, 1) := dk_3 (dk_at dksX3_held_2 4 rfl rfl)
theorem dX3_held_53 : decode cX3_held 53 = .ok (.ireturn, 1) := dk_172 (dk_at dksX3_held_2 5 rfl rfl)
theorem dX3_held_54 : decode cX3_held 54 = .ok (.aload_n 0, 1) := dk_42 (dk_at dksX3_held_2 6 rfl rfl)
theorem dX3_held_55 : decode cX3_held 55 = .ok (.bipush 61, 2) := dk_16 61 (dk_at dksX3_held_2 7 rfl rfl)
theorem dX3_held_57 : decode cX3_held 57 = .ok (.invokevirtual 142, 3) := dk_182 0 142 (dk_at dksX3_held_2 9 rfl rfl)
theorem dX3_held_60 : decode cX3_held 60 = .ok (.ifCond .eq 18, 3) := dk_153 0 18 (dk_at dksX3_held_2 12 rfl rfl)
theorem dX3_held_63 : decode cX3_held 63 = .ok (.iload_n 2, 1) := dk_28 (dk_at dksX3_held_2 15 rfl rfl)
theorem dX3_held_64 : decode cX3_held 64 = .ok (.aload_n 0, 1) := dk_42 (dk_at dksX3_held_2 16 rfl rfl)
theorem dX3_held_65 : decode cX3_held 65 = .ok (.iload_n 1, 1) := dk_27 (dk_at dksX3_held_2 17 rfl rfl)
theorem dX3_held_66 : decode cX3_held 66 = .ok (.invokevirtual 169, 3) := dk_182 0 169 (dk_at dksX3_held_2 18 rfl rfl)
theorem dX3_held_69 : decode cX3_held 69 = .ok (.if_icmp .ne 7, 3) := dk_160 0 7 (dk_at dksX3_held_2 21 rfl rfl)
theorem dX3_held_72 : decode cX3_held 72 = .ok (.iconst 1, 1) := dk_4 (dk_at dksX3_held_3 0 rfl rfl)
theorem dX3_held_73 : decode cX3_held 73 = .ok (.goto 4, 3) := dk_167 0 4 (dk_at dksX3_held_3 1 rfl rfl)
theorem dX3_held_76 : decode cX3_held 76 = .ok (.iconst 0, 1) := dk_3 (dk_at dksX3_held_3 4 rfl rfl)
theorem dX3_held_77 : decode cX3_held 77 = .ok (.ireturn, 1) := dk_172 (dk_at dksX3_held_3 5 rfl rfl)
theorem dX3_held_78 : decode cX3_held 78 = .ok (.iload_n 2, 1) := dk_28 (dk_at dksX3_held_3 6 rfl rfl)
theorem dX3_held_79 : decode cX3_held 79 = .ok (.ireturn, 1) := dk_172 (dk_at dksX3_held_3 7 rfl rfl)
abbrev cX3_sum : ByteArray := prog_9_method_26_code
def yX3_sum : MethodName := ⟨RX3, "sum", "(I)I"⟩
def dkwX3_sum_3 : List UInt8 := [167, 0, 7, 28, 21, 4, 100, 61, 167, 255, 183, 28, 172]
abbrev dktX3_sum_3 : List UInt8 := dkwX3_sum_3 ++ []
def dkwX3_sum_2 : List UInt8 := [89, 180, 0, 124, 4, 96, 181, 0, 124, 42, 27, 182, 0, 173, 54, 4, 29, 153, 0, 10, 28, 21, 4, 96]
abbrev dktX3_sum_2 : List UInt8 := dkwX3_sum_2 ++ dktX3_sum_3
def dkwX3_sum_1 : List UInt8 := [182, 0, 138, 16, 45, 160, 0, 54, 42, 182, 0, 138, 16, 43, 160, 0, 7, 4, 167, 0, 4, 3, 62, 42]
abbrev dktX3_sum_1 : List UInt8 := dkwX3_sum_1 ++ dktX3_sum_2
def dkwX3_sum_0 : List UInt8 := [42, 27, 182, 0, 173, 61, 42, 182, 0, 134, 153, 0, 72, 42, 182, 0, 138, 16, 43, 159, 0, 12, 42]
abbrev dktX3_sum_0 : List UInt8 := dkwX3_sum_0 ++ dktX3_sum_1
theorem dksX3_sum_0 : cX3_sum.data.toList.drop 0 = dktX3_sum_0 := by decide +kernel
theorem dksX3_sum_1 : cX3_sum.data.toList.drop 23 = dktX3_sum_1 := dk_seg dksX3_sum_0 23 rfl rfl
theorem dksX3_sum_2 : cX3_sum.data.toList.drop 47 = dktX3_sum_2 := dk_seg dksX3_sum_1 24 rfl rfl
theorem dksX3_sum_3 : cX3_sum.data.toList.drop 71 = dktX3_sum_3 := dk_seg dksX3_sum_2 24 rfl rfl
theorem dX3_sum_0 : decode cX3_sum 0 = .ok (.aload_n 0, 1) := dk_42 (dk_at dksX3_sum_0 0 rfl rfl)
theorem dX3_sum_1 : decode cX3_sum 1 = .ok (.iload_n 1, 1) := dk_27 (dk_at dksX3_sum_0 1 rfl rfl)
theorem dX3_sum_2 : decode cX3_sum 2 = .ok (.invokevirtual 173, 3) := dk_182 0 173 (dk_at dksX3_sum_0 2 rfl rfl)
theorem dX3_sum_5 : decode cX3_sum 5 = .ok (.istore_n 2, 1) := dk_61 (dk_at dksX3_sum_0 5 rfl rfl)
theorem dX3_sum_6 : decode cX3_sum 6 = .ok (.aload_n 0, 1) := dk_42 (dk_at dksX3_sum_0 6 rfl rfl)
theorem dX3_sum_7 : decode cX3_sum 7 = .ok (.invokevirtual 134, 3) := dk_182 0 134 (dk_at dksX3_sum_0 7 rfl rfl)
theorem dX3_sum_10 : decode cX3_sum 10 = .ok (.ifCond .eq 72, 3) := dk_153 0 72 (dk_at dksX3_sum_0 10 rfl rfl)
theorem dX3_sum_13 : decode cX3_sum 13 = .ok (.aload_n 0, 1) := dk_42 (dk_at dksX3_sum_0 13 rfl rfl)
theorem dX3_sum_14 : decode cX3_sum 14 = .ok (.invokevirtual 138, 3) := dk_182 0 138 (dk_at dksX3_sum_0 14 rfl rfl)
theorem dX3_sum_17 : decode cX3_sum 17 = .ok (.bipush 43, 2) := dk_16 43 (dk_at dksX3_sum_0 17 rfl rfl)
theorem dX3_sum_19 : decode cX3_sum 19 = .ok (.if_icmp .eq 12, 3) := dk_159 0 12 (dk_at dksX3_sum_0 19 rfl rfl)
theorem dX3_sum_22 : decode cX3_sum 22 = .ok (.aload_n 0, 1) := dk_42 (dk_at dksX3_sum_0 22 rfl rfl)
theorem dX3_sum_23 : decode cX3_sum 23 = .ok (.invokevirtual 138, 3) := dk_182 0 138 (dk_at dksX3_sum_1 0 rfl rfl)
theorem dX3_sum_26 : decode cX3_sum 26 = .ok (.bipush 45, 2) := dk_16 45 (dk_at dksX3_sum_1 3 rfl rfl)
theorem dX3_sum_28 : decode cX3_sum 28 = .ok (.if_icmp .ne 54, 3) := dk_160 0 54 (dk_at dksX3_sum_1 5 rfl rfl)
theorem dX3_sum_31 : decode cX3_sum 31 = .ok (.aload_n 0, 1) := dk_42 (dk_at dksX3_sum_1 8 rfl rfl)
theorem dX3_sum_32 : decode cX3_sum 32 = .ok (.invokevirtual 138, 3) := dk_182 0 138 (dk_at dksX3_sum_1 9 rfl rfl)
theorem dX3_sum_35 : decode cX3_sum 35 = .ok (.bipush 43, 2) := dk_16 43 (dk_at dksX3_sum_1 12 rfl rfl)
theorem dX3_sum_37 : decode cX3_sum 37 = .ok (.if_icmp .ne 7, 3) := dk_160 0 7 (dk_at dksX3_sum_1 14 rfl rfl)
theorem dX3_sum_40 : decode cX3_sum 40 = .ok (.iconst 1, 1) := dk_4 (dk_at dksX3_sum_1 17 rfl rfl)
theorem dX3_sum_41 : decode cX3_sum 41 = .ok (.goto 4, 3) := dk_167 0 4 (dk_at dksX3_sum_1 18 rfl rfl)
theorem dX3_sum_44 : decode cX3_sum 44 = .ok (.iconst 0, 1) := dk_3 (dk_at dksX3_sum_1 21 rfl rfl)
theorem dX3_sum_45 : decode cX3_sum 45 = .ok (.istore_n 3, 1) := dk_62 (dk_at dksX3_sum_1 22 rfl rfl)
theorem dX3_sum_46 : decode cX3_sum 46 = .ok (.aload_n 0, 1) := dk_42 (dk_at dksX3_sum_1 23 rfl rfl)
theorem dX3_sum_47 : decode cX3_sum 47 = .ok (.dup, 1) := dk_89 (dk_at dksX3_sum_2 0 rfl rfl)
theorem dX3_sum_48 : decode cX3_sum 48 = .ok (.getfield 124, 3) := dk_180 0 124 (dk_at dksX3_sum_2 1 rfl rfl)
theorem dX3_sum_51 : decode cX3_sum 51 = .ok (.iconst 1, 1) := dk_4 (dk_at dksX3_sum_2 4 rfl rfl)
theorem dX3_sum_52 : decode cX3_sum 52 = .ok (.iadd, 1) := dk_96 (dk_at dksX3_sum_2 5 rfl rfl)
theorem dX3_sum_53 : decode cX3_sum 53 = .ok (.putfield 124, 3) := dk_181 0 124 (dk_at dksX3_sum_2 6 rfl rfl)
theorem dX3_sum_56 : decode cX3_sum 56 = .ok (.aload_n 0, 1) := dk_42 (dk_at dksX3_sum_2 9 rfl rfl)
theorem dX3_sum_57 : decode cX3_sum 57 = .ok (.iload_n 1, 1) := dk_27 (dk_at dksX3_sum_2 10 rfl rfl)
theorem dX3_sum_58 : decode cX3_sum 58 = .ok (.invokevirtual 173, 3) := dk_182 0 173 (dk_at dksX3_sum_2 11 rfl rfl)
theorem dX3_sum_61 : decode cX3_sum 61 = .ok (.istore 4, 2) := dk_54 4 (dk_at dksX3_sum_2 14 rfl rfl)
theorem dX3_sum_63 : decode cX3_sum 63 = .ok (.iload_n 3, 1) := dk_29 (dk_at dksX3_sum_2 16 rfl rfl)
theorem dX3_sum_64 : decode cX3_sum 64 = .ok (.ifCond .eq 10, 3) := dk_153 0 10 (dk_at dksX3_sum_2 17 rfl rfl)
theorem dX3_sum_67 : decode cX3_sum 67 = .ok (.iload_n 2, 1) := dk_28 (dk_at dksX3_sum_2 20 rfl rfl)
theorem dX3_sum_68 : decode cX3_sum 68 = .ok (.iload 4, 2) := dk_21 4 (dk_at dksX3_sum_2 21 rfl rfl)
theorem dX3_sum_70 : decode cX3_sum 70 = .ok (.iadd, 1) := dk_96 (dk_at dksX3_sum_2 23 rfl rfl)
theorem dX3_sum_71 : decode cX3_sum 71 = .ok (.goto 7, 3) := dk_167 0 7 (dk_at dksX3_sum_3 0 rfl rfl)
theorem dX3_sum_74 : decode cX3_sum 74 = .ok (.iload_n 2, 1) := dk_28 (dk_at dksX3_sum_3 3 rfl rfl)
theorem dX3_sum_75 : decode cX3_sum 75 = .ok (.iload 4, 2) := dk_21 4 (dk_at dksX3_sum_3 4 rfl rfl)
theorem dX3_sum_77 : decode cX3_sum 77 = .ok (.isub, 1) := dk_100 (dk_at dksX3_sum_3 6 rfl rfl)
theorem dX3_sum_78 : decode cX3_sum 78 = .ok (.istore_n 2, 1) := dk_61 (dk_at dksX3_sum_3 7 rfl rfl)
theorem dX3_sum_79 : decode cX3_sum 79 = .ok (.goto (-73), 3) := dk_167 255 183 (dk_at dksX3_sum_3 8 rfl rfl)
theorem dX3_sum_82 : decode cX3_sum 82 = .ok (.iload_n 2, 1) := dk_28 (dk_at dksX3_sum_3 11 rfl rfl)
theorem dX3_sum_83 : decode cX3_sum 83 = .ok (.ireturn, 1) := dk_172 (dk_at dksX3_sum_3 12 rfl rfl)
abbrev cX3_product : ByteArray := prog_9_method_27_code
def yX3_product : MethodName := ⟨RX3, "product", "(I)I"⟩
def dkwX3_product_3 : List UInt8 := [167, 0, 16, 21, 4, 154, 0, 7, 3, 167, 0, 7, 28, 21, 4, 108, 61, 167, 255, 174, 28, 172]
abbrev dktX3_product_3 : List UInt8 := dkwX3_product_3 ++ []
def dkwX3_product_2 : List UInt8 := [89, 180, 0, 124, 4, 96, 181, 0, 124, 42, 27, 182, 0, 176, 54, 4, 29, 153, 0, 10, 28, 21, 4, 104]
abbrev dktX3_product_2 : List UInt8 := dkwX3_product_2 ++ dktX3_product_3
def dkwX3_product_1 : List UInt8 := [182, 0, 138, 16, 47, 160, 0, 63, 42, 182, 0, 138, 16, 42, 160, 0, 7, 4, 167, 0, 4, 3, 62, 42]
abbrev dktX3_product_1 : List UInt8 := dkwX3_product_1 ++ dktX3_product_2
def dkwX3_product_0 : List UInt8 := [42, 27, 182, 0, 176, 61, 42, 182, 0, 134, 153, 0, 81, 42, 182, 0, 138, 16, 42, 159, 0, 12, 42]
abbrev dktX3_product_0 : List UInt8 := dkwX3_product_0 ++ dktX3_product_1
theorem dksX3_product_0 : cX3_product.data.toList.drop 0 = dktX3_product_0 := by decide +kernel
theorem dksX3_product_1 : cX3_product.data.toList.drop 23 = dktX3_product_1 := dk_seg dksX3_product_0 23 rfl rfl
theorem dksX3_product_2 : cX3_product.data.toList.drop 47 = dktX3_product_2 := dk_seg dksX3_product_1 24 rfl rfl
theorem dksX3_product_3 : cX3_product.data.toList.drop 71 = dktX3_product_3 := dk_seg dksX3_product_2 24 rfl rfl
theorem dX3_product_0 : decode cX3_product 0 = .ok (.aload_n 0, 1) := dk_42 (dk_at dksX3_product_0 0 rfl rfl)
theorem dX3_product_1 : decode cX3_product 1 = .ok (.iload_n 1, 1) := dk_27 (dk_at dksX3_product_0 1 rfl rfl)
theorem dX3_product_2 : decode cX3_product 2 = .ok (.invokevirtual 176, 3) := dk_182 0 176 (dk_at dksX3_product_0 2 rfl rfl)
theorem dX3_product_5 : decode cX3_product 5 = .ok (.istore_n 2, 1) := dk_61 (dk_at dksX3_product_0 5 rfl rfl)
theorem dX3_product_6 : decode cX3_product 6 = .ok (.aload_n 0, 1) := dk_42 (dk_at dksX3_product_0 6 rfl rfl)
theorem dX3_product_7 : decode cX3_product 7 = .ok (.invokevirtual 134, 3) := dk_182 0 134 (dk_at dksX3_product_0 7 rfl rfl)
theorem dX3_product_10 : decode cX3_product 10 = .ok (.ifCond .eq 81, 3) := dk_153 0 81 (dk_at dksX3_product_0 10 rfl rfl)
theorem dX3_product_13 : decode cX3_product 13 = .ok (.aload_n 0, 1) := dk_42 (dk_at dksX3_product_0 13 rfl rfl)
theorem dX3_product_14 : decode cX3_product 14 = .ok (.invokevirtual 138, 3) := dk_182 0 138 (dk_at dksX3_product_0 14 rfl rfl)
theorem dX3_product_17 : decode cX3_product 17 = .ok (.bipush 42, 2) := dk_16 42 (dk_at dksX3_product_0 17 rfl rfl)
theorem dX3_product_19 : decode cX3_product 19 = .ok (.if_icmp .eq 12, 3) := dk_159 0 12 (dk_at dksX3_product_0 19 rfl rfl)
theorem dX3_product_22 : decode cX3_product 22 = .ok (.aload_n 0, 1) := dk_42 (dk_at dksX3_product_0 22 rfl rfl)
theorem dX3_product_23 : decode cX3_product 23 = .ok (.invokevirtual 138, 3) := dk_182 0 138 (dk_at dksX3_product_1 0 rfl rfl)
theorem dX3_product_26 : decode cX3_product 26 = .ok (.bipush 47, 2) := dk_16 47 (dk_at dksX3_product_1 3 rfl rfl)
theorem dX3_product_28 : decode cX3_product 28 = .ok (.if_icmp .ne 63, 3) := dk_160 0 63 (dk_at dksX3_product_1 5 rfl rfl)
theorem dX3_product_31 : decode cX3_product 31 = .ok (.aload_n 0, 1) := dk_42 (dk_at dksX3_product_1 8 rfl rfl)
theorem dX3_product_32 : decode cX3_product 32 = .ok (.invokevirtual 138, 3) := dk_182 0 138 (dk_at dksX3_product_1 9 rfl rfl)
theorem dX3_product_35 : decode cX3_product 35 = .ok (.bipush 42, 2) := dk_16 42 (dk_at dksX3_product_1 12 rfl rfl)
theorem dX3_product_37 : decode cX3_product 37 = .ok (.if_icmp .ne 7, 3) := dk_160 0 7 (dk_at dksX3_product_1 14 rfl rfl)
theorem dX3_product_40 : decode cX3_product 40 = .ok (.iconst 1, 1) := dk_4 (dk_at dksX3_product_1 17 rfl rfl)
theorem dX3_product_41 : decode cX3_product 41 = .ok (.goto 4, 3) := dk_167 0 4 (dk_at dksX3_product_1 18 rfl rfl)
theorem dX3_product_44 : decode cX3_product 44 = .ok (.iconst 0, 1) := dk_3 (dk_at dksX3_product_1 21 rfl rfl)
theorem dX3_product_45 : decode cX3_product 45 = .ok (.istore_n 3, 1) := dk_62 (dk_at dksX3_product_1 22 rfl rfl)
theorem dX3_product_46 : decode cX3_product 46 = .ok (.aload_n 0, 1) := dk_42 (dk_at dksX3_product_1 23 rfl rfl)
theorem dX3_product_47 : decode cX3_product 47 = .ok (.dup, 1) := dk_89 (dk_at dksX3_product_2 0 rfl rfl)
theorem dX3_product_48 : decode cX3_product 48 = .ok (.getfield 124, 3) := dk_180 0 124 (dk_at dksX3_product_2 1 rfl rfl)
theorem dX3_product_51 : decode cX3_product 51 = .ok (.iconst 1, 1) := dk_4 (dk_at dksX3_product_2 4 rfl rfl)
theorem dX3_product_52 : decode cX3_product 52 = .ok (.iadd, 1) := dk_96 (dk_at dksX3_product_2 5 rfl rfl)
theorem dX3_product_53 : decode cX3_product 53 = .ok (.putfield 124, 3) := dk_181 0 124 (dk_at dksX3_product_2 6 rfl rfl)
theorem dX3_product_56 : decode cX3_product 56 = .ok (.aload_n 0, 1) := dk_42 (dk_at dksX3_product_2 9 rfl rfl)
theorem dX3_product_57 : decode cX3_product 57 = .ok (.iload_n 1, 1) := dk_27 (dk_at dksX3_product_2 10 rfl rfl)
theorem dX3_product_58 : decode cX3_product 58 = .ok (.invokevirtual 176, 3) := dk_182 0 176 (dk_at dksX3_product_2 11 rfl rfl)
theorem dX3_product_61 : decode cX3_product 61 = .ok (.istore 4, 2) := dk_54 4 (dk_at dksX3_product_2 14 rfl rfl)
theorem dX3_product_63 : decode cX3_product 63 = .ok (.iload_n 3, 1) := dk_29 (dk_at dksX3_product_2 16 rfl rfl)
theorem dX3_product_64 : decode cX3_product 64 = .ok (.ifCond .eq 10, 3) := dk_153 0 10 (dk_at dksX3_product_2 17 rfl rfl)
theorem dX3_product_67 : decode cX3_product 67 = .ok (.iload_n 2, 1) := dk_28 (dk_at dksX3_product_2 20 rfl rfl)
theorem dX3_product_68 : decode cX3_product 68 = .ok (.iload 4, 2) := dk_21 4 (dk_at dksX3_product_2 21 rfl rfl)
theorem dX3_product_70 : decode cX3_product 70 = .ok (.imul, 1) := dk_104 (dk_at dksX3_product_2 23 rfl rfl)
theorem dX3_product_71 : decode cX3_product 71 = .ok (.goto 16, 3) := dk_167 0 16 (dk_at dksX3_product_3 0 rfl rfl)
theorem dX3_product_74 : decode cX3_product 74 = .ok (.iload 4, 2) := dk_21 4 (dk_at dksX3_product_3 3 rfl rfl)
theorem dX3_product_76 : decode cX3_product 76 = .ok (.ifCond .ne 7, 3) := dk_154 0 7 (dk_at dksX3_product_3 5 rfl rfl)
theorem dX3_product_79 : decode cX3_product 79 = .ok (.iconst 0, 1) := dk_3 (dk_at dksX3_product_3 8 rfl rfl)
theorem dX3_product_80 : decode cX3_product 80 = .ok (.goto 7, 3) := dk_167 0 7 (dk_at dksX3_product_3 9 rfl rfl)
theorem dX3_product_83 : decode cX3_product 83 = .ok (.iload_n 2, 1) := dk_28 (dk_at dksX3_product_3 12 rfl rfl)
theorem dX3_product_84 : decode cX3_product 84 = .ok (.iload 4, 2) := dk_21 4 (dk_at dksX3_product_3 13 rfl rfl)
theorem dX3_product_86 : decode cX3_product 86 = .ok (.idiv, 1) := dk_108 (dk_at dksX3_product_3 15 rfl rfl)
theorem dX3_product_87 : decode cX3_product 87 = .ok (.istore_n 2, 1) := dk_61 (dk_at dksX3_product_3 16 rfl rfl)
theorem dX3_product_88 : decode cX3_product 88 = .ok (.goto (-82), 3) := dk_167 255 174 (dk_at dksX3_product_3 17 rfl rfl)
theorem dX3_product_91 : decode cX3_product 91 = .ok (.iload_n 2, 1) := dk_28 (dk_at dksX3_product_3 20 rfl rfl)
theorem dX3_product_92 : decode cX3_product 92 = .ok (.ireturn, 1) := dk_172 (dk_at dksX3_product_3 21 rfl rfl)
abbrev cX3_thing : ByteArray := prog_9_method_29_code
def yX3_thing : MethodName := ⟨RX3, "thing", "(I)I"⟩
def dkwX3_thing_5 : List UInt8 := [153, 0, 15, 42, 180, 0, 39, 28, 184, 0, 189, 46, 167, 0, 4, 3, 172]
abbrev dktX3_thing_5 : List UInt8 := dkwX3_thing_5 ++ []
def dkwX3_thing_4 : List UInt8 := [180, 0, 124, 182, 0, 146, 3, 172, 42, 89, 180, 0, 124, 4, 96, 181, 0, 124, 42, 180, 0, 192]
abbrev dktX3_thing_4 : List UInt8 := dkwX3_thing_4 ++ dktX3_thing_5
def dkwX3_thing_3 : List UInt8 := [184, 0, 104, 153, 0, 9, 42, 6, 182, 0, 186, 172, 28, 184, 0, 189, 2, 160, 0, 13, 42, 42]
abbrev dktX3_thing_3 : List UInt8 := dkwX3_thing_3 ++ dktX3_thing_4
def dkwX3_thing_2 : List UInt8 := [181, 0, 124, 42, 27, 4, 96, 182, 0, 179, 62, 42, 16, 41, 182, 0, 182, 29, 172, 28, 16, 48, 16, 57]
abbrev dktX3_thing_2 : List UInt8 := dkwX3_thing_2 ++ dktX3_thing_3
def dkwX3_thing_1 : List UInt8 := [172, 42, 182, 0, 138, 61, 28, 16, 40, 160, 0, 34, 27, 7, 162, 0, 29, 42, 89, 180, 0, 124, 4, 96]
abbrev dktX3_thing_1 : List UInt8 := dkwX3_thing_1 ++ dktX3_thing_2
def dkwX3_thing_0 : List UInt8 := [42, 16, 45, 182, 0, 142, 153, 0, 10, 42, 27, 182, 0, 176, 116, 172, 42, 182, 0, 134, 154, 0, 5, 3]
abbrev dktX3_thing_0 : List UInt8 := dkwX3_thing_0 ++ dktX3_thing_1
theorem dksX3_thing_0 : cX3_thing.data.toList.drop 0 = dktX3_thing_0 := by decide +kernel
theorem dksX3_thing_1 : cX3_thing.data.toList.drop 24 = dktX3_thing_1 := dk_seg dksX3_thing_0 24 rfl rfl
theorem dksX3_thing_2 : cX3_thing.data.toList.drop 48 = dktX3_thing_2 := dk_seg dksX3_thing_1 24 rfl rfl
theorem dksX3_thing_3 : cX3_thing.data.toList.drop 72 = dktX3_thing_3 := dk_seg dksX3_thing_2 24 rfl rfl
theorem dksX3_thing_4 : cX3_thing.data.toList.drop 94 = dktX3_thing_4 := dk_seg dksX3_thing_3 22 rfl rfl
theorem dksX3_thing_5 : cX3_thing.data.toList.drop 116 = dktX3_thing_5 := dk_seg dksX3_thing_4 22 rfl rfl
theorem dX3_thing_0 : decode cX3_thing 0 = .ok (.aload_n 0, 1) := dk_42 (dk_at dksX3_thing_0 0 rfl rfl)
theorem dX3_thing_1 : decode cX3_thing 1 = .ok (.bipush 45, 2) := dk_16 45 (dk_at dksX3_thing_0 1 rfl rfl)
theorem dX3_thing_3 : decode cX3_thing 3 = .ok (.invokevirtual 142, 3) := dk_182 0 142 (dk_at dksX3_thing_0 3 rfl rfl)
theorem dX3_thing_6 : decode cX3_thing 6 = .ok (.ifCond .eq 10, 3) := dk_153 0 10 (dk_at dksX3_thing_0 6 rfl rfl)
theorem dX3_thing_9 : decode cX3_thing 9 = .ok (.aload_n 0, 1) := dk_42 (dk_at dksX3_thing_0 9 rfl rfl)
theorem dX3_thing_10 : decode cX3_thing 10 = .ok (.iload_n 1, 1) := dk_27 (dk_at dksX3_thing_0 10 rfl rfl)
theorem dX3_thing_11 : decode cX3_thing 11 = .ok (.invokevirtual 176, 3) := dk_182 0 176 (dk_at dksX3_thing_0 11 rfl rfl)
theorem dX3_thing_14 : decode cX3_thing 14 = .ok (.ineg, 1) := dk_116 (dk_at dksX3_thing_0 14 rfl rfl)
theorem dX3_thing_15 : decode cX3_thing 15 = .ok (.ireturn, 1) := dk_172 (dk_at dksX3_thing_0 15 rfl rfl)
theorem dX3_thing_16 : decode cX3_thing 16 = .ok (.aload_n 0, 1) := dk_42 (dk_at dksX3_thing_0 16 rfl rfl)
theorem dX3_thing_17 : decode cX3_thing 17 = .ok (.invokevirtual 134, 3) := dk_182 0 134 (dk_at dksX3_thing_0 17 rfl rfl)
theorem dX3_thing_20 : decode cX3_thing 20 = .ok (.ifCond .ne 5, 3) := dk_154 0 5 (dk_at dksX3_thing_0 20 rfl rfl)
theorem dX3_thing_23 : decode cX3_thing 23 = .ok (.iconst 0, 1) := dk_3 (dk_at dksX3_thing_0 23 rfl rfl)
theorem dX3_thing_24 : decode cX3_thing 24 = .ok (.ireturn, 1) := dk_172 (dk_at dksX3_thing_1 0 rfl rfl)
theorem dX3_thing_25 : decode cX3_thing 25 = .ok (.aload_n 0, 1) := dk_42 (dk_at dksX3_thing_1 1 rfl rfl)
theorem dX3_thing_26 : decode cX3_thing 26 = .ok (.invokevirtual 138, 3) := dk_182 0 138 (dk_at dksX3_thing_1 2 rfl rfl)
theorem dX3_thing_29 : decode cX3_thing 29 = .ok (.istore_n 2, 1) := dk_61 (dk_at dksX3_thing_1 5 rfl rfl)
theorem dX3_thing_30 : decode cX3_thing 30 = .ok (.iload_n 2, 1) := dk_28 (dk_at dksX3_thing_1 6 rfl rfl)
theorem dX3_thing_31 : decode cX3_thing 31 = .ok (.bipush 40, 2) := dk_16 40 (dk_at dksX3_thing_1 7 rfl rfl)
theorem dX3_thing_33 : decode cX3_thing 33 = .ok (.if_icmp .ne 34, 3) := dk_160 0 34 (dk_at dksX3_thing_1 9 rfl rfl)
theorem dX3_thing_36 : decode cX3_thing 36 = .ok (.iload_n 1, 1) := dk_27 (dk_at dksX3_thing_1 12 rfl rfl)
theorem dX3_thing_37 : decode cX3_thing 37 = .ok (.iconst 4, 1) := dk_7 (dk_at dksX3_thing_1 13 rfl rfl)
theorem dX3_thing_38 : decode cX3_thing 38 = .ok (.if_icmp .ge 29, 3) := dk_162 0 29 (dk_at dksX3_thing_1 14 rfl rfl)
theorem dX3_thing_41 : decode cX3_thing 41 = .ok (.aload_n 0, 1) := dk_42 (dk_at dksX3_thing_1 17 rfl rfl)
theorem dX3_thing_42 : decode cX3_thing 42 = .ok (.dup, 1) := dk_89 (dk_at dksX3_thing_1 18 rfl rfl)
theorem dX3_thing_43 : decode cX3_thing 43 = .ok (.getfield 124, 3) := dk_180 0 124 (dk_at dksX3_thing_1 19 rfl rfl)
theorem dX3_thing_46 : decode cX3_thing 46 = .ok (.iconst 1, 1) := dk_4 (dk_at dksX3_thing_1 22 rfl rfl)
theorem dX3_thing_47 : decode cX3_thing 47 = .ok (.iadd, 1) := dk_96 (dk_at dksX3_thing_1 23 rfl rfl)
theorem dX3_thing_48 : decode cX3_thing 48 = .ok (.putfield 124, 3) := dk_181 0 124 (dk_at dksX3_thing_2 0 rfl rfl)
theorem dX3_thing_51 : decode cX3_thing 51 = .ok (.aload_n 0, 1) := dk_42 (dk_at dksX3_thing_2 3 rfl rfl)
theorem dX3_thing_52 : decode cX3_thing 52 = .ok (.iload_n 1, 1) := dk_27 (dk_at dksX3_thing_2 4 rfl rfl)
theorem dX3_thing_53 : decode cX3_thing 53 = .ok (.iconst 1, 1) := dk_4 (dk_at dksX3_thing_2 5 rfl rfl)
theorem dX3_thing_54 : decode cX3_thing 54 = .ok (.iadd, 1) := dk_96 (dk_at dksX3_thing_2 6 rfl rfl)
theorem dX3_thing_55 : decode cX3_thing 55 = .ok (.invokevirtual 179, 3) := dk_182 0 179 (dk_at dksX3_thing_2 7 rfl rfl)
theorem dX3_thing_58 : decode cX3_thing 58 = .ok (.istore_n 3, 1) := dk_62 (dk_at dksX3_thing_2 10 rfl rfl)
theorem dX3_thing_59 : decode cX3_thing 59 = .ok (.aload_n 0, 1) := dk_42 (dk_at dksX3_thing_2 11 rfl rfl)
theorem dX3_thing_60 : decode cX3_thing 60 = .ok (.bipush 41, 2) := dk_16 41 (dk_at dksX3_thing_2 12 rfl rfl)
theorem dX3_thing_62 : decode cX3_thing 62 = .ok (.invokevirtual 182, 3) := dk_182 0 182 (dk_at dksX3_thing_2 14 rfl rfl)
theorem dX3_thing_65 : decode cX3_thing 65 = .ok (.iload_n 3, 1) := dk_29 (dk_at dksX3_thing_2 17 rfl rfl)
theorem dX3_thing_66 : decode cX3_thing 66 = .ok (.ireturn, 1) := dk_172 (dk_at dksX3_thing_2 18 rfl rfl)
theorem dX3_thing_67 : decode cX3_thing 67 = .ok (.iload_n 2, 1) := dk_28 (dk_at dksX3_thing_2 19 rfl rfl)
theorem dX3_thing_68 : decode cX3_thing 68 = .ok (.bipush 48, 2) := dk_16 48 (dk_at dksX3_thing_2 20 rfl rfl)
theorem dX3_thing_70 : decode cX3_thing 70 = .ok (.bipush 57, 2) := dk_16 57 (dk_at dksX3_thing_2 22 rfl rfl)
theorem dX3_thing_72 : decode cX3_thing 72 = .ok (.invokestatic 104, 3) := dk_184 0 104 (dk_at dksX3_thing_3 0 rfl rfl)
theorem dX3_thing_75 : decode cX3_thing 75 = .ok (.ifCond .eq 9, 3) := dk_153 0 9 (dk_at dksX3_thing_3 3 rfl rfl)
theorem dX3_thing_78 : decode cX3_thing 78 = .ok (.aload_n 0, 1) := dk_42 (dk_at dksX3_thing_3 6 rfl rfl)
theorem dX3_thing_79 : decode cX3_thing 79 = .ok (.iconst 3, 1) := dk_6 (dk_at dksX3_thing_3 7 rfl rfl)
theorem dX3_thing_80 : decode cX3_thing 80 = .ok (.invokevirtual 186, 3) := dk_182 0 186 (dk_at dksX3_thing_3 8 rfl rfl)
theorem dX3_thing_83 : decode cX3_thing 83 = .ok (.ireturn, 1) := dk_172 (dk_at dksX3_thing_3 11 rfl rfl)
theorem dX3_thing_84 : decode cX3_thing 84 = .ok (.iload_n 2, 1) := dk_28 (dk_at dksX3_thing_3 12 rfl rfl)
theorem dX3_thing_85 : decode cX3_thing 85 = .ok (.invokestatic 189, 3) := dk_184 0 189 (dk_at dksX3_thing_3 13 rfl rfl)
theorem dX3_thing_88 : decode cX3_thing 88 = .ok (.iconst (-1), 1) := dk_2 (dk_at dksX3_thing_3 16 rfl rfl)
theorem dX3_thing_89 : decode cX3_thing 89 = .ok (.if_icmp .ne 13, 3) := dk_160 0 13 (dk_at dksX3_thing_3 17 rfl rfl)
theorem dX3_thing_92 : decode cX3_thing 92 = .ok (.aload_n 0, 1) := dk_42 (dk_at dksX3_thing_3 20 rfl rfl)
theorem dX3_thing_93 : decode cX3_thing 93 = .ok (.aload_n 0, 1) := dk_42 (dk_at dksX3_thing_3 21 rfl rfl)
theorem dX3_thing_94 : decode cX3_thing 94 = .ok (.getfield 124, 3) := dk_180 0 124 (dk_at dksX3_thing_4 0 rfl rfl)
theorem dX3_thing_97 : decode cX3_thing 97 = .ok (.invokevirtual 146, 3) := dk_182 0 146 (dk_at dksX3_thing_4 3 rfl rfl)
theorem dX3_thing_100 : decode cX3_thing 100 = .ok (.iconst 0, 1) := dk_3 (dk_at dksX3_thing_4 6 rfl rfl)
theorem dX3_thing_101 : decode cX3_thing 101 = .ok (.ireturn, 1) := dk_172 (dk_at dksX3_thing_4 7 rfl rfl)
theorem dX3_thing_102 : decode cX3_thing 102 = .ok (.aload_n 0, 1) := dk_42 (dk_at dksX3_thing_4 8 rfl rfl)
theorem dX3_thing_103 : decode cX3_thing 103 = .ok (.dup, 1) := dk_89 (dk_at dksX3_thing_4 9 rfl rfl)
theorem dX3_thing_104 : decode cX3_thing 104 = .ok (.getfield 124, 3) := dk_180 0 124 (dk_at dksX3_thing_4 10 rfl rfl)
theorem dX3_thing_107 : decode cX3_thing 107 = .ok (.iconst 1, 1) := dk_4 (dk_at dksX3_thing_4 13 rfl rfl)
theorem dX3_thing_108 : decode cX3_thing 108 = .ok (.iadd, 1) := dk_96 (dk_at dksX3_thing_4 14 rfl rfl)
theorem dX3_thing_109 : decode cX3_thing 109 = .ok (.putfield 124, 3) := dk_181 0 124 (dk_at dksX3_thing_4 15 rfl rfl)
theorem dX3_thing_112 : decode cX3_thing 112 = .ok (.aload_n 0, 1) := dk_42 (dk_at dksX3_thing_4 18 rfl rfl)
theorem dX3_thing_113 : decode cX3_thing 113 = .ok (.getfield 192, 3) := dk_180 0 192 (dk_at dksX3_thing_4 19 rfl rfl)
theorem dX3_thing_116 : decode cX3_thing 116 = .ok (.ifCond .eq 15, 3) := dk_153 0 15 (dk_at dksX3_thing_5 0 rfl rfl)
theorem dX3_thing_119 : decode cX3_thing 119 = .ok (.aload_n 0, 1) := dk_42 (dk_at dksX3_thing_5 3 rfl rfl)
theorem dX3_thing_120 : decode cX3_thing 120 = .ok (.getfield 39, 3) := dk_180 0 39 (dk_at dksX3_thing_5 4 rfl rfl)
theorem dX3_thing_123 : decode cX3_thing 123 = .ok (.iload_n 2, 1) := dk_28 (dk_at dksX3_thing_5 7 rfl rfl)
theorem dX3_thing_124 : decode cX3_thing 124 = .ok (.invokestatic 189, 3) := dk_184 0 189 (dk_at dksX3_thing_5 8 rfl rfl)
theorem dX3_thing_127 : decode cX3_thing 127 = .ok (.iaload, 1) := dk_46 (dk_at dksX3_thing_5 11 rfl rfl)
theorem dX3_thing_128 : decode cX3_thing 128 = .ok (.goto 4, 3) := dk_167 0 4 (dk_at dksX3_thing_5 12 rfl rfl)
theorem dX3_thing_131 : decode cX3_thing 131 = .ok (.iconst 0, 1) := dk_3 (dk_at dksX3_thing_5 15 rfl rfl)
theorem dX3_thing_132 : decode cX3_thing 132 = .ok (.ireturn, 1) := dk_172 (dk_at dksX3_thing_5 16 rfl rfl)
abbrev cX3_need : ByteArray := prog_9_method_19_code
def yX3_need : MethodName := ⟨RX3, "need", "(C)V"⟩
def dkwX3_need_0 : List UInt8 := [42, 27, 182, 0, 142, 154, 0, 11, 42, 42, 180, 0, 124, 182, 0, 146, 177]
abbrev dktX3_need_0 : List UInt8 := dkwX3_need_0 ++ []
theorem dksX3_need_0 : cX3_need.data.toList.drop 0 = dktX3_need_0 := by decide +kernel
theorem dX3_need_0 : decode cX3_need 0 = .ok (.aload_n 0, 1) := dk_42 (dk_at dksX3_need_0 0 rfl rfl)
theorem dX3_need_1 : decode cX3_need 1 = .ok (.iload_n 1, 1) := dk_27 (dk_at dksX3_need_0 1 rfl rfl)
theorem dX3_need_2 : decode cX3_need 2 = .ok (.invokevirtual 142, 3) := dk_182 0 142 (dk_at dksX3_need_0 2 rfl rfl)
theorem dX3_need_5 : decode cX3_need 5 = .ok (.ifCond .ne 11, 3) := dk_154 0 11 (dk_at dksX3_need_0 5 rfl rfl)
theorem dX3_need_8 : decode cX3_need 8 = .ok (.aload_n 0, 1) := dk_42 (dk_at dksX3_need_0 8 rfl rfl)
theorem dX3_need_9 : decode cX3_need 9 = .ok (.aload_n 0, 1) := dk_42 (dk_at dksX3_need_0 9 rfl rfl)
theorem dX3_need_10 : decode cX3_need 10 = .ok (.getfield 124, 3) := dk_180 0 124 (dk_at dksX3_need_0 10 rfl rfl)
theorem dX3_need_13 : decode cX3_need 13 = .ok (.invokevirtual 146, 3) := dk_182 0 146 (dk_at dksX3_need_0 13 rfl rfl)
theorem dX3_need_16 : decode cX3_need 16 = .ok (.return_, 1) := dk_177 (dk_at dksX3_need_0 16 rfl rfl)
abbrev cX3_number : ByteArray := prog_9_method_21_code
def yX3_number : MethodName := ⟨RX3, "number", "(I)I"⟩
def dkwX3_number_2 : List UInt8 := [182, 0, 150, 96, 61, 132, 3, 1, 167, 255, 213, 28, 172]
abbrev dktX3_number_2 : List UInt8 := dkwX3_number_2 ++ []
def dkwX3_number_1 : List UInt8 := [182, 0, 138, 16, 48, 16, 57, 184, 0, 104, 153, 0, 23, 16, 10, 28, 104, 42, 16, 48, 16, 10]
abbrev dktX3_number_1 : List UInt8 := dkwX3_number_1 ++ dktX3_number_2
def dkwX3_number_0 : List UInt8 := [42, 16, 48, 16, 10, 182, 0, 150, 61, 4, 62, 29, 27, 162, 0, 44, 42, 182, 0, 134, 153, 0, 37, 42]
abbrev dktX3_number_0 : List UInt8 := dkwX3_number_0 ++ dktX3_number_1
theorem dksX3_number_0 : cX3_number.data.toList.drop 0 = dktX3_number_0 := by decide +kernel
theorem dksX3_number_1 : cX3_number.data.toList.drop 24 = dktX3_number_1 := dk_seg dksX3_number_0 24 rfl rfl
theorem dksX3_number_2 : cX3_number.data.toList.drop 46 = dktX3_number_2 := dk_seg dksX3_number_1 22 rfl rfl
theorem dX3_number_0 : decode cX3_number 0 = .ok (.aload_n 0, 1) := dk_42 (dk_at dksX3_number_0 0 rfl rfl)
theorem dX3_number_1 : decode cX3_number 1 = .ok (.bipush 48, 2) := dk_16 48 (dk_at dksX3_number_0 1 rfl rfl)
theorem dX3_number_3 : decode cX3_number 3 = .ok (.bipush 10, 2) := dk_16 10 (dk_at dksX3_number_0 3 rfl rfl)
theorem dX3_number_5 : decode cX3_number 5 = .ok (.invokevirtual 150, 3) := dk_182 0 150 (dk_at dksX3_number_0 5 rfl rfl)
theorem dX3_number_8 : decode cX3_number 8 = .ok (.istore_n 2, 1) := dk_61 (dk_at dksX3_number_0 8 rfl rfl)
theorem dX3_number_9 : decode cX3_number 9 = .ok (.iconst 1, 1) := dk_4 (dk_at dksX3_number_0 9 rfl rfl)
theorem dX3_number_10 : decode cX3_number 10 = .ok (.istore_n 3, 1) := dk_62 (dk_at dksX3_number_0 10 rfl rfl)
theorem dX3_number_11 : decode cX3_number 11 = .ok (.iload_n 3, 1) := dk_29 (dk_at dksX3_number_0 11 rfl rfl)
theorem dX3_number_12 : decode cX3_number 12 = .ok (.iload_n 1, 1) := dk_27 (dk_at dksX3_number_0 12 rfl rfl)
theorem dX3_number_13 : decode cX3_number 13 = .ok (.if_icmp .ge 44, 3) := dk_162 0 44 (dk_at dksX3_number_0 13 rfl rfl)
theorem dX3_number_16 : decode cX3_number 16 = .ok (.aload_n 0, 1) := dk_42 (dk_at dksX3_number_0 16 rfl rfl)
theorem dX3_number_17 : decode cX3_number 17 = .ok (.invokevirtual 134, 3) := dk_182 0 134 (dk_at dksX3_number_0 17 rfl rfl)
theorem dX3_number_20 : decode cX3_number 20 = .ok (.ifCond .eq 37, 3) := dk_153 0 37 (dk_at dksX3_number_0 20 rfl rfl)
theorem dX3_number_23 : decode cX3_number 23 = .ok (.aload_n 0, 1) := dk_42 (dk_at dksX3_number_0 23 rfl rfl)
theorem dX3_number_24 : decode cX3_number 24 = .ok (.invokevirtual 138, 3) := dk_182 0 138 (dk_at dksX3_number_1 0 rfl rfl)
theorem dX3_number_27 : decode cX3_number 27 = .ok (.bipush 48, 2) := dk_16 48 (dk_at dksX3_number_1 3 rfl rfl)
theorem dX3_number_29 : decode cX3_number 29 = .ok (.bipush 57, 2) := dk_16 57 (dk_at dksX3_number_1 5 rfl rfl)
theorem dX3_number_31 : decode cX3_number 31 = .ok (.invokestatic 104, 3) := dk_184 0 104 (dk_at dksX3_number_1 7 rfl rfl)
theorem dX3_number_34 : decode cX3_number 34 = .ok (.ifCond .eq 23, 3) := dk_153 0 23 (dk_at dksX3_number_1 10 rfl rfl)
theorem dX3_number_37 : decode cX3_number 37 = .ok (.bipush 10, 2) := dk_16 10 (dk_at dksX3_number_1 13 rfl rfl)
theorem dX3_number_39 : decode cX3_number 39 = .ok (.iload_n 2, 1) := dk_28 (dk_at dksX3_number_1 15 rfl rfl)
theorem dX3_number_40 : decode cX3_number 40 = .ok (.imul, 1) := dk_104 (dk_at dksX3_number_1 16 rfl rfl)
theorem dX3_number_41 : decode cX3_number 41 = .ok (.aload_n 0, 1) := dk_42 (dk_at dksX3_number_1 17 rfl rfl)
theorem dX3_number_42 : decode cX3_number 42 = .ok (.bipush 48, 2) := dk_16 48 (dk_at dksX3_number_1 18 rfl rfl)
theorem dX3_number_44 : decode cX3_number 44 = .ok (.bipush 10, 2) := dk_16 10 (dk_at dksX3_number_1 20 rfl rfl)
theorem dX3_number_46 : decode cX3_number 46 = .ok (.invokevirtual 150, 3) := dk_182 0 150 (dk_at dksX3_number_2 0 rfl rfl)
theorem dX3_number_49 : decode cX3_number 49 = .ok (.iadd, 1) := dk_96 (dk_at dksX3_number_2 3 rfl rfl)
theorem dX3_number_50 : decode cX3_number 50 = .ok (.istore_n 2, 1) := dk_61 (dk_at dksX3_number_2 4 rfl rfl)
theorem dX3_number_51 : decode cX3_number 51 = .ok (.iinc 3 1, 3) := dk_132 3 1 (dk_at dksX3_number_2 5 rfl rfl)
theorem dX3_number_54 : decode cX3_number 54 = .ok (.goto (-43), 3) := dk_167 255 213 (dk_at dksX3_number_2 8 rfl rfl)
theorem dX3_number_57 : decode cX3_number 57 = .ok (.iload_n 2, 1) := dk_28 (dk_at dksX3_number_2 11 rfl rfl)
theorem dX3_number_58 : decode cX3_number 58 = .ok (.ireturn, 1) := dk_172 (dk_at dksX3_number_2 12 rfl rfl)
abbrev cX3_letterOf : ByteArray := prog_9_method_28_code
def yX3_letterOf : MethodName := ⟨RX3, "letterOf", "(I)I"⟩
def dkwX3_letterOf_2 : List UInt8 := [167, 0, 14, 26, 16, 110, 160, 0, 7, 8, 167, 0, 4, 2, 172]
abbrev dktX3_letterOf_2 : List UInt8 := dkwX3_letterOf_2 ++ []
def dkwX3_letterOf_1 : List UInt8 := [160, 0, 7, 5, 167, 0, 34, 26, 16, 116, 160, 0, 7, 6, 167, 0, 24, 26, 16, 107, 160, 0, 7, 7]
abbrev dktX3_letterOf_1 : List UInt8 := dkwX3_letterOf_1 ++ dktX3_letterOf_2
def dkwX3_letterOf_0 : List UInt8 := [26, 16, 108, 160, 0, 7, 3, 167, 0, 54, 26, 16, 98, 160, 0, 7, 4, 167, 0, 44, 26, 16, 104]
abbrev dktX3_letterOf_0 : List UInt8 := dkwX3_letterOf_0 ++ dktX3_letterOf_1
theorem dksX3_letterOf_0 : cX3_letterOf.data.toList.drop 0 = dktX3_letterOf_0 := by decide +kernel
theorem dksX3_letterOf_1 : cX3_letterOf.data.toList.drop 23 = dktX3_letterOf_1 := dk_seg dksX3_letterOf_0 23 rfl rfl
theorem dksX3_letterOf_2 : cX3_letterOf.data.toList.drop 47 = dktX3_letterOf_2 := dk_seg dksX3_letterOf_1 24 rfl rfl
theorem dX3_letterOf_0 : decode cX3_letterOf 0 = .ok (.iload_n 0, 1) := dk_26 (dk_at dksX3_letterOf_0 0 rfl rfl)
theorem dX3_letterOf_1 : decode cX3_letterOf 1 = .ok (.bipush 108, 2) := dk_16 108 (dk_at dksX3_letterOf_0 1 rfl rfl)
theorem dX3_letterOf_3 : decode cX3_letterOf 3 = .ok (.if_icmp .ne 7, 3) := dk_160 0 7 (dk_at dksX3_letterOf_0 3 rfl rfl)
theorem dX3_letterOf_6 : decode cX3_letterOf 6 = .ok (.iconst 0, 1) := dk_3 (dk_at dksX3_letterOf_0 6 rfl rfl)
theorem dX3_letterOf_7 : decode cX3_letterOf 7 = .ok (.goto 54, 3) := dk_167 0 54 (dk_at dksX3_letterOf_0 7 rfl rfl)
theorem dX3_letterOf_10 : decode cX3_letterOf 10 = .ok (.iload_n 0, 1) := dk_26 (dk_at dksX3_letterOf_0 10 rfl rfl)
theorem dX3_letterOf_11 : decode cX3_letterOf 11 = .ok (.bipush 98, 2) := dk_16 98 (dk_at dksX3_letterOf_0 11 rfl rfl)
theorem dX3_letterOf_13 : decode cX3_letterOf 13 = .ok (.if_icmp .ne 7, 3) := dk_160 0 7 (dk_at dksX3_letterOf_0 13 rfl rfl)
theorem dX3_letterOf_16 : decode cX3_letterOf 16 = .ok (.iconst 1, 1) := dk_4 (dk_at dksX3_letterOf_0 16 rfl rfl)
theorem dX3_letterOf_17 : decode cX3_letterOf 17 = .ok (.goto 44, 3) := dk_167 0 44 (dk_at dksX3_letterOf_0 17 rfl rfl)
theorem dX3_letterOf_20 : decode cX3_letterOf 20 = .ok (.iload_n 0, 1) := dk_26 (dk_at dksX3_letterOf_0 20 rfl rfl)
theorem dX3_letterOf_21 : decode cX3_letterOf 21 = .ok (.bipush 104, 2) := dk_16 104 (dk_at dksX3_letterOf_0 21 rfl rfl)
theorem dX3_letterOf_23 : decode cX3_letterOf 23 = .ok (.if_icmp .ne 7, 3) := dk_160 0 7 (dk_at dksX3_letterOf_1 0 rfl rfl)
theorem dX3_letterOf_26 : decode cX3_letterOf 26 = .ok (.iconst 2, 1) := dk_5 (dk_at dksX3_letterOf_1 3 rfl rfl)
theorem dX3_letterOf_27 : decode cX3_letterOf 27 = .ok (.goto 34, 3) := dk_167 0 34 (dk_at dksX3_letterOf_1 4 rfl rfl)
theorem dX3_letterOf_30 : decode cX3_letterOf 30 = .ok (.iload_n 0, 1) := dk_26 (dk_at dksX3_letterOf_1 7 rfl rfl)
theorem dX3_letterOf_31 : decode cX3_letterOf 31 = .ok (.bipush 116, 2) := dk_16 116 (dk_at dksX3_letterOf_1 8 rfl rfl)
theorem dX3_letterOf_33 : decode cX3_letterOf 33 = .ok (.if_icmp .ne 7, 3) := dk_160 0 7 (dk_at dksX3_letterOf_1 10 rfl rfl)
theorem dX3_letterOf_36 : decode cX3_letterOf 36 = .ok (.iconst 3, 1) := dk_6 (dk_at dksX3_letterOf_1 13 rfl rfl)
theorem dX3_letterOf_37 : decode cX3_letterOf 37 = .ok (.goto 24, 3) := dk_167 0 24 (dk_at dksX3_letterOf_1 14 rfl rfl)
theorem dX3_letterOf_40 : decode cX3_letterOf 40 = .ok (.iload_n 0, 1) := dk_26 (dk_at dksX3_letterOf_1 17 rfl rfl)
theorem dX3_letterOf_41 : decode cX3_letterOf 41 = .ok (.bipush 107, 2) := dk_16 107 (dk_at dksX3_letterOf_1 18 rfl rfl)
theorem dX3_letterOf_43 : decode cX3_letterOf 43 = .ok (.if_icmp .ne 7, 3) := dk_160 0 7 (dk_at dksX3_letterOf_1 20 rfl rfl)
theorem dX3_letterOf_46 : decode cX3_letterOf 46 = .ok (.iconst 4, 1) := dk_7 (dk_at dksX3_letterOf_1 23 rfl rfl)
theorem dX3_letterOf_47 : decode cX3_letterOf 47 = .ok (.goto 14, 3) := dk_167 0 14 (dk_at dksX3_letterOf_2 0 rfl rfl)
theorem dX3_letterOf_50 : decode cX3_letterOf 50 = .ok (.iload_n 0, 1) := dk_26 (dk_at dksX3_letterOf_2 3 rfl rfl)
theorem dX3_letterOf_51 : decode cX3_letterOf 51 = .ok (.bipush 110, 2) := dk_16 110 (dk_at dksX3_letterOf_2 4 rfl rfl)
theorem dX3_letterOf_53 : decode cX3_letterOf 53 = .ok (.if_icmp .ne 7, 3) := dk_160 0 7 (dk_at dksX3_letterOf_2 6 rfl rfl)
theorem dX3_letterOf_56 : decode cX3_letterOf 56 = .ok (.iconst 5, 1) := dk_8 (dk_at dksX3_letterOf_2 9 rfl rfl)
theorem dX3_letterOf_57 : decode cX3_letterOf 57 = .ok (.goto 4, 3) := dk_167 0 4 (dk_at dksX3_letterOf_2 10 rfl rfl)
theorem dX3_letterOf_60 : decode cX3_letterOf 60 = .ok (.iconst (-1), 1) := dk_2 (dk_at dksX3_letterOf_2 13 rfl rfl)
theorem dX3_letterOf_61 : decode cX3_letterOf 61 = .ok (.ireturn, 1) := dk_172 (dk_at dksX3_letterOf_2 14 rfl rfl)
abbrev cX3_lake : ByteArray := prog_9_method_34_code
def yX3_lake : MethodName := ⟨RX3, "lake", "(II)I"⟩
def dkwX3_lake_6 : List UInt8 := [180, 0, 9, 27, 182, 0, 223, 172]
abbrev dktX3_lake_6 : List UInt8 := dkwX3_lake_6 ++ []
def dkwX3_lake_5 : List UInt8 := [42, 180, 0, 9, 16, 6, 27, 96, 46, 172, 42, 180, 0, 9, 16, 12, 27, 96, 46, 172, 42, 42]
abbrev dktX3_lake_5 : List UInt8 := dkwX3_lake_5 ++ dktX3_lake_6
def dkwX3_lake_4 : List UInt8 := [42, 180, 0, 9, 16, 24, 27, 96, 46, 172, 42, 180, 0, 19, 27, 46, 172, 42, 180, 0, 9, 27, 46, 172]
abbrev dktX3_lake_4 : List UInt8 := dkwX3_lake_4 ++ dktX3_lake_5
def dkwX3_lake_3 : List UInt8 := [42, 180, 0, 13, 27, 46, 172, 42, 180, 0, 9, 16, 18, 27, 96, 46, 172, 42, 180, 0, 16, 27, 46, 172]
abbrev dktX3_lake_3 : List UInt8 := dkwX3_lake_3 ++ dktX3_lake_4
def dkwX3_lake_2 : List UInt8 := [170, 0, 0, 0, 0, 0, 115, 0, 0, 0, 0, 0, 0, 0, 7, 0, 0, 0, 47, 0, 0, 0, 54, 0, 0, 0, 64, 0, 0, 0, 71, 0, 0, 0, 81, 0, 0, 0, 88, 0, 0, 0, 95, 0, 0, 0, 105]
abbrev dktX3_lake_2 : List UInt8 := dkwX3_lake_2 ++ dktX3_lake_3
def dkwX3_lake_1 : List UInt8 := [182, 0, 220, 172, 28]
abbrev dktX3_lake_1 : List UInt8 := dkwX3_lake_1 ++ dktX3_lake_2
def dkwX3_lake_0 : List UInt8 := [42, 3, 181, 0, 95, 42, 27, 182, 0, 108, 153, 0, 13, 28, 3, 16, 8, 184, 0, 104, 154, 0, 8, 42]
abbrev dktX3_lake_0 : List UInt8 := dkwX3_lake_0 ++ dktX3_lake_1
theorem dksX3_lake_0 : cX3_lake.data.toList.drop 0 = dktX3_lake_0 := by decide +kernel
theorem dksX3_lake_1 : cX3_lake.data.toList.drop 24 = dktX3_lake_1 := dk_seg dksX3_lake_0 24 rfl rfl
theorem dksX3_lake_2 : cX3_lake.data.toList.drop 29 = dktX3_lake_2 := dk_seg dksX3_lake_1 5 rfl rfl
theorem dksX3_lake_3 : cX3_lake.data.toList.drop 76 = dktX3_lake_3 := dk_seg dksX3_lake_2 47 rfl rfl
theorem dksX3_lake_4 : cX3_lake.data.toList.drop 100 = dktX3_lake_4 := dk_seg dksX3_lake_3 24 rfl rfl
theorem dksX3_lake_5 : cX3_lake.data.toList.drop 124 = dktX3_lake_5 := dk_seg dksX3_lake_4 24 rfl rfl
theorem dksX3_lake_6 : cX3_lake.data.toList.drop 146 = dktX3_lake_6 := dk_seg dksX3_lake_5 22 rfl rfl
theorem dX3_lake_0 : decode cX3_lake 0 = .ok (.aload_n 0, 1) := dk_42 (dk_at dksX3_lake_0 0 rfl rfl)
theorem dX3_lake_1 : decode cX3_lake 1 = .ok (.iconst 0, 1) := dk_3 (dk_at dksX3_lake_0 1 rfl rfl)
theorem dX3_lake_2 : decode cX3_lake 2 = .ok (.putfield 95, 3) := dk_181 0 95 (dk_at dksX3_lake_0 2 rfl rfl)
theorem dX3_lake_5 : decode cX3_lake 5 = .ok (.aload_n 0, 1) := dk_42 (dk_at dksX3_lake_0 5 rfl rfl)
theorem dX3_lake_6 : decode cX3_lake 6 = .ok (.iload_n 1, 1) := dk_27 (dk_at dksX3_lake_0 6 rfl rfl)
theorem dX3_lake_7 : decode cX3_lake 7 = .ok (.invokevirtual 108, 3) := dk_182 0 108 (dk_at dksX3_lake_0 7 rfl rfl)
theorem dX3_lake_10 : decode cX3_lake 10 = .ok (.ifCond .eq 13, 3) := dk_153 0 13 (dk_at dksX3_lake_0 10 rfl rfl)
theorem dX3_lake_13 : decode cX3_lake 13 = .ok (.iload_n 2, 1) := dk_28 (dk_at dksX3_lake_0 13 rfl rfl)
theorem dX3_lake_14 : decode cX3_lake 14 = .ok (.iconst 0, 1) := dk_3 (dk_at dksX3_lake_0 14 rfl rfl)
theorem dX3_lake_15 : decode cX3_lake 15 = .ok (.bipush 8, 2) := dk_16 8 (dk_at dksX3_lake_0 15 rfl rfl)
theorem dX3_lake_17 : decode cX3_lake 17 = .ok (.invokestatic 104, 3) := dk_184 0 104 (dk_at dksX3_lake_0 17 rfl rfl)
theorem dX3_lake_20 : decode cX3_lake 20 = .ok (.ifCond .ne 8, 3) := dk_154 0 8 (dk_at dksX3_lake_0 20 rfl rfl)
theorem dX3_lake_23 : decode cX3_lake 23 = .ok (.aload_n 0, 1) := dk_42 (dk_at dksX3_lake_0 23 rfl rfl)
theorem dX3_lake_24 : decode cX3_lake 24 = .ok (.invokevirtual 220, 3) := dk_182 0 220 (dk_at dksX3_lake_1 0 rfl rfl)
theorem dX3_lake_27 : decode cX3_lake 27 = .ok (.ireturn, 1) := dk_172 (dk_at dksX3_lake_1 3 rfl rfl)
theorem dX3_lake_28 : decode cX3_lake 28 = .ok (.iload_n 2, 1) := dk_28 (dk_at dksX3_lake_1 4 rfl rfl)
theorem dX3_lake_29 : decode cX3_lake 29 = .ok (.tableswitch 115 0 7 #[47, 54, 64, 71, 81, 88, 95, 105], 47) := by decide +kernel
theorem dX3_lake_76 : decode cX3_lake 76 = .ok (.aload_n 0, 1) := dk_42 (dk_at dksX3_lake_3 0 rfl rfl)
theorem dX3_lake_77 : decode cX3_lake 77 = .ok (.getfield 13, 3) := dk_180 0 13 (dk_at dksX3_lake_3 1 rfl rfl)
theorem dX3_lake_80 : decode cX3_lake 80 = .ok (.iload_n 1, 1) := dk_27 (dk_at dksX3_lake_3 4 rfl rfl)
theorem dX3_lake_81 : decode cX3_lake 81 = .ok (.iaload, 1) := dk_46 (dk_at dksX3_lake_3 5 rfl rfl)
theorem dX3_lake_82 : decode cX3_lake 82 = .ok (.ireturn, 1) := dk_172 (dk_at dksX3_lake_3 6 rfl rfl)
theorem dX3_lake_83 : decode cX3_lake 83 = .ok (.aload_n 0, 1) := dk_42 (dk_at dksX3_lake_3 7 rfl rfl)
theorem dX3_lake_84 : decode cX3_lake 84 = .ok (.getfield 9, 3) := dk_180 0 9 (dk_at dksX3_lake_3 8 rfl rfl)
theorem dX3_lake_87 : decode cX3_lake 87 = .ok (.bipush 18, 2) := dk_16 18 (dk_at dksX3_lake_3 11 rfl rfl)
theorem dX3_lake_89 : decode cX3_lake 89 = .ok (.iload_n 1, 1) := dk_27 (dk_at dksX3_lake_3 13 rfl rfl)
theorem dX3_lake_90 : decode cX3_lake 90 = .ok (.iadd, 1) := dk_96 (dk_at dksX3_lake_3 14 rfl rfl)
theorem dX3_lake_91 : decode cX3_lake 91 = .ok (.iaload, 1) := dk_46 (dk_at dksX3_lake_3 15 rfl rfl)
theorem dX3_lake_92 : decode cX3_lake 92 = .ok (.ireturn, 1) := dk_172 (dk_at dksX3_lake_3 16 rfl rfl)
theorem dX3_lake_93 : decode cX3_lake 93 = .ok (.aload_n 0, 1) := dk_42 (dk_at dksX3_lake_3 17 rfl rfl)
theorem dX3_lake_94 : decode cX3_lake 94 = .ok (.getfield 16, 3) := dk_180 0 16 (dk_at dksX3_lake_3 18 rfl rfl)
theorem dX3_lake_97 : decode cX3_lake 97 = .ok (.iload_n 1, 1) := dk_27 (dk_at dksX3_lake_3 21 rfl rfl)
theorem dX3_lake_98 : decode cX3_lake 98 = .ok (.iaload, 1) := dk_46 (dk_at dksX3_lake_3 22 rfl rfl)
theorem dX3_lake_99 : decode cX3_lake 99 = .ok (.ireturn, 1) := dk_172 (dk_at dksX3_lake_3 23 rfl rfl)
theorem dX3_lake_100 : decode cX3_lake 100 = .ok (.aload_n 0, 1) := dk_42 (dk_at dksX3_lake_4 0 rfl rfl)
theorem dX3_lake_101 : decode cX3_lake 101 = .ok (.getfield 9, 3) := dk_180 0 9 (dk_at dksX3_lake_4 1 rfl rfl)
theorem dX3_lake_104 : decode cX3_lake 104 = .ok (.bipush 24, 2) := dk_16 24 (dk_at dksX3_lake_4 4 rfl rfl)
theorem dX3_lake_106 : decode cX3_lake 106 = .ok (.iload_n 1, 1) := dk_27 (dk_at dksX3_lake_4 6 rfl rfl)
theorem dX3_lake_107 : decode cX3_lake 107 = .ok (.iadd, 1) := dk_96 (dk_at dksX3_lake_4 7 rfl rfl)
theorem dX3_lake_108 : decode cX3_lake 108 = .ok (.iaload, 1) := dk_46 (dk_at dksX3_lake_4 8 rfl rfl)
theorem dX3_lake_109 : decode cX3_lake 109 = .ok (.ireturn, 1) := dk_172 (dk_at dksX3_lake_4 9 rfl rfl)
theorem dX3_lake_110 : decode cX3_lake 110 = .ok (.aload_n 0, 1) := dk_42 (dk_at dksX3_lake_4 10 rfl rfl)
theorem dX3_lake_111 : decode cX3_lake 111 = .ok (.getfield 19, 3) := dk_180 0 19 (dk_at dksX3_lake_4 11 rfl rfl)
theorem dX3_lake_114 : decode cX3_lake 114 = .ok (.iload_n 1, 1) := dk_27 (dk_at dksX3_lake_4 14 rfl rfl)
theorem dX3_lake_115 : decode cX3_lake 115 = .ok (.iaload, 1) := dk_46 (dk_at dksX3_lake_4 15 rfl rfl)
theorem dX3_lake_116 : decode cX3_lake 116 = .ok (.ireturn, 1) := dk_172 (dk_at dksX3_lake_4 16 rfl rfl)
theorem dX3_lake_117 : decode cX3_lake 117 = .ok (.aload_n 0, 1) := dk_42 (dk_at dksX3_lake_4 17 rfl rfl)
theorem dX3_lake_118 : decode cX3_lake 118 = .ok (.getfield 9, 3) := dk_180 0 9 (dk_at dksX3_lake_4 18 rfl rfl)
theorem dX3_lake_121 : decode cX3_lake 121 = .ok (.iload_n 1, 1) := dk_27 (dk_at dksX3_lake_4 21 rfl rfl)
theorem dX3_lake_122 : decode cX3_lake 122 = .ok (.iaload, 1) := dk_46 (dk_at dksX3_lake_4 22 rfl rfl)
theorem dX3_lake_123 : decode cX3_lake 123 = .ok (.ireturn, 1) := dk_172 (dk_at dksX3_lake_4 23 rfl rfl)
theorem dX3_lake_124 : decode cX3_lake 124 = .ok (.aload_n 0, 1) := dk_42 (dk_at dksX3_lake_5 0 rfl rfl)
theorem dX3_lake_125 : decode cX3_lake 125 = .ok (.getfield 9, 3) := dk_180 0 9 (dk_at dksX3_lake_5 1 rfl rfl)
theorem dX3_lake_128 : decode cX3_lake 128 = .ok (.bipush 6, 2) := dk_16 6 (dk_at dksX3_lake_5 4 rfl rfl)
theorem dX3_lake_130 : decode cX3_lake 130 = .ok (.iload_n 1, 1) := dk_27 (dk_at dksX3_lake_5 6 rfl rfl)
theorem dX3_lake_131 : decode cX3_lake 131 = .ok (.iadd, 1) := dk_96 (dk_at dksX3_lake_5 7 rfl rfl)
theorem dX3_lake_132 : decode cX3_lake 132 = .ok (.iaload, 1) := dk_46 (dk_at dksX3_lake_5 8 rfl rfl)
theorem dX3_lake_133 : decode cX3_lake 133 = .ok (.ireturn, 1) := dk_172 (dk_at dksX3_lake_5 9 rfl rfl)
theorem dX3_lake_134 : decode cX3_lake 134 = .ok (.aload_n 0, 1) := dk_42 (dk_at dksX3_lake_5 10 rfl rfl)
theorem dX3_lake_135 : decode cX3_lake 135 = .ok (.getfield 9, 3) := dk_180 0 9 (dk_at dksX3_lake_5 11 rfl rfl)
theorem dX3_lake_138 : decode cX3_lake 138 = .ok (.bipush 12, 2) := dk_16 12 (dk_at dksX3_lake_5 14 rfl rfl)
theorem dX3_lake_140 : decode cX3_lake 140 = .ok (.iload_n 1, 1) := dk_27 (dk_at dksX3_lake_5 16 rfl rfl)
theorem dX3_lake_141 : decode cX3_lake 141 = .ok (.iadd, 1) := dk_96 (dk_at dksX3_lake_5 17 rfl rfl)
theorem dX3_lake_142 : decode cX3_lake 142 = .ok (.iaload, 1) := dk_46 (dk_at dksX3_lake_5 18 rfl rfl)
theorem dX3_lake_143 : decode cX3_lake 143 = .ok (.ireturn, 1) := dk_172 (dk_at dksX3_lake_5 19 rfl rfl)
theorem dX3_lake_144 : decode cX3_lake 144 = .ok (.aload_n 0, 1) := dk_42 (dk_at dksX3_lake_5 20 rfl rfl)
theorem dX3_lake_145 : decode cX3_lake 145 = .ok (.aload_n 0, 1) := dk_42 (dk_at dksX3_lake_5 21 rfl rfl)
theorem dX3_lake_146 : decode cX3_lake 146 = .ok (.getfield 9, 3) := dk_180 0 9 (dk_at dksX3_lake_6 0 rfl rfl)
theorem dX3_lake_149 : decode cX3_lake 149 = .ok (.iload_n 1, 1) := dk_27 (dk_at dksX3_lake_6 3 rfl rfl)
theorem dX3_lake_150 : decode cX3_lake 150 = .ok (.invokevirtual 223, 3) := dk_182 0 223 (dk_at dksX3_lake_6 4 rfl rfl)
theorem dX3_lake_153 : decode cX3_lake 153 = .ok (.ireturn, 1) := dk_172 (dk_at dksX3_lake_6 7 rfl rfl)
abbrev cX3_isLake : ByteArray := prog_9_method_7_code
def yX3_isLake : MethodName := ⟨RX3, "isLake", "(I)Z"⟩
def dkwX3_isLake_0 : List UInt8 := [27, 3, 42, 180, 0, 101, 4, 100, 184, 0, 104, 172]
abbrev dktX3_isLake_0 : List UInt8 := dkwX3_isLake_0 ++ []
theorem dksX3_isLake_0 : cX3_isLake.data.toList.drop 0 = dktX3_isLake_0 := by decide +kernel
theorem dX3_isLake_0 : decode cX3_isLake 0 = .ok (.iload_n 1, 1) := dk_27 (dk_at dksX3_isLake_0 0 rfl rfl)
theorem dX3_isLake_1 : decode cX3_isLake 1 = .ok (.iconst 0, 1) := dk_3 (dk_at dksX3_isLake_0 1 rfl rfl)
theorem dX3_isLake_2 : decode cX3_isLake 2 = .ok (.aload_n 0, 1) := dk_42 (dk_at dksX3_isLake_0 2 rfl rfl)
theorem dX3_isLake_3 : decode cX3_isLake 3 = .ok (.getfield 101, 3) := dk_180 0 101 (dk_at dksX3_isLake_0 3 rfl rfl)
theorem dX3_isLake_6 : decode cX3_isLake 6 = .ok (.iconst 1, 1) := dk_4 (dk_at dksX3_isLake_0 6 rfl rfl)
theorem dX3_isLake_7 : decode cX3_isLake 7 = .ok (.isub, 1) := dk_100 (dk_at dksX3_isLake_0 7 rfl rfl)
theorem dX3_isLake_8 : decode cX3_isLake 8 = .ok (.invokestatic 104, 3) := dk_184 0 104 (dk_at dksX3_isLake_0 8 rfl rfl)
theorem dX3_isLake_11 : decode cX3_isLake 11 = .ok (.ireturn, 1) := dk_172 (dk_at dksX3_isLake_0 11 rfl rfl)
abbrev cX3_lost : ByteArray := prog_9_method_5_code
def yX3_lost : MethodName := ⟨RX3, "lost", "()I"⟩
def dkwX3_lost_0 : List UInt8 := [42, 4, 181, 0, 95, 3, 172]
abbrev dktX3_lost_0 : List UInt8 := dkwX3_lost_0 ++ []
theorem dksX3_lost_0 : cX3_lost.data.toList.drop 0 = dktX3_lost_0 := by decide +kernel
theorem dX3_lost_0 : decode cX3_lost 0 = .ok (.aload_n 0, 1) := dk_42 (dk_at dksX3_lost_0 0 rfl rfl)
theorem dX3_lost_1 : decode cX3_lost 1 = .ok (.iconst 1, 1) := dk_4 (dk_at dksX3_lost_0 1 rfl rfl)
theorem dX3_lost_2 : decode cX3_lost 2 = .ok (.putfield 95, 3) := dk_181 0 95 (dk_at dksX3_lost_0 2 rfl rfl)
theorem dX3_lost_5 : decode cX3_lost 5 = .ok (.iconst 0, 1) := dk_3 (dk_at dksX3_lost_0 5 rfl rfl)
theorem dX3_lost_6 : decode cX3_lost 6 = .ok (.ireturn, 1) := dk_172 (dk_at dksX3_lost_0 6 rfl rfl)
abbrev cX3_runOf : ByteArray := prog_9_method_33_code
def yX3_runOf : MethodName := ⟨RX3, "runOf", "([II)I"⟩
def dkwX3_runOf_6 : List UInt8 := [184, 0, 217, 172]
abbrev dktX3_runOf_6 : List UInt8 := dkwX3_runOf_6 ++ []
def dkwX3_runOf_5 : List UInt8 := [4, 181, 0, 192, 42, 3, 182, 0, 179, 62, 42, 3, 181, 0, 192, 3, 43, 28, 46, 29, 184, 0, 211]
abbrev dktX3_runOf_5 : List UInt8 := dkwX3_runOf_5 ++ dktX3_runOf_6
def dkwX3_runOf_4 : List UInt8 := [8, 43, 16, 30, 46, 16, 7, 112, 79, 42, 42, 180, 0, 33, 42, 180, 0, 199, 16, 40, 182, 0, 130, 42]
abbrev dktX3_runOf_4 : List UInt8 := dkwX3_runOf_4 ++ dktX3_runOf_5
def dkwX3_runOf_3 : List UInt8 := [16, 18, 28, 96, 46, 79, 42, 180, 0, 39, 7, 42, 43, 182, 0, 202, 184, 0, 206, 79, 42, 180, 0, 39]
abbrev dktX3_runOf_3 : List UInt8 := dkwX3_runOf_3 ++ dktX3_runOf_4
def dkwX3_runOf_2 : List UInt8 := [180, 0, 13, 28, 46, 79, 42, 180, 0, 39, 5, 43, 16, 12, 28, 96, 46, 79, 42, 180, 0, 39, 6, 43]
abbrev dktX3_runOf_2 : List UInt8 := dkwX3_runOf_2 ++ dktX3_runOf_3
def dkwX3_runOf_1 : List UInt8 := [100, 62, 42, 180, 0, 199, 158, 0, 105, 42, 180, 0, 39, 3, 43, 28, 46, 79, 42, 180, 0, 39, 4, 42]
abbrev dktX3_runOf_1 : List UInt8 := dkwX3_runOf_1 ++ dktX3_runOf_2
def dkwX3_runOf_0 : List UInt8 := [43, 16, 6, 28, 96, 46, 154, 0, 5, 3, 172, 43, 28, 46, 5, 96, 6, 108, 43, 16, 12, 28, 96, 46]
abbrev dktX3_runOf_0 : List UInt8 := dkwX3_runOf_0 ++ dktX3_runOf_1
theorem dksX3_runOf_0 : cX3_runOf.data.toList.drop 0 = dktX3_runOf_0 := by decide +kernel
theorem dksX3_runOf_1 : cX3_runOf.data.toList.drop 24 = dktX3_runOf_1 := dk_seg dksX3_runOf_0 24 rfl rfl
theorem dksX3_runOf_2 : cX3_runOf.data.toList.drop 48 = dktX3_runOf_2 := dk_seg dksX3_runOf_1 24 rfl rfl
theorem dksX3_runOf_3 : cX3_runOf.data.toList.drop 72 = dktX3_runOf_3 := dk_seg dksX3_runOf_2 24 rfl rfl
theorem dksX3_runOf_4 : cX3_runOf.data.toList.drop 96 = dktX3_runOf_4 := dk_seg dksX3_runOf_3 24 rfl rfl
theorem dksX3_runOf_5 : cX3_runOf.data.toList.drop 120 = dktX3_runOf_5 := dk_seg dksX3_runOf_4 24 rfl rfl
theorem dksX3_runOf_6 : cX3_runOf.data.toList.drop 143 = dktX3_runOf_6 := dk_seg dksX3_runOf_5 23 rfl rfl
theorem dX3_runOf_0 : decode cX3_runOf 0 = .ok (.aload_n 1, 1) := dk_43 (dk_at dksX3_runOf_0 0 rfl rfl)
theorem dX3_runOf_1 : decode cX3_runOf 1 = .ok (.bipush 6, 2) := dk_16 6 (dk_at dksX3_runOf_0 1 rfl rfl)
theorem dX3_runOf_3 : decode cX3_runOf 3 = .ok (.iload_n 2, 1) := dk_28 (dk_at dksX3_runOf_0 3 rfl rfl)
theorem dX3_runOf_4 : decode cX3_runOf 4 = .ok (.iadd, 1) := dk_96 (dk_at dksX3_runOf_0 4 rfl rfl)
theorem dX3_runOf_5 : decode cX3_runOf 5 = .ok (.iaload, 1) := dk_46 (dk_at dksX3_runOf_0 5 rfl rfl)
theorem dX3_runOf_6 : decode cX3_runOf 6 = .ok (.ifCond .ne 5, 3) := dk_154 0 5 (dk_at dksX3_runOf_0 6 rfl rfl)
theorem dX3_runOf_9 : decode cX3_runOf 9 = .ok (.iconst 0, 1) := dk_3 (dk_at dksX3_runOf_0 9 rfl rfl)
theorem dX3_runOf_10 : decode cX3_runOf 10 = .ok (.ireturn, 1) := dk_172 (dk_at dksX3_runOf_0 10 rfl rfl)
theorem dX3_runOf_11 : decode cX3_runOf 11 = .ok (.aload_n 1, 1) := dk_43 (dk_at dksX3_runOf_0 11 rfl rfl)
theorem dX3_runOf_12 : decode cX3_runOf 12 = .ok (.iload_n 2, 1) := dk_28 (dk_at dksX3_runOf_0 12 rfl rfl)
theorem dX3_runOf_13 : decode cX3_runOf 13 = .ok (.iaload, 1) := dk_46 (dk_at dksX3_runOf_0 13 rfl rfl)
theorem dX3_runOf_14 : decode cX3_runOf 14 = .ok (.iconst 2, 1) := dk_5 (dk_at dksX3_runOf_0 14 rfl rfl)
theorem dX3_runOf_15 : decode cX3_runOf 15 = .ok (.iadd, 1) := dk_96 (dk_at dksX3_runOf_0 15 rfl rfl)
theorem dX3_runOf_16 : decode cX3_runOf 16 = .ok (.iconst 3, 1) := dk_6 (dk_at dksX3_runOf_0 16 rfl rfl)
theorem dX3_runOf_17 : decode cX3_runOf 17 = .ok (.idiv, 1) := dk_108 (dk_at dksX3_runOf_0 17 rfl rfl)
theorem dX3_runOf_18 : decode cX3_runOf 18 = .ok (.aload_n 1, 1) := dk_43 (dk_at dksX3_runOf_0 18 rfl rfl)
theorem dX3_runOf_19 : decode cX3_runOf 19 = .ok (.bipush 12, 2) := dk_16 12 (dk_at dksX3_runOf_0 19 rfl rfl)
theorem dX3_runOf_21 : decode cX3_runOf 21 = .ok (.iload_n 2, 1) := dk_28 (dk_at dksX3_runOf_0 21 rfl rfl)
theorem dX3_runOf_22 : decode cX3_runOf 22 = .ok (.iadd, 1) := dk_96 (dk_at dksX3_runOf_0 22 rfl rfl)
theorem dX3_runOf_23 : decode cX3_runOf 23 = .ok (.iaload, 1) := dk_46 (dk_at dksX3_runOf_0 23 rfl rfl)
theorem dX3_runOf_24 : decode cX3_runOf 24 = .ok (.isub, 1) := dk_100 (dk_at dksX3_runOf_1 0 rfl rfl)
theorem dX3_runOf_25 : decode cX3_runOf 25 = .ok (.istore_n 3, 1) := dk_62 (dk_at dksX3_runOf_1 1 rfl rfl)
theorem dX3_runOf_26 : decode cX3_runOf 26 = .ok (.aload_n 0, 1) := dk_42 (dk_at dksX3_runOf_1 2 rfl rfl)
theorem dX3_runOf_27 : decode cX3_runOf 27 = .ok (.getfield 199, 3) := dk_180 0 199 (dk_at dksX3_runOf_1 3 rfl rfl)
theorem dX3_runOf_30 : decode cX3_runOf 30 = .ok (.ifCond .le 105, 3) := dk_158 0 105 (dk_at dksX3_runOf_1 6 rfl rfl)
theorem dX3_runOf_33 : decode cX3_runOf 33 = .ok (.aload_n 0, 1) := dk_42 (dk_at dksX3_runOf_1 9 rfl rfl)
theorem dX3_runOf_34 : decode cX3_runOf 34 = .ok (.getfield 39, 3) := dk_180 0 39 (dk_at dksX3_runOf_1 10 rfl rfl)
theorem dX3_runOf_37 : decode cX3_runOf 37 = .ok (.iconst 0, 1) := dk_3 (dk_at dksX3_runOf_1 13 rfl rfl)
theorem dX3_runOf_38 : decode cX3_runOf 38 = .ok (.aload_n 1, 1) := dk_43 (dk_at dksX3_runOf_1 14 rfl rfl)
theorem dX3_runOf_39 : decode cX3_runOf 39 = .ok (.iload_n 2, 1) := dk_28 (dk_at dksX3_runOf_1 15 rfl rfl)
theorem dX3_runOf_40 : decode cX3_runOf 40 = .ok (.iaload, 1) := dk_46 (dk_at dksX3_runOf_1 16 rfl rfl)
theorem dX3_runOf_41 : decode cX3_runOf 41 = .ok (.iastore, 1) := dk_79 (dk_at dksX3_runOf_1 17 rfl rfl)
theorem dX3_runOf_42 : decode cX3_runOf 42 = .ok (.aload_n 0, 1) := dk_42 (dk_at dksX3_runOf_1 18 rfl rfl)
theorem dX3_runOf_43 : decode cX3_runOf 43 = .ok (.getfield 39, 3) := dk_180 0 39 (dk_at dksX3_runOf_1 19 rfl rfl)
theorem dX3_runOf_46 : decode cX3_runOf 46 = .ok (.iconst 1, 1) := dk_4 (dk_at dksX3_runOf_1 22 rfl rfl)
theorem dX3_runOf_47 : decode cX3_runOf 47 = .ok (.aload_n 0, 1) := dk_42 (dk_at dksX3_runOf_1 23 rfl rfl)
theorem dX3_runOf_48 : decode cX3_runOf 48 = .ok (.getfield 13, 3) := dk_180 0 13 (dk_at dksX3_runOf_2 0 rfl rfl)
theorem dX3_runOf_51 : decode cX3_runOf 51 = .ok (.iload_n 2, 1) := dk_28 (dk_at dksX3_runOf_2 3 rfl rfl)
theorem dX3_runOf_52 : decode cX3_runOf 52 = .ok (.iaload, 1) := dk_46 (dk_at dksX3_runOf_2 4 rfl rfl)
theorem dX3_runOf_53 : decode cX3_runOf 53 = .ok (.iastore, 1) := dk_79 (dk_at dksX3_runOf_2 5 rfl rfl)
theorem dX3_runOf_54 : decode cX3_runOf 54 = .ok (.aload_n 0, 1) := dk_42 (dk_at dksX3_runOf_2 6 rfl rfl)
theorem dX3_runOf_55 : decode cX3_runOf 55 = .ok (.getfield 39, 3) := dk_180 0 39 (dk_at dksX3_runOf_2 7 rfl rfl)
theorem dX3_runOf_58 : decode cX3_runOf 58 = .ok (.iconst 2, 1) := dk_5 (dk_at dksX3_runOf_2 10 rfl rfl)
theorem dX3_runOf_59 : decode cX3_runOf 59 = .ok (.aload_n 1, 1) := dk_43 (dk_at dksX3_runOf_2 11 rfl rfl)
theorem dX3_runOf_60 : decode cX3_runOf 60 = .ok (.bipush 12, 2) := dk_16 12 (dk_at dksX3_runOf_2 12 rfl rfl)
theorem dX3_runOf_62 : decode cX3_runOf 62 = .ok (.iload_n 2, 1) := dk_28 (dk_at dksX3_runOf_2 14 rfl rfl)
theorem dX3_runOf_63 : decode cX3_runOf 63 = .ok (.iadd, 1) := dk_96 (dk_at dksX3_runOf_2 15 rfl rfl)
theorem dX3_runOf_64 : decode cX3_runOf 64 = .ok (.iaload, 1) := dk_46 (dk_at dksX3_runOf_2 16 rfl rfl)
theorem dX3_runOf_65 : decode cX3_runOf 65 = .ok (.iastore, 1) := dk_79 (dk_at dksX3_runOf_2 17 rfl rfl)
theorem dX3_runOf_66 : decode cX3_runOf 66 = .ok (.aload_n 0, 1) := dk_42 (dk_at dksX3_runOf_2 18 rfl rfl)
theorem dX3_runOf_67 : decode cX3_runOf 67 = .ok (.getfield 39, 3) := dk_180 0 39 (dk_at dksX3_runOf_2 19 rfl rfl)
theorem dX3_runOf_70 : decode cX3_runOf 70 = .ok (.iconst 3, 1) := dk_6 (dk_at dksX3_runOf_2 22 rfl rfl)
theorem dX3_runOf_71 : decode cX3_runOf 71 = .ok (.aload_n 1, 1) := dk_43 (dk_at dksX3_runOf_2 23 rfl rfl)
theorem dX3_runOf_72 : decode cX3_runOf 72 = .ok (.bipush 18, 2) := dk_16 18 (dk_at dksX3_runOf_3 0 rfl rfl)
theorem dX3_runOf_74 : decode cX3_runOf 74 = .ok (.iload_n 2, 1) := dk_28 (dk_at dksX3_runOf_3 2 rfl rfl)
theorem dX3_runOf_75 : decode cX3_runOf 75 = .ok (.iadd, 1) := dk_96 (dk_at dksX3_runOf_3 3 rfl rfl)
theorem dX3_runOf_76 : decode cX3_runOf 76 = .ok (.iaload, 1) := dk_46 (dk_at dksX3_runOf_3 4 rfl rfl)
theorem dX3_runOf_77 : decode cX3_runOf 77 = .ok (.iastore, 1) := dk_79 (dk_at dksX3_runOf_3 5 rfl rfl)
theorem dX3_runOf_78 : decode cX3_runOf 78 = .ok (.aload_n 0, 1) := dk_42 (dk_at dksX3_runOf_3 6 rfl rfl)
theorem dX3_runOf_79 : decode cX3_runOf 79 = .ok (.getfield 39, 3) := dk_180 0 39 (dk_at dksX3_runOf_3 7 rfl rfl)
theorem dX3_runOf_82 : decode cX3_runOf 82 = .ok (.iconst 4, 1) := dk_7 (dk_at dksX3_runOf_3 10 rfl rfl)
theorem dX3_runOf_83 : decode cX3_runOf 83 = .ok (.aload_n 0, 1) := dk_42 (dk_at dksX3_runOf_3 11 rfl rfl)
theorem dX3_runOf_84 : decode cX3_runOf 84 = .ok (.aload_n 1, 1) := dk_43 (dk_at dksX3_runOf_3 12 rfl rfl)
theorem dX3_runOf_85 : decode cX3_runOf 85 = .ok (.invokevirtual 202, 3) := dk_182 0 202 (dk_at dksX3_runOf_3 13 rfl rfl)
theorem dX3_runOf_88 : decode cX3_runOf 88 = .ok (.invokestatic 206, 3) := dk_184 0 206 (dk_at dksX3_runOf_3 16 rfl rfl)
theorem dX3_runOf_91 : decode cX3_runOf 91 = .ok (.iastore, 1) := dk_79 (dk_at dksX3_runOf_3 19 rfl rfl)
theorem dX3_runOf_92 : decode cX3_runOf 92 = .ok (.aload_n 0, 1) := dk_42 (dk_at dksX3_runOf_3 20 rfl rfl)
theorem dX3_runOf_93 : decode cX3_runOf 93 = .ok (.getfield 39, 3) := dk_180 0 39 (dk_at dksX3_runOf_3 21 rfl rfl)
theorem dX3_runOf_96 : decode cX3_runOf 96 = .ok (.iconst 5, 1) := dk_8 (dk_at dksX3_runOf_4 0 rfl rfl)
theorem dX3_runOf_97 : decode cX3_runOf 97 = .ok (.aload_n 1, 1) := dk_43 (dk_at dksX3_runOf_4 1 rfl rfl)
theorem dX3_runOf_98 : decode cX3_runOf 98 = .ok (.bipush 30, 2) := dk_16 30 (dk_at dksX3_runOf_4 2 rfl rfl)
theorem dX3_runOf_100 : decode cX3_runOf 100 = .ok (.iaload, 1) := dk_46 (dk_at dksX3_runOf_4 4 rfl rfl)
theorem dX3_runOf_101 : decode cX3_runOf 101 = .ok (.bipush 7, 2) := dk_16 7 (dk_at dksX3_runOf_4 5 rfl rfl)
theorem dX3_runOf_103 : decode cX3_runOf 103 = .ok (.irem, 1) := dk_112 (dk_at dksX3_runOf_4 7 rfl rfl)
theorem dX3_runOf_104 : decode cX3_runOf 104 = .ok (.iastore, 1) := dk_79 (dk_at dksX3_runOf_4 8 rfl rfl)
theorem dX3_runOf_105 : decode cX3_runOf 105 = .ok (.aload_n 0, 1) := dk_42 (dk_at dksX3_runOf_4 9 rfl rfl)
theorem dX3_runOf_106 : decode cX3_runOf 106 = .ok (.aload_n 0, 1) := dk_42 (dk_at dksX3_runOf_4 10 rfl rfl)
theorem dX3_runOf_107 : decode cX3_runOf 107 = .ok (.getfield 33, 3) := dk_180 0 33 (dk_at dksX3_runOf_4 11 rfl rfl)
theorem dX3_runOf_110 : decode cX3_runOf 110 = .ok (.aload_n 0, 1) := dk_42 (dk_at dksX3_runOf_4 14 rfl rfl)
theorem dX3_runOf_111 : decode cX3_runOf 111 = .ok (.getfield 199, 3) := dk_180 0 199 (dk_at dksX3_runOf_4 15 rfl rfl)
theorem dX3_runOf_114 : decode cX3_runOf 114 = .ok (.bipush 40, 2) := dk_16 40 (dk_at dksX3_runOf_4 18 rfl rfl)
theorem dX3_runOf_116 : decode cX3_runOf 116 = .ok (.invokevirtual 130, 3) := dk_182 0 130 (dk_at dksX3_runOf_4 20 rfl rfl)
theorem dX3_runOf_119 : decode cX3_runOf 119 = .ok (.aload_n 0, 1) := dk_42 (dk_at dksX3_runOf_4 23 rfl rfl)
theorem dX3_runOf_120 : decode cX3_runOf 120 = .ok (.iconst 1, 1) := dk_4 (dk_at dksX3_runOf_5 0 rfl rfl)
theorem dX3_runOf_121 : decode cX3_runOf 121 = .ok (.putfield 192, 3) := dk_181 0 192 (dk_at dksX3_runOf_5 1 rfl rfl)
theorem dX3_runOf_124 : decode cX3_runOf 124 = .ok (.aload_n 0, 1) := dk_42 (dk_at dksX3_runOf_5 4 rfl rfl)
theorem dX3_runOf_125 : decode cX3_runOf 125 = .ok (.iconst 0, 1) := dk_3 (dk_at dksX3_runOf_5 5 rfl rfl)
theorem dX3_runOf_126 : decode cX3_runOf 126 = .ok (.invokevirtual 179, 3) := dk_182 0 179 (dk_at dksX3_runOf_5 6 rfl rfl)
theorem dX3_runOf_129 : decode cX3_runOf 129 = .ok (.istore_n 3, 1) := dk_62 (dk_at dksX3_runOf_5 9 rfl rfl)
theorem dX3_runOf_130 : decode cX3_runOf 130 = .ok (.aload_n 0, 1) := dk_42 (dk_at dksX3_runOf_5 10 rfl rfl)
theorem dX3_runOf_131 : decode cX3_runOf 131 = .ok (.iconst 0, 1) := dk_3 (dk_at dksX3_runOf_5 11 rfl rfl)
theorem dX3_runOf_132 : decode cX3_runOf 132 = .ok (.putfield 192, 3) := dk_181 0 192 (dk_at dksX3_runOf_5 12 rfl rfl)
theorem dX3_runOf_135 : decode cX3_runOf 135 = .ok (.iconst 0, 1) := dk_3 (dk_at dksX3_runOf_5 15 rfl rfl)
theorem dX3_runOf_136 : decode cX3_runOf 136 = .ok (.aload_n 1, 1) := dk_43 (dk_at dksX3_runOf_5 16 rfl rfl)
theorem dX3_runOf_137 : decode cX3_runOf 137 = .ok (.iload_n 2, 1) := dk_28 (dk_at dksX3_runOf_5 17 rfl rfl)
theorem dX3_runOf_138 : decode cX3_runOf 138 = .ok (.iaload, 1) := dk_46 (dk_at dksX3_runOf_5 18 rfl rfl)
theorem dX3_runOf_139 : decode cX3_runOf 139 = .ok (.iload_n 3, 1) := dk_29 (dk_at dksX3_runOf_5 19 rfl rfl)
theorem dX3_runOf_140 : decode cX3_runOf 140 = .ok (.invokestatic 211, 3) := dk_184 0 211 (dk_at dksX3_runOf_5 20 rfl rfl)
theorem dX3_runOf_143 : decode cX3_runOf 143 = .ok (.invokestatic 217, 3) := dk_184 0 217 (dk_at dksX3_runOf_6 0 rfl rfl)
theorem dX3_runOf_146 : decode cX3_runOf 146 = .ok (.ireturn, 1) := dk_172 (dk_at dksX3_runOf_6 3 rfl rfl)
abbrev cX3_outOnes : ByteArray := prog_9_method_32_code
def yX3_outOnes : MethodName := ⟨RX3, "outOnes", "([I)I"⟩
def dkwX3_outOnes_1 : List UInt8 := [132, 3, 1, 167, 255, 234, 28, 172]
abbrev dktX3_outOnes_1 : List UInt8 := dkwX3_outOnes_1 ++ []
def dkwX3_outOnes_0 : List UInt8 := [3, 61, 3, 62, 29, 42, 180, 0, 101, 162, 0, 20, 28, 43, 16, 6, 29, 96, 46, 29, 120, 128, 61]
abbrev dktX3_outOnes_0 : List UInt8 := dkwX3_outOnes_0 ++ dktX3_outOnes_1
theorem dksX3_outOnes_0 : cX3_outOnes.data.toList.drop 0 = dktX3_outOnes_0 := by decide +kernel
theorem dksX3_outOnes_1 : cX3_outOnes.data.toList.drop 23 = dktX3_outOnes_1 := dk_seg dksX3_outOnes_0 23 rfl rfl
theorem dX3_outOnes_0 : decode cX3_outOnes 0 = .ok (.iconst 0, 1) := dk_3 (dk_at dksX3_outOnes_0 0 rfl rfl)
theorem dX3_outOnes_1 : decode cX3_outOnes 1 = .ok (.istore_n 2, 1) := dk_61 (dk_at dksX3_outOnes_0 1 rfl rfl)
theorem dX3_outOnes_2 : decode cX3_outOnes 2 = .ok (.iconst 0, 1) := dk_3 (dk_at dksX3_outOnes_0 2 rfl rfl)
theorem dX3_outOnes_3 : decode cX3_outOnes 3 = .ok (.istore_n 3, 1) := dk_62 (dk_at dksX3_outOnes_0 3 rfl rfl)
theorem dX3_outOnes_4 : decode cX3_outOnes 4 = .ok (.iload_n 3, 1) := dk_29 (dk_at dksX3_outOnes_0 4 rfl rfl)
theorem dX3_outOnes_5 : decode cX3_outOnes 5 = .ok (.aload_n 0, 1) := dk_42 (dk_at dksX3_outOnes_0 5 rfl rfl)
theorem dX3_outOnes_6 : decode cX3_outOnes 6 = .ok (.getfield 101, 3) := dk_180 0 101 (dk_at dksX3_outOnes_0 6 rfl rfl)
theorem dX3_outOnes_9 : decode cX3_outOnes 9 = .ok (.if_icmp .ge 20, 3) := dk_162 0 20 (dk_at dksX3_outOnes_0 9 rfl rfl)
theorem dX3_outOnes_12 : decode cX3_outOnes 12 = .ok (.iload_n 2, 1) := dk_28 (dk_at dksX3_outOnes_0 12 rfl rfl)
theorem dX3_outOnes_13 : decode cX3_outOnes 13 = .ok (.aload_n 1, 1) := dk_43 (dk_at dksX3_outOnes_0 13 rfl rfl)
theorem dX3_outOnes_14 : decode cX3_outOnes 14 = .ok (.bipush 6, 2) := dk_16 6 (dk_at dksX3_outOnes_0 14 rfl rfl)
theorem dX3_outOnes_16 : decode cX3_outOnes 16 = .ok (.iload_n 3, 1) := dk_29 (dk_at dksX3_outOnes_0 16 rfl rfl)
theorem dX3_outOnes_17 : decode cX3_outOnes 17 = .ok (.iadd, 1) := dk_96 (dk_at dksX3_outOnes_0 17 rfl rfl)
theorem dX3_outOnes_18 : decode cX3_outOnes 18 = .ok (.iaload, 1) := dk_46 (dk_at dksX3_outOnes_0 18 rfl rfl)
theorem dX3_outOnes_19 : decode cX3_outOnes 19 = .ok (.iload_n 3, 1) := dk_29 (dk_at dksX3_outOnes_0 19 rfl rfl)
theorem dX3_outOnes_20 : decode cX3_outOnes 20 = .ok (.ishl, 1) := dk_120 (dk_at dksX3_outOnes_0 20 rfl rfl)
theorem dX3_outOnes_21 : decode cX3_outOnes 21 = .ok (.ior, 1) := dk_128 (dk_at dksX3_outOnes_0 21 rfl rfl)
theorem dX3_outOnes_22 : decode cX3_outOnes 22 = .ok (.istore_n 2, 1) := dk_61 (dk_at dksX3_outOnes_0 22 rfl rfl)
theorem dX3_outOnes_23 : decode cX3_outOnes 23 = .ok (.iinc 3 1, 3) := dk_132 3 1 (dk_at dksX3_outOnes_1 0 rfl rfl)
theorem dX3_outOnes_26 : decode cX3_outOnes 26 = .ok (.goto (-22), 3) := dk_167 255 234 (dk_at dksX3_outOnes_1 3 rfl rfl)
theorem dX3_outOnes_29 : decode cX3_outOnes 29 = .ok (.iload_n 2, 1) := dk_28 (dk_at dksX3_outOnes_1 6 rfl rfl)
theorem dX3_outOnes_30 : decode cX3_outOnes 30 = .ok (.ireturn, 1) := dk_172 (dk_at dksX3_outOnes_1 7 rfl rfl)
abbrev cX3_sheet : ByteArray := prog_9_method_36_code
def yX3_sheet : MethodName := ⟨RX3, "sheet", "(IIII)I"⟩
def dkwX3_sheet_6 : List UInt8 := [3, 182, 0, 227, 172]
abbrev dktX3_sheet_6 : List UInt8 := dkwX3_sheet_6 ++ []
def dkwX3_sheet_5 : List UInt8 := [96, 54, 5, 132, 6, 1, 167, 255, 174, 27, 6, 160, 0, 8, 16, 253, 167, 0, 12, 42, 42, 180, 0, 9]
abbrev dktX3_sheet_5 : List UInt8 := dkwX3_sheet_5 ++ dktX3_sheet_6
def dkwX3_sheet_4 : List UInt8 := [167, 0, 19, 3, 42, 180, 0, 13, 21, 6, 46, 21, 7, 184, 0, 211, 184, 0, 217, 79, 21, 5, 21, 4]
abbrev dktX3_sheet_4 : List UInt8 := dkwX3_sheet_4 ++ dktX3_sheet_5
def dkwX3_sheet_3 : List UInt8 := [21, 5, 54, 7, 42, 180, 0, 9, 21, 6, 27, 6, 159, 0, 9, 21, 6, 28, 161, 0, 7, 3]
abbrev dktX3_sheet_3 : List UInt8 := dkwX3_sheet_3 ++ dktX3_sheet_4
def dkwX3_sheet_2 : List UInt8 := [162, 0, 79, 27, 154, 0, 9, 21, 5, 145, 167, 0, 16, 27, 4, 160, 0, 9, 21, 5, 147, 167, 0, 5]
abbrev dktX3_sheet_2 : List UInt8 := dkwX3_sheet_2 ++ dktX3_sheet_3
def dkwX3_sheet_1 : List UInt8 := [162, 0, 10, 28, 156, 0, 6, 16, 254, 172, 29, 54, 5, 3, 54, 6, 21, 6, 42, 180, 0, 101]
abbrev dktX3_sheet_1 : List UInt8 := dkwX3_sheet_1 ++ dktX3_sheet_2
def dkwX3_sheet_0 : List UInt8 := [42, 3, 181, 0, 95, 27, 3, 6, 184, 0, 104, 153, 0, 9, 28, 16, 6, 164, 0, 5, 2, 172, 27, 6]
abbrev dktX3_sheet_0 : List UInt8 := dkwX3_sheet_0 ++ dktX3_sheet_1
theorem dksX3_sheet_0 : cX3_sheet.data.toList.drop 0 = dktX3_sheet_0 := by decide +kernel
theorem dksX3_sheet_1 : cX3_sheet.data.toList.drop 24 = dktX3_sheet_1 := dk_seg dksX3_sheet_0 24 rfl rfl
theorem dksX3_sheet_2 : cX3_sheet.data.toList.drop 46 = dktX3_sheet_2 := dk_seg dksX3_sheet_1 22 rfl rfl
theorem dksX3_sheet_3 : cX3_sheet.data.toList.drop 70 = dktX3_sheet_3 := dk_seg dksX3_sheet_2 24 rfl rfl
theorem dksX3_sheet_4 : cX3_sheet.data.toList.drop 92 = dktX3_sheet_4 := dk_seg dksX3_sheet_3 22 rfl rfl
theorem dksX3_sheet_5 : cX3_sheet.data.toList.drop 116 = dktX3_sheet_5 := dk_seg dksX3_sheet_4 24 rfl rfl
theorem dksX3_sheet_6 : cX3_sheet.data.toList.drop 140 = dktX3_sheet_6 := dk_seg dksX3_sheet_5 24 rfl rfl
theorem dX3_sheet_0 : decode cX3_sheet 0 = .ok (.aload_n 0, 1) := dk_42 (dk_at dksX3_sheet_0 0 rfl rfl)
theorem dX3_sheet_1 : decode cX3_sheet 1 = .ok (.iconst 0, 1) := dk_3 (dk_at dksX3_sheet_0 1 rfl rfl)
theorem dX3_sheet_2 : decode cX3_sheet 2 = .ok (.putfield 95, 3) := dk_181 0 95 (dk_at dksX3_sheet_0 2 rfl rfl)
theorem dX3_sheet_5 : decode cX3_sheet 5 = .ok (.iload_n 1, 1) := dk_27 (dk_at dksX3_sheet_0 5 rfl rfl)
theorem dX3_sheet_6 : decode cX3_sheet 6 = .ok (.iconst 0, 1) := dk_3 (dk_at dksX3_sheet_0 6 rfl rfl)
theorem dX3_sheet_7 : decode cX3_sheet 7 = .ok (.iconst 3, 1) := dk_6 (dk_at dksX3_sheet_0 7 rfl rfl)
theorem dX3_sheet_8 : decode cX3_sheet 8 = .ok (.invokestatic 104, 3) := dk_184 0 104 (dk_at dksX3_sheet_0 8 rfl rfl)
theorem dX3_sheet_11 : decode cX3_sheet 11 = .ok (.ifCond .eq 9, 3) := dk_153 0 9 (dk_at dksX3_sheet_0 11 rfl rfl)
theorem dX3_sheet_14 : decode cX3_sheet 14 = .ok (.iload_n 2, 1) := dk_28 (dk_at dksX3_sheet_0 14 rfl rfl)
theorem dX3_sheet_15 : decode cX3_sheet 15 = .ok (.bipush 6, 2) := dk_16 6 (dk_at dksX3_sheet_0 15 rfl rfl)
theorem dX3_sheet_17 : decode cX3_sheet 17 = .ok (.if_icmp .le 5, 3) := dk_164 0 5 (dk_at dksX3_sheet_0 17 rfl rfl)
theorem dX3_sheet_20 : decode cX3_sheet 20 = .ok (.iconst (-1), 1) := dk_2 (dk_at dksX3_sheet_0 20 rfl rfl)
theorem dX3_sheet_21 : decode cX3_sheet 21 = .ok (.ireturn, 1) := dk_172 (dk_at dksX3_sheet_0 21 rfl rfl)
theorem dX3_sheet_22 : decode cX3_sheet 22 = .ok (.iload_n 1, 1) := dk_27 (dk_at dksX3_sheet_0 22 rfl rfl)
theorem dX3_sheet_23 : decode cX3_sheet 23 = .ok (.iconst 3, 1) := dk_6 (dk_at dksX3_sheet_0 23 rfl rfl)
theorem dX3_sheet_24 : decode cX3_sheet 24 = .ok (.if_icmp .ge 10, 3) := dk_162 0 10 (dk_at dksX3_sheet_1 0 rfl rfl)
theorem dX3_sheet_27 : decode cX3_sheet 27 = .ok (.iload_n 2, 1) := dk_28 (dk_at dksX3_sheet_1 3 rfl rfl)
theorem dX3_sheet_28 : decode cX3_sheet 28 = .ok (.ifCond .ge 6, 3) := dk_156 0 6 (dk_at dksX3_sheet_1 4 rfl rfl)
theorem dX3_sheet_31 : decode cX3_sheet 31 = .ok (.bipush (-2), 2) := dk_16 254 (dk_at dksX3_sheet_1 7 rfl rfl)
theorem dX3_sheet_33 : decode cX3_sheet 33 = .ok (.ireturn, 1) := dk_172 (dk_at dksX3_sheet_1 9 rfl rfl)
theorem dX3_sheet_34 : decode cX3_sheet 34 = .ok (.iload_n 3, 1) := dk_29 (dk_at dksX3_sheet_1 10 rfl rfl)
theorem dX3_sheet_35 : decode cX3_sheet 35 = .ok (.istore 5, 2) := dk_54 5 (dk_at dksX3_sheet_1 11 rfl rfl)
theorem dX3_sheet_37 : decode cX3_sheet 37 = .ok (.iconst 0, 1) := dk_3 (dk_at dksX3_sheet_1 13 rfl rfl)
theorem dX3_sheet_38 : decode cX3_sheet 38 = .ok (.istore 6, 2) := dk_54 6 (dk_at dksX3_sheet_1 14 rfl rfl)
theorem dX3_sheet_40 : decode cX3_sheet 40 = .ok (.iload 6, 2) := dk_21 6 (dk_at dksX3_sheet_1 16 rfl rfl)
theorem dX3_sheet_42 : decode cX3_sheet 42 = .ok (.aload_n 0, 1) := dk_42 (dk_at dksX3_sheet_1 18 rfl rfl)
theorem dX3_sheet_43 : decode cX3_sheet 43 = .ok (.getfield 101, 3) := dk_180 0 101 (dk_at dksX3_sheet_1 19 rfl rfl)
theorem dX3_sheet_46 : decode cX3_sheet 46 = .ok (.if_icmp .ge 79, 3) := dk_162 0 79 (dk_at dksX3_sheet_2 0 rfl rfl)
theorem dX3_sheet_49 : decode cX3_sheet 49 = .ok (.iload_n 1, 1) := dk_27 (dk_at dksX3_sheet_2 3 rfl rfl)
theorem dX3_sheet_50 : decode cX3_sheet 50 = .ok (.ifCond .ne 9, 3) := dk_154 0 9 (dk_at dksX3_sheet_2 4 rfl rfl)
theorem dX3_sheet_53 : decode cX3_sheet 53 = .ok (.iload 5, 2) := dk_21 5 (dk_at dksX3_sheet_2 7 rfl rfl)
theorem dX3_sheet_55 : decode cX3_sheet 55 = .ok (.i2b, 1) := dk_145 (dk_at dksX3_sheet_2 9 rfl rfl)
theorem dX3_sheet_56 : decode cX3_sheet 56 = .ok (.goto 16, 3) := dk_167 0 16 (dk_at dksX3_sheet_2 10 rfl rfl)
theorem dX3_sheet_59 : decode cX3_sheet 59 = .ok (.iload_n 1, 1) := dk_27 (dk_at dksX3_sheet_2 13 rfl rfl)
theorem dX3_sheet_60 : decode cX3_sheet 60 = .ok (.iconst 1, 1) := dk_4 (dk_at dksX3_sheet_2 14 rfl rfl)
theorem dX3_sheet_61 : decode cX3_sheet 61 = .ok (.if_icmp .ne 9, 3) := dk_160 0 9 (dk_at dksX3_sheet_2 15 rfl rfl)
theorem dX3_sheet_64 : decode cX3_sheet 64 = .ok (.iload 5, 2) := dk_21 5 (dk_at dksX3_sheet_2 18 rfl rfl)
theorem dX3_sheet_66 : decode cX3_sheet 66 = .ok (.i2s, 1) := dk_147 (dk_at dksX3_sheet_2 20 rfl rfl)
theorem dX3_sheet_67 : decode cX3_sheet 67 = .ok (.goto 5, 3) := dk_167 0 5 (dk_at dksX3_sheet_2 21 rfl rfl)
theorem dX3_sheet_70 : decode cX3_sheet 70 = .ok (.iload 5, 2) := dk_21 5 (dk_at dksX3_sheet_3 0 rfl rfl)
theorem dX3_sheet_72 : decode cX3_sheet 72 = .ok (.istore 7, 2) := dk_54 7 (dk_at dksX3_sheet_3 2 rfl rfl)
theorem dX3_sheet_74 : decode cX3_sheet 74 = .ok (.aload_n 0, 1) := dk_42 (dk_at dksX3_sheet_3 4 rfl rfl)
theorem dX3_sheet_75 : decode cX3_sheet 75 = .ok (.getfield 9, 3) := dk_180 0 9 (dk_at dksX3_sheet_3 5 rfl rfl)
theorem dX3_sheet_78 : decode cX3_sheet 78 = .ok (.iload 6, 2) := dk_21 6 (dk_at dksX3_sheet_3 8 rfl rfl)
theorem dX3_sheet_80 : decode cX3_sheet 80 = .ok (.iload_n 1, 1) := dk_27 (dk_at dksX3_sheet_3 10 rfl rfl)
theorem dX3_sheet_81 : decode cX3_sheet 81 = .ok (.iconst 3, 1) := dk_6 (dk_at dksX3_sheet_3 11 rfl rfl)
theorem dX3_sheet_82 : decode cX3_sheet 82 = .ok (.if_icmp .eq 9, 3) := dk_159 0 9 (dk_at dksX3_sheet_3 12 rfl rfl)
theorem dX3_sheet_85 : decode cX3_sheet 85 = .ok (.iload 6, 2) := dk_21 6 (dk_at dksX3_sheet_3 15 rfl rfl)
theorem dX3_sheet_87 : decode cX3_sheet 87 = .ok (.iload_n 2, 1) := dk_28 (dk_at dksX3_sheet_3 17 rfl rfl)
theorem dX3_sheet_88 : decode cX3_sheet 88 = .ok (.if_icmp .lt 7, 3) := dk_161 0 7 (dk_at dksX3_sheet_3 18 rfl rfl)
theorem dX3_sheet_91 : decode cX3_sheet 91 = .ok (.iconst 0, 1) := dk_3 (dk_at dksX3_sheet_3 21 rfl rfl)
theorem dX3_sheet_92 : decode cX3_sheet 92 = .ok (.goto 19, 3) := dk_167 0 19 (dk_at dksX3_sheet_4 0 rfl rfl)
theorem dX3_sheet_95 : decode cX3_sheet 95 = .ok (.iconst 0, 1) := dk_3 (dk_at dksX3_sheet_4 3 rfl rfl)
theorem dX3_sheet_96 : decode cX3_sheet 96 = .ok (.aload_n 0, 1) := dk_42 (dk_at dksX3_sheet_4 4 rfl rfl)
theorem dX3_sheet_97 : decode cX3_sheet 97 = .ok (.getfield 13, 3) := dk_180 0 13 (dk_at dksX3_sheet_4 5 rfl rfl)
theorem dX3_sheet_100 : decode cX3_sheet 100 = .ok (.iload 6, 2) := dk_21 6 (dk_at dksX3_sheet_4 8 rfl rfl)
theorem dX3_sheet_102 : decode cX3_sheet 102 = .ok (.iaload, 1) := dk_46 (dk_at dksX3_sheet_4 10 rfl rfl)
theorem dX3_sheet_103 : decode cX3_sheet 103 = .ok (.iload 7, 2) := dk_21 7 (dk_at dksX3_sheet_4 11 rfl rfl)
theorem dX3_sheet_105 : decode cX3_sheet 105 = .ok (.invokestatic 211, 3) := dk_184 0 211 (dk_at dksX3_sheet_4 13 rfl rfl)
theorem dX3_sheet_108 : decode cX3_sheet 108 = .ok (.invokestatic 217, 3) := dk_184 0 217 (dk_at dksX3_sheet_4 16 rfl rfl)
theorem dX3_sheet_111 : decode cX3_sheet 111 = .ok (.iastore, 1) := dk_79 (dk_at dksX3_sheet_4 19 rfl rfl)
theorem dX3_sheet_112 : decode cX3_sheet 112 = .ok (.iload 5, 2) := dk_21 5 (dk_at dksX3_sheet_4 20 rfl rfl)
theorem dX3_sheet_114 : decode cX3_sheet 114 = .ok (.iload 4, 2) := dk_21 4 (dk_at dksX3_sheet_4 22 rfl rfl)
theorem dX3_sheet_116 : decode cX3_sheet 116 = .ok (.iadd, 1) := dk_96 (dk_at dksX3_sheet_5 0 rfl rfl)
theorem dX3_sheet_117 : decode cX3_sheet 117 = .ok (.istore 5, 2) := dk_54 5 (dk_at dksX3_sheet_5 1 rfl rfl)
theorem dX3_sheet_119 : decode cX3_sheet 119 = .ok (.iinc 6 1, 3) := dk_132 6 1 (dk_at dksX3_sheet_5 3 rfl rfl)
theorem dX3_sheet_122 : decode cX3_sheet 122 = .ok (.goto (-82), 3) := dk_167 255 174 (dk_at dksX3_sheet_5 6 rfl rfl)
theorem dX3_sheet_125 : decode cX3_sheet 125 = .ok (.iload_n 1, 1) := dk_27 (dk_at dksX3_sheet_5 9 rfl rfl)
theorem dX3_sheet_126 : decode cX3_sheet 126 = .ok (.iconst 3, 1) := dk_6 (dk_at dksX3_sheet_5 10 rfl rfl)
theorem dX3_sheet_127 : decode cX3_sheet 127 = .ok (.if_icmp .ne 8, 3) := dk_160 0 8 (dk_at dksX3_sheet_5 11 rfl rfl)
theorem dX3_sheet_130 : decode cX3_sheet 130 = .ok (.bipush (-3), 2) := dk_16 253 (dk_at dksX3_sheet_5 14 rfl rfl)
theorem dX3_sheet_132 : decode cX3_sheet 132 = .ok (.goto 12, 3) := dk_167 0 12 (dk_at dksX3_sheet_5 16 rfl rfl)
theorem dX3_sheet_135 : decode cX3_sheet 135 = .ok (.aload_n 0, 1) := dk_42 (dk_at dksX3_sheet_5 19 rfl rfl)
theorem dX3_sheet_136 : decode cX3_sheet 136 = .ok (.aload_n 0, 1) := dk_42 (dk_at dksX3_sheet_5 20 rfl rfl)
theorem dX3_sheet_137 : decode cX3_sheet 137 = .ok (.getfield 9, 3) := dk_180 0 9 (dk_at dksX3_sheet_5 21 rfl rfl)
theorem dX3_sheet_140 : decode cX3_sheet 140 = .ok (.iconst 0, 1) := dk_3 (dk_at dksX3_sheet_6 0 rfl rfl)
theorem dX3_sheet_141 : decode cX3_sheet 141 = .ok (.invokevirtual 227, 3) := dk_182 0 227 (dk_at dksX3_sheet_6 1 rfl rfl)
theorem dX3_sheet_144 : decode cX3_sheet 144 = .ok (.ireturn, 1) := dk_172 (dk_at dksX3_sheet_6 4 rfl rfl)
abbrev cX3_sumOf : ByteArray := prog_9_method_35_code
def yX3_sumOf : MethodName := ⟨RX3, "sumOf", "([II)I"⟩
def dkwX3_sumOf_1 : List UInt8 := [132, 4, 1, 167, 255, 235, 29, 172]
abbrev dktX3_sumOf_1 : List UInt8 := dkwX3_sumOf_1 ++ []
def dkwX3_sumOf_0 : List UInt8 := [3, 62, 3, 54, 4, 21, 4, 42, 180, 0, 101, 162, 0, 18, 29, 43, 28, 21, 4, 96, 46, 96, 62]
abbrev dktX3_sumOf_0 : List UInt8 := dkwX3_sumOf_0 ++ dktX3_sumOf_1
theorem dksX3_sumOf_0 : cX3_sumOf.data.toList.drop 0 = dktX3_sumOf_0 := by decide +kernel
theorem dksX3_sumOf_1 : cX3_sumOf.data.toList.drop 23 = dktX3_sumOf_1 := dk_seg dksX3_sumOf_0 23 rfl rfl
theorem dX3_sumOf_0 : decode cX3_sumOf 0 = .ok (.iconst 0, 1) := dk_3 (dk_at dksX3_sumOf_0 0 rfl rfl)
theorem dX3_sumOf_1 : decode cX3_sumOf 1 = .ok (.istore_n 3, 1) := dk_62 (dk_at dksX3_sumOf_0 1 rfl rfl)
theorem dX3_sumOf_2 : decode cX3_sumOf 2 = .ok (.iconst 0, 1) := dk_3 (dk_at dksX3_sumOf_0 2 rfl rfl)
theorem dX3_sumOf_3 : decode cX3_sumOf 3 = .ok (.istore 4, 2) := dk_54 4 (dk_at dksX3_sumOf_0 3 rfl rfl)
theorem dX3_sumOf_5 : decode cX3_sumOf 5 = .ok (.iload 4, 2) := dk_21 4 (dk_at dksX3_sumOf_0 5 rfl rfl)
theorem dX3_sumOf_7 : decode cX3_sumOf 7 = .ok (.aload_n 0, 1) := dk_42 (dk_at dksX3_sumOf_0 7 rfl rfl)
theorem dX3_sumOf_8 : decode cX3_sumOf 8 = .ok (.getfield 101, 3) := dk_180 0 101 (dk_at dksX3_sumOf_0 8 rfl rfl)
theorem dX3_sumOf_11 : decode cX3_sumOf 11 = .ok (.if_icmp .ge 18, 3) := dk_162 0 18 (dk_at dksX3_sumOf_0 11 rfl rfl)
theorem dX3_sumOf_14 : decode cX3_sumOf 14 = .ok (.iload_n 3, 1) := dk_29 (dk_at dksX3_sumOf_0 14 rfl rfl)
theorem dX3_sumOf_15 : decode cX3_sumOf 15 = .ok (.aload_n 1, 1) := dk_43 (dk_at dksX3_sumOf_0 15 rfl rfl)
theorem dX3_sumOf_16 : decode cX3_sumOf 16 = .ok (.iload_n 2, 1) := dk_28 (dk_at dksX3_sumOf_0 16 rfl rfl)
theorem dX3_sumOf_17 : decode cX3_sumOf 17 = .ok (.iload 4, 2) := dk_21 4 (dk_at dksX3_sumOf_0 17 rfl rfl)
theorem dX3_sumOf_19 : decode cX3_sumOf 19 = .ok (.iadd, 1) := dk_96 (dk_at dksX3_sumOf_0 19 rfl rfl)
theorem dX3_sumOf_20 : decode cX3_sumOf 20 = .ok (.iaload, 1) := dk_46 (dk_at dksX3_sumOf_0 20 rfl rfl)
theorem dX3_sumOf_21 : decode cX3_sumOf 21 = .ok (.iadd, 1) := dk_96 (dk_at dksX3_sumOf_0 21 rfl rfl)
theorem dX3_sumOf_22 : decode cX3_sumOf 22 = .ok (.istore_n 3, 1) := dk_62 (dk_at dksX3_sumOf_0 22 rfl rfl)
theorem dX3_sumOf_23 : decode cX3_sumOf 23 = .ok (.iinc 4 1, 3) := dk_132 4 1 (dk_at dksX3_sumOf_1 0 rfl rfl)
theorem dX3_sumOf_26 : decode cX3_sumOf 26 = .ok (.goto (-21), 3) := dk_167 255 235 (dk_at dksX3_sumOf_1 3 rfl rfl)
theorem dX3_sumOf_29 : decode cX3_sumOf 29 = .ok (.iload_n 3, 1) := dk_29 (dk_at dksX3_sumOf_1 6 rfl rfl)
theorem dX3_sumOf_30 : decode cX3_sumOf 30 = .ok (.ireturn, 1) := dk_172 (dk_at dksX3_sumOf_1 7 rfl rfl)
abbrev cX3_days : ByteArray := prog_9_method_41_code
def yX3_days : MethodName := ⟨RX3, "days", "(I)I"⟩
def dkwX3_days_4 : List UInt8 := [182, 0, 227, 172]
abbrev dktX3_days_4 : List UInt8 := dkwX3_days_4 ++ []
def dkwX3_days_3 : List UInt8 := [182, 0, 248, 42, 42, 180, 0, 9, 16, 32, 46, 29, 100, 133, 182, 0, 248, 42, 42, 180, 0, 9, 3]
abbrev dktX3_days_3 : List UInt8 := dkwX3_days_3 ++ dktX3_days_4
def dkwX3_days_2 : List UInt8 := [180, 0, 9, 27, 182, 0, 244, 42, 3, 181, 0, 98, 42, 42, 180, 0, 9, 16, 31, 46, 28, 100, 133]
abbrev dktX3_days_2 : List UInt8 := dkwX3_days_2 ++ dktX3_days_3
def dkwX3_days_1 : List UInt8 := [180, 0, 9, 182, 0, 241, 42, 180, 0, 9, 16, 31, 46, 61, 42, 180, 0, 9, 16, 32, 46, 62, 42, 42]
abbrev dktX3_days_1 : List UInt8 := dkwX3_days_1 ++ dktX3_days_2
def dkwX3_days_0 : List UInt8 := [42, 3, 181, 0, 95, 27, 3, 16, 60, 184, 0, 104, 154, 0, 5, 2, 172, 27, 158, 0, 11, 42, 42]
abbrev dktX3_days_0 : List UInt8 := dkwX3_days_0 ++ dktX3_days_1
theorem dksX3_days_0 : cX3_days.data.toList.drop 0 = dktX3_days_0 := by decide +kernel
theorem dksX3_days_1 : cX3_days.data.toList.drop 23 = dktX3_days_1 := dk_seg dksX3_days_0 23 rfl rfl
theorem dksX3_days_2 : cX3_days.data.toList.drop 47 = dktX3_days_2 := dk_seg dksX3_days_1 24 rfl rfl
theorem dksX3_days_3 : cX3_days.data.toList.drop 70 = dktX3_days_3 := dk_seg dksX3_days_2 23 rfl rfl
theorem dksX3_days_4 : cX3_days.data.toList.drop 93 = dktX3_days_4 := dk_seg dksX3_days_3 23 rfl rfl
theorem dX3_days_0 : decode cX3_days 0 = .ok (.aload_n 0, 1) := dk_42 (dk_at dksX3_days_0 0 rfl rfl)
theorem dX3_days_1 : decode cX3_days 1 = .ok (.iconst 0, 1) := dk_3 (dk_at dksX3_days_0 1 rfl rfl)
theorem dX3_days_2 : decode cX3_days 2 = .ok (.putfield 95, 3) := dk_181 0 95 (dk_at dksX3_days_0 2 rfl rfl)
theorem dX3_days_5 : decode cX3_days 5 = .ok (.iload_n 1, 1) := dk_27 (dk_at dksX3_days_0 5 rfl rfl)
theorem dX3_days_6 : decode cX3_days 6 = .ok (.iconst 0, 1) := dk_3 (dk_at dksX3_days_0 6 rfl rfl)
theorem dX3_days_7 : decode cX3_days 7 = .ok (.bipush 60, 2) := dk_16 60 (dk_at dksX3_days_0 7 rfl rfl)
theorem dX3_days_9 : decode cX3_days 9 = .ok (.invokestatic 104, 3) := dk_184 0 104 (dk_at dksX3_days_0 9 rfl rfl)
theorem dX3_days_12 : decode cX3_days 12 = .ok (.ifCond .ne 5, 3) := dk_154 0 5 (dk_at dksX3_days_0 12 rfl rfl)
theorem dX3_days_15 : decode cX3_days 15 = .ok (.iconst (-1), 1) := dk_2 (dk_at dksX3_days_0 15 rfl rfl)
theorem dX3_days_16 : decode cX3_days 16 = .ok (.ireturn, 1) := dk_172 (dk_at dksX3_days_0 16 rfl rfl)
theorem dX3_days_17 : decode cX3_days 17 = .ok (.iload_n 1, 1) := dk_27 (dk_at dksX3_days_0 17 rfl rfl)
theorem dX3_days_18 : decode cX3_days 18 = .ok (.ifCond .le 11, 3) := dk_158 0 11 (dk_at dksX3_days_0 18 rfl rfl)
theorem dX3_days_21 : decode cX3_days 21 = .ok (.aload_n 0, 1) := dk_42 (dk_at dksX3_days_0 21 rfl rfl)
theorem dX3_days_22 : decode cX3_days 22 = .ok (.aload_n 0, 1) := dk_42 (dk_at dksX3_days_0 22 rfl rfl)
theorem dX3_days_23 : decode cX3_days 23 = .ok (.getfield 9, 3) := dk_180 0 9 (dk_at dksX3_days_1 0 rfl rfl)
theorem dX3_days_26 : decode cX3_days 26 = .ok (.invokevirtual 241, 3) := dk_182 0 241 (dk_at dksX3_days_1 3 rfl rfl)
theorem dX3_days_29 : decode cX3_days 29 = .ok (.aload_n 0, 1) := dk_42 (dk_at dksX3_days_1 6 rfl rfl)
theorem dX3_days_30 : decode cX3_days 30 = .ok (.getfield 9, 3) := dk_180 0 9 (dk_at dksX3_days_1 7 rfl rfl)
theorem dX3_days_33 : decode cX3_days 33 = .ok (.bipush 31, 2) := dk_16 31 (dk_at dksX3_days_1 10 rfl rfl)
theorem dX3_days_35 : decode cX3_days 35 = .ok (.iaload, 1) := dk_46 (dk_at dksX3_days_1 12 rfl rfl)
theorem dX3_days_36 : decode cX3_days 36 = .ok (.istore_n 2, 1) := dk_61 (dk_at dksX3_days_1 13 rfl rfl)
theorem dX3_days_37 : decode cX3_days 37 = .ok (.aload_n 0, 1) := dk_42 (dk_at dksX3_days_1 14 rfl rfl)
theorem dX3_days_38 : decode cX3_days 38 = .ok (.getfield 9, 3) := dk_180 0 9 (dk_at dksX3_days_1 15 rfl rfl)
theorem dX3_days_41 : decode cX3_days 41 = .ok (.bipush 32, 2) := dk_16 32 (dk_at dksX3_days_1 18 rfl rfl)
theorem dX3_days_43 : decode cX3_days 43 = .ok (.iaload, 1) := dk_46 (dk_at dksX3_days_1 20 rfl rfl)
theorem dX3_days_44 : decode cX3_days 44 = .ok (.istore_n 3, 1) := dk_62 (dk_at dksX3_days_1 21 rfl rfl)
theorem dX3_days_45 : decode cX3_days 45 = .ok (.aload_n 0, 1) := dk_42 (dk_at dksX3_days_1 22 rfl rfl)
theorem dX3_days_46 : decode cX3_days 46 = .ok (.aload_n 0, 1) := dk_42 (dk_at dksX3_days_1 23 rfl rfl)
theorem dX3_days_47 : decode cX3_days 47 = .ok (.getfield 9, 3) := dk_180 0 9 (dk_at dksX3_days_2 0 rfl rfl)
theorem dX3_days_50 : decode cX3_days 50 = .ok (.iload_n 1, 1) := dk_27 (dk_at dksX3_days_2 3 rfl rfl)
theorem dX3_days_51 : decode cX3_days 51 = .ok (.invokevirtual 244, 3) := dk_182 0 244 (dk_at dksX3_days_2 4 rfl rfl)
theorem dX3_days_54 : decode cX3_days 54 = .ok (.aload_n 0, 1) := dk_42 (dk_at dksX3_days_2 7 rfl rfl)
theorem dX3_days_55 : decode cX3_days 55 = .ok (.iconst 0, 1) := dk_3 (dk_at dksX3_days_2 8 rfl rfl)
theorem dX3_days_56 : decode cX3_days 56 = .ok (.putfield 98, 3) := dk_181 0 98 (dk_at dksX3_days_2 9 rfl rfl)
theorem dX3_days_59 : decode cX3_days 59 = .ok (.aload_n 0, 1) := dk_42 (dk_at dksX3_days_2 12 rfl rfl)
theorem dX3_days_60 : decode cX3_days 60 = .ok (.aload_n 0, 1) := dk_42 (dk_at dksX3_days_2 13 rfl rfl)
theorem dX3_days_61 : decode cX3_days 61 = .ok (.getfield 9, 3) := dk_180 0 9 (dk_at dksX3_days_2 14 rfl rfl)
theorem dX3_days_64 : decode cX3_days 64 = .ok (.bipush 31, 2) := dk_16 31 (dk_at dksX3_days_2 17 rfl rfl)
theorem dX3_days_66 : decode cX3_days 66 = .ok (.iaload, 1) := dk_46 (dk_at dksX3_days_2 19 rfl rfl)
theorem dX3_days_67 : decode cX3_days 67 = .ok (.iload_n 2, 1) := dk_28 (dk_at dksX3_days_2 20 rfl rfl)
theorem dX3_days_68 : decode cX3_days 68 = .ok (.isub, 1) := dk_100 (dk_at dksX3_days_2 21 rfl rfl)
theorem dX3_days_69 : decode cX3_days 69 = .ok (.i2l, 1) := dk_133 (dk_at dksX3_days_2 22 rfl rfl)
theorem dX3_days_70 : decode cX3_days 70 = .ok (.invokevirtual 248, 3) := dk_182 0 248 (dk_at dksX3_days_3 0 rfl rfl)
theorem dX3_days_73 : decode cX3_days 73 = .ok (.aload_n 0, 1) := dk_42 (dk_at dksX3_days_3 3 rfl rfl)
theorem dX3_days_74 : decode cX3_days 74 = .ok (.aload_n 0, 1) := dk_42 (dk_at dksX3_days_3 4 rfl rfl)
theorem dX3_days_75 : decode cX3_days 75 = .ok (.getfield 9, 3) := dk_180 0 9 (dk_at dksX3_days_3 5 rfl rfl)
theorem dX3_days_78 : decode cX3_days 78 = .ok (.bipush 32, 2) := dk_16 32 (dk_at dksX3_days_3 8 rfl rfl)
theorem dX3_days_80 : decode cX3_days 80 = .ok (.iaload, 1) := dk_46 (dk_at dksX3_days_3 10 rfl rfl)
theorem dX3_days_81 : decode cX3_days 81 = .ok (.iload_n 3, 1) := dk_29 (dk_at dksX3_days_3 11 rfl rfl)
theorem dX3_days_82 : decode cX3_days 82 = .ok (.isub, 1) := dk_100 (dk_at dksX3_days_3 12 rfl rfl)
theorem dX3_days_83 : decode cX3_days 83 = .ok (.i2l, 1) := dk_133 (dk_at dksX3_days_3 13 rfl rfl)
theorem dX3_days_84 : decode cX3_days 84 = .ok (.invokevirtual 248, 3) := dk_182 0 248 (dk_at dksX3_days_3 14 rfl rfl)
theorem dX3_days_87 : decode cX3_days 87 = .ok (.aload_n 0, 1) := dk_42 (dk_at dksX3_days_3 17 rfl rfl)
theorem dX3_days_88 : decode cX3_days 88 = .ok (.aload_n 0, 1) := dk_42 (dk_at dksX3_days_3 18 rfl rfl)
theorem dX3_days_89 : decode cX3_days 89 = .ok (.getfield 9, 3) := dk_180 0 9 (dk_at dksX3_days_3 19 rfl rfl)
theorem dX3_days_92 : decode cX3_days 92 = .ok (.iconst 0, 1) := dk_3 (dk_at dksX3_days_3 22 rfl rfl)
theorem dX3_days_93 : decode cX3_days 93 = .ok (.invokevirtual 227, 3) := dk_182 0 227 (dk_at dksX3_days_4 0 rfl rfl)
theorem dX3_days_96 : decode cX3_days 96 = .ok (.ireturn, 1) := dk_172 (dk_at dksX3_days_4 3 rfl rfl)
abbrev cX3_remember : ByteArray := prog_9_method_38_code
def yX3_remember : MethodName := ⟨RX3, "remember", "([I)V"⟩
def dkwX3_remember_3 : List UInt8 := [96, 181, 0, 163, 177]
abbrev dktX3_remember_3 : List UInt8 := dkwX3_remember_3 ++ []
def dkwX3_remember_2 : List UInt8 := [181, 0, 163, 43, 42, 180, 0, 42, 16, 33, 42, 180, 0, 163, 104, 184, 0, 230, 42, 89, 180, 0, 163, 4]
abbrev dktX3_remember_2 : List UInt8 := dkwX3_remember_2 ++ dktX3_remember_3
def dkwX3_remember_1 : List UInt8 := [180, 0, 42, 28, 16, 33, 96, 46, 79, 132, 2, 1, 167, 255, 231, 42, 89, 180, 0, 163, 4, 100]
abbrev dktX3_remember_1 : List UInt8 := dkwX3_remember_1 ++ dktX3_remember_2
def dkwX3_remember_0 : List UInt8 := [42, 180, 0, 163, 16, 12, 160, 0, 43, 3, 61, 28, 17, 1, 107, 162, 0, 24, 42, 180, 0, 42, 28, 42]
abbrev dktX3_remember_0 : List UInt8 := dkwX3_remember_0 ++ dktX3_remember_1
theorem dksX3_remember_0 : cX3_remember.data.toList.drop 0 = dktX3_remember_0 := by decide +kernel
theorem dksX3_remember_1 : cX3_remember.data.toList.drop 24 = dktX3_remember_1 := dk_seg dksX3_remember_0 24 rfl rfl
theorem dksX3_remember_2 : cX3_remember.data.toList.drop 46 = dktX3_remember_2 := dk_seg dksX3_remember_1 22 rfl rfl
theorem dksX3_remember_3 : cX3_remember.data.toList.drop 70 = dktX3_remember_3 := dk_seg dksX3_remember_2 24 rfl rfl
theorem dX3_remember_0 : decode cX3_remember 0 = .ok (.aload_n 0, 1) := dk_42 (dk_at dksX3_remember_0 0 rfl rfl)
theorem dX3_remember_1 : decode cX3_remember 1 = .ok (.getfield 163, 3) := dk_180 0 163 (dk_at dksX3_remember_0 1 rfl rfl)
theorem dX3_remember_4 : decode cX3_remember 4 = .ok (.bipush 12, 2) := dk_16 12 (dk_at dksX3_remember_0 4 rfl rfl)
theorem dX3_remember_6 : decode cX3_remember 6 = .ok (.if_icmp .ne 43, 3) := dk_160 0 43 (dk_at dksX3_remember_0 6 rfl rfl)
theorem dX3_remember_9 : decode cX3_remember 9 = .ok (.iconst 0, 1) := dk_3 (dk_at dksX3_remember_0 9 rfl rfl)
theorem dX3_remember_10 : decode cX3_remember 10 = .ok (.istore_n 2, 1) := dk_61 (dk_at dksX3_remember_0 10 rfl rfl)
theorem dX3_remember_11 : decode cX3_remember 11 = .ok (.iload_n 2, 1) := dk_28 (dk_at dksX3_remember_0 11 rfl rfl)
theorem dX3_remember_12 : decode cX3_remember 12 = .ok (.sipush 363, 3) := dk_17 1 107 (dk_at dksX3_remember_0 12 rfl rfl)
theorem dX3_remember_15 : decode cX3_remember 15 = .ok (.if_icmp .ge 24, 3) := dk_162 0 24 (dk_at dksX3_remember_0 15 rfl rfl)
theorem dX3_remember_18 : decode cX3_remember 18 = .ok (.aload_n 0, 1) := dk_42 (dk_at dksX3_remember_0 18 rfl rfl)
theorem dX3_remember_19 : decode cX3_remember 19 = .ok (.getfield 42, 3) := dk_180 0 42 (dk_at dksX3_remember_0 19 rfl rfl)
theorem dX3_remember_22 : decode cX3_remember 22 = .ok (.iload_n 2, 1) := dk_28 (dk_at dksX3_remember_0 22 rfl rfl)
theorem dX3_remember_23 : decode cX3_remember 23 = .ok (.aload_n 0, 1) := dk_42 (dk_at dksX3_remember_0 23 rfl rfl)
theorem dX3_remember_24 : decode cX3_remember 24 = .ok (.getfield 42, 3) := dk_180 0 42 (dk_at dksX3_remember_1 0 rfl rfl)
theorem dX3_remember_27 : decode cX3_remember 27 = .ok (.iload_n 2, 1) := dk_28 (dk_at dksX3_remember_1 3 rfl rfl)
theorem dX3_remember_28 : decode cX3_remember 28 = .ok (.bipush 33, 2) := dk_16 33 (dk_at dksX3_remember_1 4 rfl rfl)
theorem dX3_remember_30 : decode cX3_remember 30 = .ok (.iadd, 1) := dk_96 (dk_at dksX3_remember_1 6 rfl rfl)
theorem dX3_remember_31 : decode cX3_remember 31 = .ok (.iaload, 1) := dk_46 (dk_at dksX3_remember_1 7 rfl rfl)
theorem dX3_remember_32 : decode cX3_remember 32 = .ok (.iastore, 1) := dk_79 (dk_at dksX3_remember_1 8 rfl rfl)
theorem dX3_remember_33 : decode cX3_remember 33 = .ok (.iinc 2 1, 3) := dk_132 2 1 (dk_at dksX3_remember_1 9 rfl rfl)
theorem dX3_remember_36 : decode cX3_remember 36 = .ok (.goto (-25), 3) := dk_167 255 231 (dk_at dksX3_remember_1 12 rfl rfl)
theorem dX3_remember_39 : decode cX3_remember 39 = .ok (.aload_n 0, 1) := dk_42 (dk_at dksX3_remember_1 15 rfl rfl)
theorem dX3_remember_40 : decode cX3_remember 40 = .ok (.dup, 1) := dk_89 (dk_at dksX3_remember_1 16 rfl rfl)
theorem dX3_remember_41 : decode cX3_remember 41 = .ok (.getfield 163, 3) := dk_180 0 163 (dk_at dksX3_remember_1 17 rfl rfl)
theorem dX3_remember_44 : decode cX3_remember 44 = .ok (.iconst 1, 1) := dk_4 (dk_at dksX3_remember_1 20 rfl rfl)
theorem dX3_remember_45 : decode cX3_remember 45 = .ok (.isub, 1) := dk_100 (dk_at dksX3_remember_1 21 rfl rfl)
theorem dX3_remember_46 : decode cX3_remember 46 = .ok (.putfield 163, 3) := dk_181 0 163 (dk_at dksX3_remember_2 0 rfl rfl)
theorem dX3_remember_49 : decode cX3_remember 49 = .ok (.aload_n 1, 1) := dk_43 (dk_at dksX3_remember_2 3 rfl rfl)
theorem dX3_remember_50 : decode cX3_remember 50 = .ok (.aload_n 0, 1) := dk_42 (dk_at dksX3_remember_2 4 rfl rfl)
theorem dX3_remember_51 : decode cX3_remember 51 = .ok (.getfield 42, 3) := dk_180 0 42 (dk_at dksX3_remember_2 5 rfl rfl)
theorem dX3_remember_54 : decode cX3_remember 54 = .ok (.bipush 33, 2) := dk_16 33 (dk_at dksX3_remember_2 8 rfl rfl)
theorem dX3_remember_56 : decode cX3_remember 56 = .ok (.aload_n 0, 1) := dk_42 (dk_at dksX3_remember_2 10 rfl rfl)
theorem dX3_remember_57 : decode cX3_remember 57 = .ok (.getfield 163, 3) := dk_180 0 163 (dk_at dksX3_remember_2 11 rfl rfl)
theorem dX3_remember_60 : decode cX3_remember 60 = .ok (.imul, 1) := dk_104 (dk_at dksX3_remember_2 14 rfl rfl)
theorem dX3_remember_61 : decode cX3_remember 61 = .ok (.invokestatic 230, 3) := dk_184 0 230 (dk_at dksX3_remember_2 15 rfl rfl)
theorem dX3_remember_64 : decode cX3_remember 64 = .ok (.aload_n 0, 1) := dk_42 (dk_at dksX3_remember_2 18 rfl rfl)
theorem dX3_remember_65 : decode cX3_remember 65 = .ok (.dup, 1) := dk_89 (dk_at dksX3_remember_2 19 rfl rfl)
theorem dX3_remember_66 : decode cX3_remember 66 = .ok (.getfield 163, 3) := dk_180 0 163 (dk_at dksX3_remember_2 20 rfl rfl)
theorem dX3_remember_69 : decode cX3_remember 69 = .ok (.iconst 1, 1) := dk_4 (dk_at dksX3_remember_2 23 rfl rfl)
theorem dX3_remember_70 : decode cX3_remember 70 = .ok (.iadd, 1) := dk_96 (dk_at dksX3_remember_3 0 rfl rfl)
theorem dX3_remember_71 : decode cX3_remember 71 = .ok (.putfield 163, 3) := dk_181 0 163 (dk_at dksX3_remember_3 1 rfl rfl)
theorem dX3_remember_74 : decode cX3_remember 74 = .ok (.return_, 1) := dk_177 (dk_at dksX3_remember_3 4 rfl rfl)
abbrev cX3_lay : ByteArray := prog_9_method_37_code
def yX3_lay : MethodName := ⟨RX3, "lay", "([I[II)V"⟩
def dkwX3_lay_0 : List UInt8 := [3, 62, 29, 16, 33, 162, 0, 17, 43, 28, 29, 96, 42, 29, 46, 79, 132, 3, 1, 167, 255, 239, 177]
abbrev dktX3_lay_0 : List UInt8 := dkwX3_lay_0 ++ []
theorem dksX3_lay_0 : cX3_lay.data.toList.drop 0 = dktX3_lay_0 := by decide +kernel
theorem dX3_lay_0 : decode cX3_lay 0 = .ok (.iconst 0, 1) := dk_3 (dk_at dksX3_lay_0 0 rfl rfl)
theorem dX3_lay_1 : decode cX3_lay 1 = .ok (.istore_n 3, 1) := dk_62 (dk_at dksX3_lay_0 1 rfl rfl)
theorem dX3_lay_2 : decode cX3_lay 2 = .ok (.iload_n 3, 1) := dk_29 (dk_at dksX3_lay_0 2 rfl rfl)
theorem dX3_lay_3 : decode cX3_lay 3 = .ok (.bipush 33, 2) := dk_16 33 (dk_at dksX3_lay_0 3 rfl rfl)
theorem dX3_lay_5 : decode cX3_lay 5 = .ok (.if_icmp .ge 17, 3) := dk_162 0 17 (dk_at dksX3_lay_0 5 rfl rfl)
theorem dX3_lay_8 : decode cX3_lay 8 = .ok (.aload_n 1, 1) := dk_43 (dk_at dksX3_lay_0 8 rfl rfl)
theorem dX3_lay_9 : decode cX3_lay 9 = .ok (.iload_n 2, 1) := dk_28 (dk_at dksX3_lay_0 9 rfl rfl)
theorem dX3_lay_10 : decode cX3_lay 10 = .ok (.iload_n 3, 1) := dk_29 (dk_at dksX3_lay_0 10 rfl rfl)
theorem dX3_lay_11 : decode cX3_lay 11 = .ok (.iadd, 1) := dk_96 (dk_at dksX3_lay_0 11 rfl rfl)
theorem dX3_lay_12 : decode cX3_lay 12 = .ok (.aload_n 0, 1) := dk_42 (dk_at dksX3_lay_0 12 rfl rfl)
theorem dX3_lay_13 : decode cX3_lay 13 = .ok (.iload_n 3, 1) := dk_29 (dk_at dksX3_lay_0 13 rfl rfl)
theorem dX3_lay_14 : decode cX3_lay 14 = .ok (.iaload, 1) := dk_46 (dk_at dksX3_lay_0 14 rfl rfl)
theorem dX3_lay_15 : decode cX3_lay 15 = .ok (.iastore, 1) := dk_79 (dk_at dksX3_lay_0 15 rfl rfl)
theorem dX3_lay_16 : decode cX3_lay 16 = .ok (.iinc 3 1, 3) := dk_132 3 1 (dk_at dksX3_lay_0 16 rfl rfl)
theorem dX3_lay_19 : decode cX3_lay 19 = .ok (.goto (-17), 3) := dk_167 255 239 (dk_at dksX3_lay_0 19 rfl rfl)
theorem dX3_lay_22 : decode cX3_lay 22 = .ok (.return_, 1) := dk_177 (dk_at dksX3_lay_0 22 rfl rfl)
abbrev cX3_goDays : ByteArray := prog_9_method_40_code
def yX3_goDays : MethodName := ⟨RX3, "goDays", "([II)V"⟩
def dkwX3_goDays_0 : List UInt8 := [3, 62, 29, 28, 162, 0, 14, 42, 43, 182, 0, 237, 132, 3, 1, 167, 255, 243, 177]
abbrev dktX3_goDays_0 : List UInt8 := dkwX3_goDays_0 ++ []
theorem dksX3_goDays_0 : cX3_goDays.data.toList.drop 0 = dktX3_goDays_0 := by decide +kernel
theorem dX3_goDays_0 : decode cX3_goDays 0 = .ok (.iconst 0, 1) := dk_3 (dk_at dksX3_goDays_0 0 rfl rfl)
theorem dX3_goDays_1 : decode cX3_goDays 1 = .ok (.istore_n 3, 1) := dk_62 (dk_at dksX3_goDays_0 1 rfl rfl)
theorem dX3_goDays_2 : decode cX3_goDays 2 = .ok (.iload_n 3, 1) := dk_29 (dk_at dksX3_goDays_0 2 rfl rfl)
theorem dX3_goDays_3 : decode cX3_goDays 3 = .ok (.iload_n 2, 1) := dk_28 (dk_at dksX3_goDays_0 3 rfl rfl)
theorem dX3_goDays_4 : decode cX3_goDays 4 = .ok (.if_icmp .ge 14, 3) := dk_162 0 14 (dk_at dksX3_goDays_0 4 rfl rfl)
theorem dX3_goDays_7 : decode cX3_goDays 7 = .ok (.aload_n 0, 1) := dk_42 (dk_at dksX3_goDays_0 7 rfl rfl)
theorem dX3_goDays_8 : decode cX3_goDays 8 = .ok (.aload_n 1, 1) := dk_43 (dk_at dksX3_goDays_0 8 rfl rfl)
theorem dX3_goDays_9 : decode cX3_goDays 9 = .ok (.invokevirtual 237, 3) := dk_182 0 237 (dk_at dksX3_goDays_0 9 rfl rfl)
theorem dX3_goDays_12 : decode cX3_goDays 12 = .ok (.iinc 3 1, 3) := dk_132 3 1 (dk_at dksX3_goDays_0 12 rfl rfl)
theorem dX3_goDays_15 : decode cX3_goDays 15 = .ok (.goto (-13), 3) := dk_167 255 243 (dk_at dksX3_goDays_0 15 rfl rfl)
theorem dX3_goDays_18 : decode cX3_goDays 18 = .ok (.return_, 1) := dk_177 (dk_at dksX3_goDays_0 18 rfl rfl)
abbrev cX3_goDay : ByteArray := prog_9_method_39_code
def yX3_goDay : MethodName := ⟨RX3, "goDay", "([I)V"⟩
def dkwX3_goDay_11 : List UInt8 := [167, 255, 90, 43, 16, 30, 92, 46, 4, 96, 79, 177]
abbrev dktX3_goDay_11 : List UInt8 := dkwX3_goDay_11 ++ []
def dkwX3_goDay_10 : List UInt8 := [154, 0, 19, 43, 16, 32, 17, 3, 231, 43, 16, 32, 46, 4, 96, 184, 0, 211, 79, 132, 2, 1]
abbrev dktX3_goDay_10 : List UInt8 := dkwX3_goDay_10 ++ dktX3_goDay_11
def dkwX3_goDay_9 : List UInt8 := [28, 96, 16, 9, 43, 16, 12, 28, 96, 46, 4, 96, 184, 0, 211, 79, 29, 158, 0, 25, 43, 28, 46]
abbrev dktX3_goDay_9 : List UInt8 := dkwX3_goDay_9 ++ dktX3_goDay_10
def dkwX3_goDay_8 : List UInt8 := [180, 0, 13, 28, 46, 21, 4, 184, 0, 211, 79, 43, 16, 6, 28, 96, 46, 4, 160, 0, 22, 43, 16, 12]
abbrev dktX3_goDay_8 : List UInt8 := dkwX3_goDay_8 ++ dktX3_goDay_9
def dkwX3_goDay_7 : List UInt8 := [16, 31, 46, 3, 21, 4, 42, 180, 0, 13, 28, 46, 100, 184, 0, 217, 96, 184, 0, 211, 79, 43, 28, 42]
abbrev dktX3_goDay_7 : List UInt8 := dkwX3_goDay_7 ++ dktX3_goDay_8
def dkwX3_goDay_6 : List UInt8 := [184, 0, 211, 100, 54, 4, 21, 4, 42, 180, 0, 54, 28, 46, 96, 54, 4, 43, 16, 31, 17, 39, 15, 43]
abbrev dktX3_goDay_6 : List UInt8 := dkwX3_goDay_6 ++ dktX3_goDay_7
def dkwX3_goDay_5 : List UInt8 := [180, 0, 16, 28, 46, 28, 42, 180, 0, 57, 160, 0, 10, 42, 180, 0, 234, 167, 0, 4, 3, 96]
abbrev dktX3_goDay_5 : List UInt8 := dkwX3_goDay_5 ++ dktX3_goDay_6
def dkwX3_goDay_4 : List UInt8 := [162, 0, 164, 43, 28, 46, 62, 29, 42, 180, 0, 51, 28, 46, 100, 54, 4, 21, 4, 21, 4, 42]
abbrev dktX3_goDay_4 : List UInt8 := dkwX3_goDay_4 ++ dktX3_goDay_5
def dkwX3_goDay_3 : List UInt8 := [46, 42, 180, 0, 51, 28, 46, 96, 79, 132, 2, 1, 167, 255, 215, 3, 61, 28, 42, 180, 0, 101]
abbrev dktX3_goDay_3 : List UInt8 := dkwX3_goDay_3 ++ dktX3_goDay_4
def dkwX3_goDay_2 : List UInt8 := [162, 0, 39, 42, 180, 0, 19, 28, 46, 2, 159, 0, 23, 42, 180, 0, 54, 42, 180, 0, 19, 28, 46, 92]
abbrev dktX3_goDay_2 : List UInt8 := dkwX3_goDay_2 ++ dktX3_goDay_3
def dkwX3_goDay_1 : List UInt8 := [180, 0, 54, 28, 43, 16, 18, 28, 96, 46, 79, 132, 2, 1, 167, 255, 221, 3, 61, 28, 42, 180, 0, 101]
abbrev dktX3_goDay_1 : List UInt8 := dkwX3_goDay_1 ++ dktX3_goDay_2
def dkwX3_goDay_0 : List UInt8 := [3, 61, 28, 42, 180, 0, 101, 162, 0, 33, 42, 180, 0, 51, 28, 42, 43, 28, 182, 0, 223, 79, 42]
abbrev dktX3_goDay_0 : List UInt8 := dkwX3_goDay_0 ++ dktX3_goDay_1
theorem dksX3_goDay_0 : cX3_goDay.data.toList.drop 0 = dktX3_goDay_0 := by decide +kernel
theorem dksX3_goDay_1 : cX3_goDay.data.toList.drop 23 = dktX3_goDay_1 := dk_seg dksX3_goDay_0 23 rfl rfl
theorem dksX3_goDay_2 : cX3_goDay.data.toList.drop 47 = dktX3_goDay_2 := dk_seg dksX3_goDay_1 24 rfl rfl
theorem dksX3_goDay_3 : cX3_goDay.data.toList.drop 71 = dktX3_goDay_3 := dk_seg dksX3_goDay_2 24 rfl rfl
theorem dksX3_goDay_4 : cX3_goDay.data.toList.drop 93 = dktX3_goDay_4 := dk_seg dksX3_goDay_3 22 rfl rfl
theorem dksX3_goDay_5 : cX3_goDay.data.toList.drop 115 = dktX3_goDay_5 := dk_seg dksX3_goDay_4 22 rfl rfl
theorem dksX3_goDay_6 : cX3_goDay.data.toList.drop 137 = dktX3_goDay_6 := dk_seg dksX3_goDay_5 22 rfl rfl
theorem dksX3_goDay_7 : cX3_goDay.data.toList.drop 161 = dktX3_goDay_7 := dk_seg dksX3_goDay_6 24 rfl rfl
theorem dksX3_goDay_8 : cX3_goDay.data.toList.drop 185 = dktX3_goDay_8 := dk_seg dksX3_goDay_7 24 rfl rfl
theorem dksX3_goDay_9 : cX3_goDay.data.toList.drop 209 = dktX3_goDay_9 := dk_seg dksX3_goDay_8 24 rfl rfl
theorem dksX3_goDay_10 : cX3_goDay.data.toList.drop 232 = dktX3_goDay_10 := dk_seg dksX3_goDay_9 23 rfl rfl
theorem dksX3_goDay_11 : cX3_goDay.data.toList.drop 254 = dktX3_goDay_11 := dk_seg dksX3_goDay_10 22 rfl rfl
theorem dX3_goDay_0 : decode cX3_goDay 0 = .ok (.iconst 0, 1) := dk_3 (dk_at dksX3_goDay_0 0 rfl rfl)
theorem dX3_goDay_1 : decode cX3_goDay 1 = .ok (.istore_n 2, 1) := dk_61 (dk_at dksX3_goDay_0 1 rfl rfl)
theorem dX3_goDay_2 : decode cX3_goDay 2 = .ok (.iload_n 2, 1) := dk_28 (dk_at dksX3_goDay_0 2 rfl rfl)
theorem dX3_goDay_3 : decode cX3_goDay 3 = .ok (.aload_n 0, 1) := dk_42 (dk_at dksX3_goDay_0 3 rfl rfl)
theorem dX3_goDay_4 : decode cX3_goDay 4 = .ok (.getfield 101, 3) := dk_180 0 101 (dk_at dksX3_goDay_0 4 rfl rfl)
theorem dX3_goDay_7 : decode cX3_goDay 7 = .ok (.if_icmp .ge 33, 3) := dk_162 0 33 (dk_at dksX3_goDay_0 7 rfl rfl)
theorem dX3_goDay_10 : decode cX3_goDay 10 = .ok (.aload_n 0, 1) := dk_42 (dk_at dksX3_goDay_0 10 rfl rfl)
theorem dX3_goDay_11 : decode cX3_goDay 11 = .ok (.getfield 51, 3) := dk_180 0 51 (dk_at dksX3_goDay_0 11 rfl rfl)
theorem dX3_goDay_14 : decode cX3_goDay 14 = .ok (.iload_n 2, 1) := dk_28 (dk_at dksX3_goDay_0 14 rfl rfl)
theorem dX3_goDay_15 : decode cX3_goDay 15 = .ok (.aload_n 0, 1) := dk_42 (dk_at dksX3_goDay_0 15 rfl rfl)
theorem dX3_goDay_16 : decode cX3_goDay 16 = .ok (.aload_n 1, 1) := dk_43 (dk_at dksX3_goDay_0 16 rfl rfl)
theorem dX3_goDay_17 : decode cX3_goDay 17 = .ok (.iload_n 2, 1) := dk_28 (dk_at dksX3_goDay_0 17 rfl rfl)
theorem dX3_goDay_18 : decode cX3_goDay 18 = .ok (.invokevirtual 223, 3) := dk_182 0 223 (dk_at dksX3_goDay_0 18 rfl rfl)
theorem dX3_goDay_21 : decode cX3_goDay 21 = .ok (.iastore, 1) := dk_79 (dk_at dksX3_goDay_0 21 rfl rfl)
theorem dX3_goDay_22 : decode cX3_goDay 22 = .ok (.aload_n 0, 1) := dk_42 (dk_at dksX3_goDay_0 22 rfl rfl)
theorem dX3_goDay_23 : decode cX3_goDay 23 = .ok (.getfield 54, 3) := dk_180 0 54 (dk_at dksX3_goDay_1 0 rfl rfl)
theorem dX3_goDay_26 : decode cX3_goDay 26 = .ok (.iload_n 2, 1) := dk_28 (dk_at dksX3_goDay_1 3 rfl rfl)
theorem dX3_goDay_27 : decode cX3_goDay 27 = .ok (.aload_n 1, 1) := dk_43 (dk_at dksX3_goDay_1 4 rfl rfl)
theorem dX3_goDay_28 : decode cX3_goDay 28 = .ok (.bipush 18, 2) := dk_16 18 (dk_at dksX3_goDay_1 5 rfl rfl)
theorem dX3_goDay_30 : decode cX3_goDay 30 = .ok (.iload_n 2, 1) := dk_28 (dk_at dksX3_goDay_1 7 rfl rfl)
theorem dX3_goDay_31 : decode cX3_goDay 31 = .ok (.iadd, 1) := dk_96 (dk_at dksX3_goDay_1 8 rfl rfl)
theorem dX3_goDay_32 : decode cX3_goDay 32 = .ok (.iaload, 1) := dk_46 (dk_at dksX3_goDay_1 9 rfl rfl)
theorem dX3_goDay_33 : decode cX3_goDay 33 = .ok (.iastore, 1) := dk_79 (dk_at dksX3_goDay_1 10 rfl rfl)
theorem dX3_goDay_34 : decode cX3_goDay 34 = .ok (.iinc 2 1, 3) := dk_132 2 1 (dk_at dksX3_goDay_1 11 rfl rfl)
theorem dX3_goDay_37 : decode cX3_goDay 37 = .ok (.goto (-35), 3) := dk_167 255 221 (dk_at dksX3_goDay_1 14 rfl rfl)
theorem dX3_goDay_40 : decode cX3_goDay 40 = .ok (.iconst 0, 1) := dk_3 (dk_at dksX3_goDay_1 17 rfl rfl)
theorem dX3_goDay_41 : decode cX3_goDay 41 = .ok (.istore_n 2, 1) := dk_61 (dk_at dksX3_goDay_1 18 rfl rfl)
theorem dX3_goDay_42 : decode cX3_goDay 42 = .ok (.iload_n 2, 1) := dk_28 (dk_at dksX3_goDay_1 19 rfl rfl)
theorem dX3_goDay_43 : decode cX3_goDay 43 = .ok (.aload_n 0, 1) := dk_42 (dk_at dksX3_goDay_1 20 rfl rfl)
theorem dX3_goDay_44 : decode cX3_goDay 44 = .ok (.getfield 101, 3) := dk_180 0 101 (dk_at dksX3_goDay_1 21 rfl rfl)
theorem dX3_goDay_47 : decode cX3_goDay 47 = .ok (.if_icmp .ge 39, 3) := dk_162 0 39 (dk_at dksX3_goDay_2 0 rfl rfl)
theorem dX3_goDay_50 : decode cX3_goDay 50 = .ok (.aload_n 0, 1) := dk_42 (dk_at dksX3_goDay_2 3 rfl rfl)
theorem dX3_goDay_51 : decode cX3_goDay 51 = .ok (.getfield 19, 3) := dk_180 0 19 (dk_at dksX3_goDay_2 4 rfl rfl)
theorem dX3_goDay_54 : decode cX3_goDay 54 = .ok (.iload_n 2, 1) := dk_28 (dk_at dksX3_goDay_2 7 rfl rfl)
theorem dX3_goDay_55 : decode cX3_goDay 55 = .ok (.iaload, 1) := dk_46 (dk_at dksX3_goDay_2 8 rfl rfl)
theorem dX3_goDay_56 : decode cX3_goDay 56 = .ok (.iconst (-1), 1) := dk_2 (dk_at dksX3_goDay_2 9 rfl rfl)
theorem dX3_goDay_57 : decode cX3_goDay 57 = .ok (.if_icmp .eq 23, 3) := dk_159 0 23 (dk_at dksX3_goDay_2 10 rfl rfl)
theorem dX3_goDay_60 : decode cX3_goDay 60 = .ok (.aload_n 0, 1) := dk_42 (dk_at dksX3_goDay_2 13 rfl rfl)
theorem dX3_goDay_61 : decode cX3_goDay 61 = .ok (.getfield 54, 3) := dk_180 0 54 (dk_at dksX3_goDay_2 14 rfl rfl)
theorem dX3_goDay_64 : decode cX3_goDay 64 = .ok (.aload_n 0, 1) := dk_42 (dk_at dksX3_goDay_2 17 rfl rfl)
theorem dX3_goDay_65 : decode cX3_goDay 65 = .ok (.getfield 19, 3) := dk_180 0 19 (dk_at dksX3_goDay_2 18 rfl rfl)
theorem dX3_goDay_68 : decode cX3_goDay 68 = .ok (.iload_n 2, 1) := dk_28 (dk_at dksX3_goDay_2 21 rfl rfl)
theorem dX3_goDay_69 : decode cX3_goDay 69 = .ok (.iaload, 1) := dk_46 (dk_at dksX3_goDay_2 22 rfl rfl)
theorem dX3_goDay_70 : decode cX3_goDay 70 = .ok (.dup2, 1) := dk_92 (dk_at dksX3_goDay_2 23 rfl rfl)
theorem dX3_goDay_71 : decode cX3_goDay 71 = .ok (.iaload, 1) := dk_46 (dk_at dksX3_goDay_3 0 rfl rfl)
theorem dX3_goDay_72 : decode cX3_goDay 72 = .ok (.aload_n 0, 1) := dk_42 (dk_at dksX3_goDay_3 1 rfl rfl)
theorem dX3_goDay_73 : decode cX3_goDay 73 = .ok (.getfield 51, 3) := dk_180 0 51 (dk_at dksX3_goDay_3 2 rfl rfl)
theorem dX3_goDay_76 : decode cX3_goDay 76 = .ok (.iload_n 2, 1) := dk_28 (dk_at dksX3_goDay_3 5 rfl rfl)
theorem dX3_goDay_77 : decode cX3_goDay 77 = .ok (.iaload, 1) := dk_46 (dk_at dksX3_goDay_3 6 rfl rfl)
theorem dX3_goDay_78 : decode cX3_goDay 78 = .ok (.iadd, 1) := dk_96 (dk_at dksX3_goDay_3 7 rfl rfl)
theorem dX3_goDay_79 : decode cX3_goDay 79 = .ok (.iastore, 1) := dk_79 (dk_at dksX3_goDay_3 8 rfl rfl)
theorem dX3_goDay_80 : decode cX3_goDay 80 = .ok (.iinc 2 1, 3) := dk_132 2 1 (dk_at dksX3_goDay_3 9 rfl rfl)
theorem dX3_goDay_83 : decode cX3_goDay 83 = .ok (.goto (-41), 3) := dk_167 255 215 (dk_at dksX3_goDay_3 12 rfl rfl)
theorem dX3_goDay_86 : decode cX3_goDay 86 = .ok (.iconst 0, 1) := dk_3 (dk_at dksX3_goDay_3 15 rfl rfl)
theorem dX3_goDay_87 : decode cX3_goDay 87 = .ok (.istore_n 2, 1) := dk_61 (dk_at dksX3_goDay_3 16 rfl rfl)
theorem dX3_goDay_88 : decode cX3_goDay 88 = .ok (.iload_n 2, 1) := dk_28 (dk_at dksX3_goDay_3 17 rfl rfl)
theorem dX3_goDay_89 : decode cX3_goDay 89 = .ok (.aload_n 0, 1) := dk_42 (dk_at dksX3_goDay_3 18 rfl rfl)
theorem dX3_goDay_90 : decode cX3_goDay 90 = .ok (.getfield 101, 3) := dk_180 0 101 (dk_at dksX3_goDay_3 19 rfl rfl)
theorem dX3_goDay_93 : decode cX3_goDay 93 = .ok (.if_icmp .ge 164, 3) := dk_162 0 164 (dk_at dksX3_goDay_4 0 rfl rfl)
theorem dX3_goDay_96 : decode cX3_goDay 96 = .ok (.aload_n 1, 1) := dk_43 (dk_at dksX3_goDay_4 3 rfl rfl)
theorem dX3_goDay_97 : decode cX3_goDay 97 = .ok (.iload_n 2, 1) := dk_28 (dk_at dksX3_goDay_4 4 rfl rfl)
theorem dX3_goDay_98 : decode cX3_goDay 98 = .ok (.iaload, 1) := dk_46 (dk_at dksX3_goDay_4 5 rfl rfl)
theorem dX3_goDay_99 : decode cX3_goDay 99 = .ok (.istore_n 3, 1) := dk_62 (dk_at dksX3_goDay_4 6 rfl rfl)
theorem dX3_goDay_100 : decode cX3_goDay 100 = .ok (.iload_n 3, 1) := dk_29 (dk_at dksX3_goDay_4 7 rfl rfl)
theorem dX3_goDay_101 : decode cX3_goDay 101 = .ok (.aload_n 0, 1) := dk_42 (dk_at dksX3_goDay_4 8 rfl rfl)
theorem dX3_goDay_102 : decode cX3_goDay 102 = .ok (.getfield 51, 3) := dk_180 0 51 (dk_at dksX3_goDay_4 9 rfl rfl)
theorem dX3_goDay_105 : decode cX3_goDay 105 = .ok (.iload_n 2, 1) := dk_28 (dk_at dksX3_goDay_4 12 rfl rfl)
theorem dX3_goDay_106 : decode cX3_goDay 106 = .ok (.iaload, 1) := dk_46 (dk_at dksX3_goDay_4 13 rfl rfl)
theorem dX3_goDay_107 : decode cX3_goDay 107 = .ok (.isub, 1) := dk_100 (dk_at dksX3_goDay_4 14 rfl rfl)
theorem dX3_goDay_108 : decode cX3_goDay 108 = .ok (.istore 4, 2) := dk_54 4 (dk_at dksX3_goDay_4 15 rfl rfl)
theorem dX3_goDay_110 : decode cX3_goDay 110 = .ok (.iload 4, 2) := dk_21 4 (dk_at dksX3_goDay_4 17 rfl rfl)
theorem dX3_goDay_112 : decode cX3_goDay 112 = .ok (.iload 4, 2) := dk_21 4 (dk_at dksX3_goDay_4 19 rfl rfl)
theorem dX3_goDay_114 : decode cX3_goDay 114 = .ok (.aload_n 0, 1) := dk_42 (dk_at dksX3_goDay_4 21 rfl rfl)
theorem dX3_goDay_115 : decode cX3_goDay 115 = .ok (.getfield 16, 3) := dk_180 0 16 (dk_at dksX3_goDay_5 0 rfl rfl)
theorem dX3_goDay_118 : decode cX3_goDay 118 = .ok (.iload_n 2, 1) := dk_28 (dk_at dksX3_goDay_5 3 rfl rfl)
theorem dX3_goDay_119 : decode cX3_goDay 119 = .ok (.iaload, 1) := dk_46 (dk_at dksX3_goDay_5 4 rfl rfl)
theorem dX3_goDay_120 : decode cX3_goDay 120 = .ok (.iload_n 2, 1) := dk_28 (dk_at dksX3_goDay_5 5 rfl rfl)
theorem dX3_goDay_121 : decode cX3_goDay 121 = .ok (.aload_n 0, 1) := dk_42 (dk_at dksX3_goDay_5 6 rfl rfl)
theorem dX3_goDay_122 : decode cX3_goDay 122 = .ok (.getfield 57, 3) := dk_180 0 57 (dk_at dksX3_goDay_5 7 rfl rfl)
theorem dX3_goDay_125 : decode cX3_goDay 125 = .ok (.if_icmp .ne 10, 3) := dk_160 0 10 (dk_at dksX3_goDay_5 10 rfl rfl)
theorem dX3_goDay_128 : decode cX3_goDay 128 = .ok (.aload_n 0, 1) := dk_42 (dk_at dksX3_goDay_5 13 rfl rfl)
theorem dX3_goDay_129 : decode cX3_goDay 129 = .ok (.getfield 234, 3) := dk_180 0 234 (dk_at dksX3_goDay_5 14 rfl rfl)
theorem dX3_goDay_132 : decode cX3_goDay 132 = .ok (.goto 4, 3) := dk_167 0 4 (dk_at dksX3_goDay_5 17 rfl rfl)
theorem dX3_goDay_135 : decode cX3_goDay 135 = .ok (.iconst 0, 1) := dk_3 (dk_at dksX3_goDay_5 20 rfl rfl)
theorem dX3_goDay_136 : decode cX3_goDay 136 = .ok (.iadd, 1) := dk_96 (dk_at dksX3_goDay_5 21 rfl rfl)
theorem dX3_goDay_137 : decode cX3_goDay 137 = .ok (.invokestatic 211, 3) := dk_184 0 211 (dk_at dksX3_goDay_6 0 rfl rfl)
theorem dX3_goDay_140 : decode cX3_goDay 140 = .ok (.isub, 1) := dk_100 (dk_at dksX3_goDay_6 3 rfl rfl)
theorem dX3_goDay_141 : decode cX3_goDay 141 = .ok (.istore 4, 2) := dk_54 4 (dk_at dksX3_goDay_6 4 rfl rfl)
theorem dX3_goDay_143 : decode cX3_goDay 143 = .ok (.iload 4, 2) := dk_21 4 (dk_at dksX3_goDay_6 6 rfl rfl)
theorem dX3_goDay_145 : decode cX3_goDay 145 = .ok (.aload_n 0, 1) := dk_42 (dk_at dksX3_goDay_6 8 rfl rfl)
theorem dX3_goDay_146 : decode cX3_goDay 146 = .ok (.getfield 54, 3) := dk_180 0 54 (dk_at dksX3_goDay_6 9 rfl rfl)
theorem dX3_goDay_149 : decode cX3_goDay 149 = .ok (.iload_n 2, 1) := dk_28 (dk_at dksX3_goDay_6 12 rfl rfl)
theorem dX3_goDay_150 : decode cX3_goDay 150 = .ok (.iaload, 1) := dk_46 (dk_at dksX3_goDay_6 13 rfl rfl)
theorem dX3_goDay_151 : decode cX3_goDay 151 = .ok (.iadd, 1) := dk_96 (dk_at dksX3_goDay_6 14 rfl rfl)
theorem dX3_goDay_152 : decode cX3_goDay 152 = .ok (.istore 4, 2) := dk_54 4 (dk_at dksX3_goDay_6 15 rfl rfl)
theorem dX3_goDay_154 : decode cX3_goDay 154 = .ok (.aload_n 1, 1) := dk_43 (dk_at dksX3_goDay_6 17 rfl rfl)
theorem dX3_goDay_155 : decode cX3_goDay 155 = .ok (.bipush 31, 2) := dk_16 31 (dk_at dksX3_goDay_6 18 rfl rfl)
theorem dX3_goDay_157 : decode cX3_goDay 157 = .ok (.sipush 9999, 3) := dk_17 39 15 (dk_at dksX3_goDay_6 20 rfl rfl)
theorem dX3_goDay_160 : decode cX3_goDay 160 = .ok (.aload_n 1, 1) := dk_43 (dk_at dksX3_goDay_6 23 rfl rfl)
theorem dX3_goDay_161 : decode cX3_goDay 161 = .ok (.bipush 31, 2) := dk_16 31 (dk_at dksX3_goDay_7 0 rfl rfl)
theorem dX3_goDay_163 : decode cX3_goDay 163 = .ok (.iaload, 1) := dk_46 (dk_at dksX3_goDay_7 2 rfl rfl)
theorem dX3_goDay_164 : decode cX3_goDay 164 = .ok (.iconst 0, 1) := dk_3 (dk_at dksX3_goDay_7 3 rfl rfl)
theorem dX3_goDay_165 : decode cX3_goDay 165 = .ok (.iload 4, 2) := dk_21 4 (dk_at dksX3_goDay_7 4 rfl rfl)
theorem dX3_goDay_167 : decode cX3_goDay 167 = .ok (.aload_n 0, 1) := dk_42 (dk_at dksX3_goDay_7 6 rfl rfl)
theorem dX3_goDay_168 : decode cX3_goDay 168 = .ok (.getfield 13, 3) := dk_180 0 13 (dk_at dksX3_goDay_7 7 rfl rfl)
theorem dX3_goDay_171 : decode cX3_goDay 171 = .ok (.iload_n 2, 1) := dk_28 (dk_at dksX3_goDay_7 10 rfl rfl)
theorem dX3_goDay_172 : decode cX3_goDay 172 = .ok (.iaload, 1) := dk_46 (dk_at dksX3_goDay_7 11 rfl rfl)
theorem dX3_goDay_173 : decode cX3_goDay 173 = .ok (.isub, 1) := dk_100 (dk_at dksX3_goDay_7 12 rfl rfl)
theorem dX3_goDay_174 : decode cX3_goDay 174 = .ok (.invokestatic 217, 3) := dk_184 0 217 (dk_at dksX3_goDay_7 13 rfl rfl)
theorem dX3_goDay_177 : decode cX3_goDay 177 = .ok (.iadd, 1) := dk_96 (dk_at dksX3_goDay_7 16 rfl rfl)
theorem dX3_goDay_178 : decode cX3_goDay 178 = .ok (.invokestatic 211, 3) := dk_184 0 211 (dk_at dksX3_goDay_7 17 rfl rfl)
theorem dX3_goDay_181 : decode cX3_goDay 181 = .ok (.iastore, 1) := dk_79 (dk_at dksX3_goDay_7 20 rfl rfl)
theorem dX3_goDay_182 : decode cX3_goDay 182 = .ok (.aload_n 1, 1) := dk_43 (dk_at dksX3_goDay_7 21 rfl rfl)
theorem dX3_goDay_183 : decode cX3_goDay 183 = .ok (.iload_n 2, 1) := dk_28 (dk_at dksX3_goDay_7 22 rfl rfl)
theorem dX3_goDay_184 : decode cX3_goDay 184 = .ok (.aload_n 0, 1) := dk_42 (dk_at dksX3_goDay_7 23 rfl rfl)
theorem dX3_goDay_185 : decode cX3_goDay 185 = .ok (.getfield 13, 3) := dk_180 0 13 (dk_at dksX3_goDay_8 0 rfl rfl)
theorem dX3_goDay_188 : decode cX3_goDay 188 = .ok (.iload_n 2, 1) := dk_28 (dk_at dksX3_goDay_8 3 rfl rfl)
theorem dX3_goDay_189 : decode cX3_goDay 189 = .ok (.iaload, 1) := dk_46 (dk_at dksX3_goDay_8 4 rfl rfl)
theorem dX3_goDay_190 : decode cX3_goDay 190 = .ok (.iload 4, 2) := dk_21 4 (dk_at dksX3_goDay_8 5 rfl rfl)
theorem dX3_goDay_192 : decode cX3_goDay 192 = .ok (.invokestatic 211, 3) := dk_184 0 211 (dk_at dksX3_goDay_8 7 rfl rfl)
theorem dX3_goDay_195 : decode cX3_goDay 195 = .ok (.iastore, 1) := dk_79 (dk_at dksX3_goDay_8 10 rfl rfl)
theorem dX3_goDay_196 : decode cX3_goDay 196 = .ok (.aload_n 1, 1) := dk_43 (dk_at dksX3_goDay_8 11 rfl rfl)
theorem dX3_goDay_197 : decode cX3_goDay 197 = .ok (.bipush 6, 2) := dk_16 6 (dk_at dksX3_goDay_8 12 rfl rfl)
theorem dX3_goDay_199 : decode cX3_goDay 199 = .ok (.iload_n 2, 1) := dk_28 (dk_at dksX3_goDay_8 14 rfl rfl)
theorem dX3_goDay_200 : decode cX3_goDay 200 = .ok (.iadd, 1) := dk_96 (dk_at dksX3_goDay_8 15 rfl rfl)
theorem dX3_goDay_201 : decode cX3_goDay 201 = .ok (.iaload, 1) := dk_46 (dk_at dksX3_goDay_8 16 rfl rfl)
theorem dX3_goDay_202 : decode cX3_goDay 202 = .ok (.iconst 1, 1) := dk_4 (dk_at dksX3_goDay_8 17 rfl rfl)
theorem dX3_goDay_203 : decode cX3_goDay 203 = .ok (.if_icmp .ne 22, 3) := dk_160 0 22 (dk_at dksX3_goDay_8 18 rfl rfl)
theorem dX3_goDay_206 : decode cX3_goDay 206 = .ok (.aload_n 1, 1) := dk_43 (dk_at dksX3_goDay_8 21 rfl rfl)
theorem dX3_goDay_207 : decode cX3_goDay 207 = .ok (.bipush 12, 2) := dk_16 12 (dk_at dksX3_goDay_8 22 rfl rfl)
theorem dX3_goDay_209 : decode cX3_goDay 209 = .ok (.iload_n 2, 1) := dk_28 (dk_at dksX3_goDay_9 0 rfl rfl)
theorem dX3_goDay_210 : decode cX3_goDay 210 = .ok (.iadd, 1) := dk_96 (dk_at dksX3_goDay_9 1 rfl rfl)
theorem dX3_goDay_211 : decode cX3_goDay 211 = .ok (.bipush 9, 2) := dk_16 9 (dk_at dksX3_goDay_9 2 rfl rfl)
theorem dX3_goDay_213 : decode cX3_goDay 213 = .ok (.aload_n 1, 1) := dk_43 (dk_at dksX3_goDay_9 4 rfl rfl)
theorem dX3_goDay_214 : decode cX3_goDay 214 = .ok (.bipush 12, 2) := dk_16 12 (dk_at dksX3_goDay_9 5 rfl rfl)
theorem dX3_goDay_216 : decode cX3_goDay 216 = .ok (.iload_n 2, 1) := dk_28 (dk_at dksX3_goDay_9 7 rfl rfl)
theorem dX3_goDay_217 : decode cX3_goDay 217 = .ok (.iadd, 1) := dk_96 (dk_at dksX3_goDay_9 8 rfl rfl)
theorem dX3_goDay_218 : decode cX3_goDay 218 = .ok (.iaload, 1) := dk_46 (dk_at dksX3_goDay_9 9 rfl rfl)
theorem dX3_goDay_219 : decode cX3_goDay 219 = .ok (.iconst 1, 1) := dk_4 (dk_at dksX3_goDay_9 10 rfl rfl)
theorem dX3_goDay_220 : decode cX3_goDay 220 = .ok (.iadd, 1) := dk_96 (dk_at dksX3_goDay_9 11 rfl rfl)
theorem dX3_goDay_221 : decode cX3_goDay 221 = .ok (.invokestatic 211, 3) := dk_184 0 211 (dk_at dksX3_goDay_9 12 rfl rfl)
theorem dX3_goDay_224 : decode cX3_goDay 224 = .ok (.iastore, 1) := dk_79 (dk_at dksX3_goDay_9 15 rfl rfl)
theorem dX3_goDay_225 : decode cX3_goDay 225 = .ok (.iload_n 3, 1) := dk_29 (dk_at dksX3_goDay_9 16 rfl rfl)
theorem dX3_goDay_226 : decode cX3_goDay 226 = .ok (.ifCond .le 25, 3) := dk_158 0 25 (dk_at dksX3_goDay_9 17 rfl rfl)
theorem dX3_goDay_229 : decode cX3_goDay 229 = .ok (.aload_n 1, 1) := dk_43 (dk_at dksX3_goDay_9 20 rfl rfl)
theorem dX3_goDay_230 : decode cX3_goDay 230 = .ok (.iload_n 2, 1) := dk_28 (dk_at dksX3_goDay_9 21 rfl rfl)
theorem dX3_goDay_231 : decode cX3_goDay 231 = .ok (.iaload, 1) := dk_46 (dk_at dksX3_goDay_9 22 rfl rfl)
theorem dX3_goDay_232 : decode cX3_goDay 232 = .ok (.ifCond .ne 19, 3) := dk_154 0 19 (dk_at dksX3_goDay_10 0 rfl rfl)
theorem dX3_goDay_235 : decode cX3_goDay 235 = .ok (.aload_n 1, 1) := dk_43 (dk_at dksX3_goDay_10 3 rfl rfl)
theorem dX3_goDay_236 : decode cX3_goDay 236 = .ok (.bipush 32, 2) := dk_16 32 (dk_at dksX3_goDay_10 4 rfl rfl)
theorem dX3_goDay_238 : decode cX3_goDay 238 = .ok (.sipush 999, 3) := dk_17 3 231 (dk_at dksX3_goDay_10 6 rfl rfl)
theorem dX3_goDay_241 : decode cX3_goDay 241 = .ok (.aload_n 1, 1) := dk_43 (dk_at dksX3_goDay_10 9 rfl rfl)
theorem dX3_goDay_242 : decode cX3_goDay 242 = .ok (.bipush 32, 2) := dk_16 32 (dk_at dksX3_goDay_10 10 rfl rfl)
theorem dX3_goDay_244 : decode cX3_goDay 244 = .ok (.iaload, 1) := dk_46 (dk_at dksX3_goDay_10 12 rfl rfl)
theorem dX3_goDay_245 : decode cX3_goDay 245 = .ok (.iconst 1, 1) := dk_4 (dk_at dksX3_goDay_10 13 rfl rfl)
theorem dX3_goDay_246 : decode cX3_goDay 246 = .ok (.iadd, 1) := dk_96 (dk_at dksX3_goDay_10 14 rfl rfl)
theorem dX3_goDay_247 : decode cX3_goDay 247 = .ok (.invokestatic 211, 3) := dk_184 0 211 (dk_at dksX3_goDay_10 15 rfl rfl)
theorem dX3_goDay_250 : decode cX3_goDay 250 = .ok (.iastore, 1) := dk_79 (dk_at dksX3_goDay_10 18 rfl rfl)
theorem dX3_goDay_251 : decode cX3_goDay 251 = .ok (.iinc 2 1, 3) := dk_132 2 1 (dk_at dksX3_goDay_10 19 rfl rfl)
theorem dX3_goDay_254 : decode cX3_goDay 254 = .ok (.goto (-166), 3) := dk_167 255 90 (dk_at dksX3_goDay_11 0 rfl rfl)
theorem dX3_goDay_257 : decode cX3_goDay 257 = .ok (.aload_n 1, 1) := dk_43 (dk_at dksX3_goDay_11 3 rfl rfl)
theorem dX3_goDay_258 : decode cX3_goDay 258 = .ok (.bipush 30, 2) := dk_16 30 (dk_at dksX3_goDay_11 4 rfl rfl)
theorem dX3_goDay_260 : decode cX3_goDay 260 = .ok (.dup2, 1) := dk_92 (dk_at dksX3_goDay_11 6 rfl rfl)
theorem dX3_goDay_261 : decode cX3_goDay 261 = .ok (.iaload, 1) := dk_46 (dk_at dksX3_goDay_11 7 rfl rfl)
theorem dX3_goDay_262 : decode cX3_goDay 262 = .ok (.iconst 1, 1) := dk_4 (dk_at dksX3_goDay_11 8 rfl rfl)
theorem dX3_goDay_263 : decode cX3_goDay 263 = .ok (.iadd, 1) := dk_96 (dk_at dksX3_goDay_11 9 rfl rfl)
theorem dX3_goDay_264 : decode cX3_goDay 264 = .ok (.iastore, 1) := dk_79 (dk_at dksX3_goDay_11 10 rfl rfl)
theorem dX3_goDay_265 : decode cX3_goDay 265 = .ok (.return_, 1) := dk_177 (dk_at dksX3_goDay_11 11 rfl rfl)
abbrev cX3_tell : ByteArray := prog_9_method_6_code
def yX3_tell : MethodName := ⟨RX3, "tell", "(J)V"⟩
def dkwX3_tell_0 : List UInt8 := [42, 180, 0, 26, 42, 180, 0, 98, 31, 80, 42, 89, 180, 0, 98, 4, 96, 181, 0, 98, 177]
abbrev dktX3_tell_0 : List UInt8 := dkwX3_tell_0 ++ []
theorem dksX3_tell_0 : cX3_tell.data.toList.drop 0 = dktX3_tell_0 := by decide +kernel
theorem dX3_tell_0 : decode cX3_tell 0 = .ok (.aload_n 0, 1) := dk_42 (dk_at dksX3_tell_0 0 rfl rfl)
theorem dX3_tell_1 : decode cX3_tell 1 = .ok (.getfield 26, 3) := dk_180 0 26 (dk_at dksX3_tell_0 1 rfl rfl)
theorem dX3_tell_4 : decode cX3_tell 4 = .ok (.aload_n 0, 1) := dk_42 (dk_at dksX3_tell_0 4 rfl rfl)
theorem dX3_tell_5 : decode cX3_tell 5 = .ok (.getfield 98, 3) := dk_180 0 98 (dk_at dksX3_tell_0 5 rfl rfl)
theorem dX3_tell_8 : decode cX3_tell 8 = .ok (.lload_n 1, 1) := dk_31 (dk_at dksX3_tell_0 8 rfl rfl)
theorem dX3_tell_9 : decode cX3_tell 9 = .ok (.lastore, 1) := dk_80 (dk_at dksX3_tell_0 9 rfl rfl)
theorem dX3_tell_10 : decode cX3_tell 10 = .ok (.aload_n 0, 1) := dk_42 (dk_at dksX3_tell_0 10 rfl rfl)
theorem dX3_tell_11 : decode cX3_tell 11 = .ok (.dup, 1) := dk_89 (dk_at dksX3_tell_0 11 rfl rfl)
theorem dX3_tell_12 : decode cX3_tell 12 = .ok (.getfield 98, 3) := dk_180 0 98 (dk_at dksX3_tell_0 12 rfl rfl)
theorem dX3_tell_15 : decode cX3_tell 15 = .ok (.iconst 1, 1) := dk_4 (dk_at dksX3_tell_0 15 rfl rfl)
theorem dX3_tell_16 : decode cX3_tell 16 = .ok (.iadd, 1) := dk_96 (dk_at dksX3_tell_0 16 rfl rfl)
theorem dX3_tell_17 : decode cX3_tell 17 = .ok (.putfield 98, 3) := dk_181 0 98 (dk_at dksX3_tell_0 17 rfl rfl)
theorem dX3_tell_20 : decode cX3_tell 20 = .ok (.return_, 1) := dk_177 (dk_at dksX3_tell_0 20 rfl rfl)
abbrev cX3_pulls : ByteArray := prog_9_method_44_code
def yX3_pulls : MethodName := ⟨RX3, "pulls", "(I)I"⟩
def dkwX3_pulls_0 : List UInt8 := [42, 27, 4, 182, 0, 255, 172]
abbrev dktX3_pulls_0 : List UInt8 := dkwX3_pulls_0 ++ []
theorem dksX3_pulls_0 : cX3_pulls.data.toList.drop 0 = dktX3_pulls_0 := by decide +kernel
theorem dX3_pulls_0 : decode cX3_pulls 0 = .ok (.aload_n 0, 1) := dk_42 (dk_at dksX3_pulls_0 0 rfl rfl)
theorem dX3_pulls_1 : decode cX3_pulls 1 = .ok (.iload_n 1, 1) := dk_27 (dk_at dksX3_pulls_0 1 rfl rfl)
theorem dX3_pulls_2 : decode cX3_pulls 2 = .ok (.iconst 1, 1) := dk_4 (dk_at dksX3_pulls_0 2 rfl rfl)
theorem dX3_pulls_3 : decode cX3_pulls 3 = .ok (.invokevirtual 255, 3) := dk_182 0 255 (dk_at dksX3_pulls_0 3 rfl rfl)
theorem dX3_pulls_6 : decode cX3_pulls 6 = .ok (.ireturn, 1) := dk_172 (dk_at dksX3_pulls_0 6 rfl rfl)
abbrev cX3_touches : ByteArray := prog_9_method_43_code
def yX3_touches : MethodName := ⟨RX3, "touches", "(II)I"⟩
def dkwX3_touches_2 : List UInt8 := [172]
abbrev dktX3_touches_2 : List UInt8 := dkwX3_touches_2 ++ []
def dkwX3_touches_1 : List UInt8 := [182, 0, 241, 42, 180, 0, 9, 16, 6, 27, 96, 28, 79, 42, 42, 180, 0, 9, 182, 0, 202, 184, 0, 206]
abbrev dktX3_touches_1 : List UInt8 := dkwX3_touches_1 ++ dktX3_touches_2
def dkwX3_touches_0 : List UInt8 := [42, 3, 181, 0, 95, 42, 27, 28, 182, 0, 252, 62, 29, 156, 0, 5, 29, 172, 42, 42, 180, 0, 9]
abbrev dktX3_touches_0 : List UInt8 := dkwX3_touches_0 ++ dktX3_touches_1
theorem dksX3_touches_0 : cX3_touches.data.toList.drop 0 = dktX3_touches_0 := by decide +kernel
theorem dksX3_touches_1 : cX3_touches.data.toList.drop 23 = dktX3_touches_1 := dk_seg dksX3_touches_0 23 rfl rfl
theorem dksX3_touches_2 : cX3_touches.data.toList.drop 47 = dktX3_touches_2 := dk_seg dksX3_touches_1 24 rfl rfl
theorem dX3_touches_0 : decode cX3_touches 0 = .ok (.aload_n 0, 1) := dk_42 (dk_at dksX3_touches_0 0 rfl rfl)
theorem dX3_touches_1 : decode cX3_touches 1 = .ok (.iconst 0, 1) := dk_3 (dk_at dksX3_touches_0 1 rfl rfl)
theorem dX3_touches_2 : decode cX3_touches 2 = .ok (.putfield 95, 3) := dk_181 0 95 (dk_at dksX3_touches_0 2 rfl rfl)
theorem dX3_touches_5 : decode cX3_touches 5 = .ok (.aload_n 0, 1) := dk_42 (dk_at dksX3_touches_0 5 rfl rfl)
theorem dX3_touches_6 : decode cX3_touches 6 = .ok (.iload_n 1, 1) := dk_27 (dk_at dksX3_touches_0 6 rfl rfl)
theorem dX3_touches_7 : decode cX3_touches 7 = .ok (.iload_n 2, 1) := dk_28 (dk_at dksX3_touches_0 7 rfl rfl)
theorem dX3_touches_8 : decode cX3_touches 8 = .ok (.invokevirtual 252, 3) := dk_182 0 252 (dk_at dksX3_touches_0 8 rfl rfl)
theorem dX3_touches_11 : decode cX3_touches 11 = .ok (.istore_n 3, 1) := dk_62 (dk_at dksX3_touches_0 11 rfl rfl)
theorem dX3_touches_12 : decode cX3_touches 12 = .ok (.iload_n 3, 1) := dk_29 (dk_at dksX3_touches_0 12 rfl rfl)
theorem dX3_touches_13 : decode cX3_touches 13 = .ok (.ifCond .ge 5, 3) := dk_156 0 5 (dk_at dksX3_touches_0 13 rfl rfl)
theorem dX3_touches_16 : decode cX3_touches 16 = .ok (.iload_n 3, 1) := dk_29 (dk_at dksX3_touches_0 16 rfl rfl)
theorem dX3_touches_17 : decode cX3_touches 17 = .ok (.ireturn, 1) := dk_172 (dk_at dksX3_touches_0 17 rfl rfl)
theorem dX3_touches_18 : decode cX3_touches 18 = .ok (.aload_n 0, 1) := dk_42 (dk_at dksX3_touches_0 18 rfl rfl)
theorem dX3_touches_19 : decode cX3_touches 19 = .ok (.aload_n 0, 1) := dk_42 (dk_at dksX3_touches_0 19 rfl rfl)
theorem dX3_touches_20 : decode cX3_touches 20 = .ok (.getfield 9, 3) := dk_180 0 9 (dk_at dksX3_touches_0 20 rfl rfl)
theorem dX3_touches_23 : decode cX3_touches 23 = .ok (.invokevirtual 241, 3) := dk_182 0 241 (dk_at dksX3_touches_1 0 rfl rfl)
theorem dX3_touches_26 : decode cX3_touches 26 = .ok (.aload_n 0, 1) := dk_42 (dk_at dksX3_touches_1 3 rfl rfl)
theorem dX3_touches_27 : decode cX3_touches 27 = .ok (.getfield 9, 3) := dk_180 0 9 (dk_at dksX3_touches_1 4 rfl rfl)
theorem dX3_touches_30 : decode cX3_touches 30 = .ok (.bipush 6, 2) := dk_16 6 (dk_at dksX3_touches_1 7 rfl rfl)
theorem dX3_touches_32 : decode cX3_touches 32 = .ok (.iload_n 1, 1) := dk_27 (dk_at dksX3_touches_1 9 rfl rfl)
theorem dX3_touches_33 : decode cX3_touches 33 = .ok (.iadd, 1) := dk_96 (dk_at dksX3_touches_1 10 rfl rfl)
theorem dX3_touches_34 : decode cX3_touches 34 = .ok (.iload_n 2, 1) := dk_28 (dk_at dksX3_touches_1 11 rfl rfl)
theorem dX3_touches_35 : decode cX3_touches 35 = .ok (.iastore, 1) := dk_79 (dk_at dksX3_touches_1 12 rfl rfl)
theorem dX3_touches_36 : decode cX3_touches 36 = .ok (.aload_n 0, 1) := dk_42 (dk_at dksX3_touches_1 13 rfl rfl)
theorem dX3_touches_37 : decode cX3_touches 37 = .ok (.aload_n 0, 1) := dk_42 (dk_at dksX3_touches_1 14 rfl rfl)
theorem dX3_touches_38 : decode cX3_touches 38 = .ok (.getfield 9, 3) := dk_180 0 9 (dk_at dksX3_touches_1 15 rfl rfl)
theorem dX3_touches_41 : decode cX3_touches 41 = .ok (.invokevirtual 202, 3) := dk_182 0 202 (dk_at dksX3_touches_1 18 rfl rfl)
theorem dX3_touches_44 : decode cX3_touches 44 = .ok (.invokestatic 206, 3) := dk_184 0 206 (dk_at dksX3_touches_1 21 rfl rfl)
theorem dX3_touches_47 : decode cX3_touches 47 = .ok (.ireturn, 1) := dk_172 (dk_at dksX3_touches_2 0 rfl rfl)
abbrev cX3_refusesPlug : ByteArray := prog_9_method_42_code
def yX3_refusesPlug : MethodName := ⟨RX3, "refusesPlug", "(II)I"⟩
def dkwX3_refusesPlug_1 : List UInt8 := [16, 254, 167, 0, 4, 3, 172]
abbrev dktX3_refusesPlug_1 : List UInt8 := dkwX3_refusesPlug_1 ++ []
def dkwX3_refusesPlug_0 : List UInt8 := [42, 27, 182, 0, 108, 154, 0, 5, 2, 172, 42, 180, 0, 9, 16, 6, 27, 96, 46, 28, 160, 0, 8]
abbrev dktX3_refusesPlug_0 : List UInt8 := dkwX3_refusesPlug_0 ++ dktX3_refusesPlug_1
theorem dksX3_refusesPlug_0 : cX3_refusesPlug.data.toList.drop 0 = dktX3_refusesPlug_0 := by decide +kernel
theorem dksX3_refusesPlug_1 : cX3_refusesPlug.data.toList.drop 23 = dktX3_refusesPlug_1 := dk_seg dksX3_refusesPlug_0 23 rfl rfl
theorem dX3_refusesPlug_0 : decode cX3_refusesPlug 0 = .ok (.aload_n 0, 1) := dk_42 (dk_at dksX3_refusesPlug_0 0 rfl rfl)
theorem dX3_refusesPlug_1 : decode cX3_refusesPlug 1 = .ok (.iload_n 1, 1) := dk_27 (dk_at dksX3_refusesPlug_0 1 rfl rfl)
theorem dX3_refusesPlug_2 : decode cX3_refusesPlug 2 = .ok (.invokevirtual 108, 3) := dk_182 0 108 (dk_at dksX3_refusesPlug_0 2 rfl rfl)
theorem dX3_refusesPlug_5 : decode cX3_refusesPlug 5 = .ok (.ifCond .ne 5, 3) := dk_154 0 5 (dk_at dksX3_refusesPlug_0 5 rfl rfl)
theorem dX3_refusesPlug_8 : decode cX3_refusesPlug 8 = .ok (.iconst (-1), 1) := dk_2 (dk_at dksX3_refusesPlug_0 8 rfl rfl)
theorem dX3_refusesPlug_9 : decode cX3_refusesPlug 9 = .ok (.ireturn, 1) := dk_172 (dk_at dksX3_refusesPlug_0 9 rfl rfl)
theorem dX3_refusesPlug_10 : decode cX3_refusesPlug 10 = .ok (.aload_n 0, 1) := dk_42 (dk_at dksX3_refusesPlug_0 10 rfl rfl)
theorem dX3_refusesPlug_11 : decode cX3_refusesPlug 11 = .ok (.getfield 9, 3) := dk_180 0 9 (dk_at dksX3_refusesPlug_0 11 rfl rfl)
theorem dX3_refusesPlug_14 : decode cX3_refusesPlug 14 = .ok (.bipush 6, 2) := dk_16 6 (dk_at dksX3_refusesPlug_0 14 rfl rfl)
theorem dX3_refusesPlug_16 : decode cX3_refusesPlug 16 = .ok (.iload_n 1, 1) := dk_27 (dk_at dksX3_refusesPlug_0 16 rfl rfl)
theorem dX3_refusesPlug_17 : decode cX3_refusesPlug 17 = .ok (.iadd, 1) := dk_96 (dk_at dksX3_refusesPlug_0 17 rfl rfl)
theorem dX3_refusesPlug_18 : decode cX3_refusesPlug 18 = .ok (.iaload, 1) := dk_46 (dk_at dksX3_refusesPlug_0 18 rfl rfl)
theorem dX3_refusesPlug_19 : decode cX3_refusesPlug 19 = .ok (.iload_n 2, 1) := dk_28 (dk_at dksX3_refusesPlug_0 19 rfl rfl)
theorem dX3_refusesPlug_20 : decode cX3_refusesPlug 20 = .ok (.if_icmp .ne 8, 3) := dk_160 0 8 (dk_at dksX3_refusesPlug_0 20 rfl rfl)
theorem dX3_refusesPlug_23 : decode cX3_refusesPlug 23 = .ok (.bipush (-2), 2) := dk_16 254 (dk_at dksX3_refusesPlug_1 0 rfl rfl)
theorem dX3_refusesPlug_25 : decode cX3_refusesPlug 25 = .ok (.goto 4, 3) := dk_167 0 4 (dk_at dksX3_refusesPlug_1 2 rfl rfl)
theorem dX3_refusesPlug_28 : decode cX3_refusesPlug 28 = .ok (.iconst 0, 1) := dk_3 (dk_at dksX3_refusesPlug_1 5 rfl rfl)
theorem dX3_refusesPlug_29 : decode cX3_refusesPlug 29 = .ok (.ireturn, 1) := dk_172 (dk_at dksX3_refusesPlug_1 6 rfl rfl)
abbrev cX3_stops : ByteArray := prog_9_method_45_code
def yX3_stops : MethodName := ⟨RX3, "stops", "(I)I"⟩
def dkwX3_stops_0 : List UInt8 := [42, 27, 3, 182, 0, 255, 172]
abbrev dktX3_stops_0 : List UInt8 := dkwX3_stops_0 ++ []
theorem dksX3_stops_0 : cX3_stops.data.toList.drop 0 = dktX3_stops_0 := by decide +kernel
theorem dX3_stops_0 : decode cX3_stops 0 = .ok (.aload_n 0, 1) := dk_42 (dk_at dksX3_stops_0 0 rfl rfl)
theorem dX3_stops_1 : decode cX3_stops 1 = .ok (.iload_n 1, 1) := dk_27 (dk_at dksX3_stops_0 1 rfl rfl)
theorem dX3_stops_2 : decode cX3_stops 2 = .ok (.iconst 0, 1) := dk_3 (dk_at dksX3_stops_0 2 rfl rfl)
theorem dX3_stops_3 : decode cX3_stops 3 = .ok (.invokevirtual 255, 3) := dk_182 0 255 (dk_at dksX3_stops_0 3 rfl rfl)
theorem dX3_stops_6 : decode cX3_stops 6 = .ok (.ireturn, 1) := dk_172 (dk_at dksX3_stops_0 6 rfl rfl)
abbrev cX3_combs : ByteArray := prog_9_method_47_code
def yX3_combs : MethodName := ⟨RX3, "combs", "(I)I"⟩
def dkwX3_combs_2 : List UInt8 := [172]
abbrev dktX3_combs_2 : List UInt8 := dkwX3_combs_2 ++ []
def dkwX3_combs_1 : List UInt8 := [182, 0, 241, 42, 180, 0, 9, 16, 12, 27, 96, 46, 62, 42, 180, 0, 9, 16, 12, 27, 96, 3, 79, 29]
abbrev dktX3_combs_1 : List UInt8 := dkwX3_combs_1 ++ dktX3_combs_2
def dkwX3_combs_0 : List UInt8 := [42, 3, 181, 0, 95, 42, 27, 182, 1, 2, 61, 28, 156, 0, 5, 28, 172, 42, 42, 180, 0, 9]
abbrev dktX3_combs_0 : List UInt8 := dkwX3_combs_0 ++ dktX3_combs_1
theorem dksX3_combs_0 : cX3_combs.data.toList.drop 0 = dktX3_combs_0 := by decide +kernel
theorem dksX3_combs_1 : cX3_combs.data.toList.drop 22 = dktX3_combs_1 := dk_seg dksX3_combs_0 22 rfl rfl
theorem dksX3_combs_2 : cX3_combs.data.toList.drop 46 = dktX3_combs_2 := dk_seg dksX3_combs_1 24 rfl rfl
theorem dX3_combs_0 : decode cX3_combs 0 = .ok (.aload_n 0, 1) := dk_42 (dk_at dksX3_combs_0 0 rfl rfl)
theorem dX3_combs_1 : decode cX3_combs 1 = .ok (.iconst 0, 1) := dk_3 (dk_at dksX3_combs_0 1 rfl rfl)
theorem dX3_combs_2 : decode cX3_combs 2 = .ok (.putfield 95, 3) := dk_181 0 95 (dk_at dksX3_combs_0 2 rfl rfl)
theorem dX3_combs_5 : decode cX3_combs 5 = .ok (.aload_n 0, 1) := dk_42 (dk_at dksX3_combs_0 5 rfl rfl)
theorem dX3_combs_6 : decode cX3_combs 6 = .ok (.iload_n 1, 1) := dk_27 (dk_at dksX3_combs_0 6 rfl rfl)
theorem dX3_combs_7 : decode cX3_combs 7 = .ok (.invokevirtual 258, 3) := dk_182 1 2 (dk_at dksX3_combs_0 7 rfl rfl)
theorem dX3_combs_10 : decode cX3_combs 10 = .ok (.istore_n 2, 1) := dk_61 (dk_at dksX3_combs_0 10 rfl rfl)
theorem dX3_combs_11 : decode cX3_combs 11 = .ok (.iload_n 2, 1) := dk_28 (dk_at dksX3_combs_0 11 rfl rfl)
theorem dX3_combs_12 : decode cX3_combs 12 = .ok (.ifCond .ge 5, 3) := dk_156 0 5 (dk_at dksX3_combs_0 12 rfl rfl)
theorem dX3_combs_15 : decode cX3_combs 15 = .ok (.iload_n 2, 1) := dk_28 (dk_at dksX3_combs_0 15 rfl rfl)
theorem dX3_combs_16 : decode cX3_combs 16 = .ok (.ireturn, 1) := dk_172 (dk_at dksX3_combs_0 16 rfl rfl)
theorem dX3_combs_17 : decode cX3_combs 17 = .ok (.aload_n 0, 1) := dk_42 (dk_at dksX3_combs_0 17 rfl rfl)
theorem dX3_combs_18 : decode cX3_combs 18 = .ok (.aload_n 0, 1) := dk_42 (dk_at dksX3_combs_0 18 rfl rfl)
theorem dX3_combs_19 : decode cX3_combs 19 = .ok (.getfield 9, 3) := dk_180 0 9 (dk_at dksX3_combs_0 19 rfl rfl)
theorem dX3_combs_22 : decode cX3_combs 22 = .ok (.invokevirtual 241, 3) := dk_182 0 241 (dk_at dksX3_combs_1 0 rfl rfl)
theorem dX3_combs_25 : decode cX3_combs 25 = .ok (.aload_n 0, 1) := dk_42 (dk_at dksX3_combs_1 3 rfl rfl)
theorem dX3_combs_26 : decode cX3_combs 26 = .ok (.getfield 9, 3) := dk_180 0 9 (dk_at dksX3_combs_1 4 rfl rfl)
theorem dX3_combs_29 : decode cX3_combs 29 = .ok (.bipush 12, 2) := dk_16 12 (dk_at dksX3_combs_1 7 rfl rfl)
theorem dX3_combs_31 : decode cX3_combs 31 = .ok (.iload_n 1, 1) := dk_27 (dk_at dksX3_combs_1 9 rfl rfl)
theorem dX3_combs_32 : decode cX3_combs 32 = .ok (.iadd, 1) := dk_96 (dk_at dksX3_combs_1 10 rfl rfl)
theorem dX3_combs_33 : decode cX3_combs 33 = .ok (.iaload, 1) := dk_46 (dk_at dksX3_combs_1 11 rfl rfl)
theorem dX3_combs_34 : decode cX3_combs 34 = .ok (.istore_n 3, 1) := dk_62 (dk_at dksX3_combs_1 12 rfl rfl)
theorem dX3_combs_35 : decode cX3_combs 35 = .ok (.aload_n 0, 1) := dk_42 (dk_at dksX3_combs_1 13 rfl rfl)
theorem dX3_combs_36 : decode cX3_combs 36 = .ok (.getfield 9, 3) := dk_180 0 9 (dk_at dksX3_combs_1 14 rfl rfl)
theorem dX3_combs_39 : decode cX3_combs 39 = .ok (.bipush 12, 2) := dk_16 12 (dk_at dksX3_combs_1 17 rfl rfl)
theorem dX3_combs_41 : decode cX3_combs 41 = .ok (.iload_n 1, 1) := dk_27 (dk_at dksX3_combs_1 19 rfl rfl)
theorem dX3_combs_42 : decode cX3_combs 42 = .ok (.iadd, 1) := dk_96 (dk_at dksX3_combs_1 20 rfl rfl)
theorem dX3_combs_43 : decode cX3_combs 43 = .ok (.iconst 0, 1) := dk_3 (dk_at dksX3_combs_1 21 rfl rfl)
theorem dX3_combs_44 : decode cX3_combs 44 = .ok (.iastore, 1) := dk_79 (dk_at dksX3_combs_1 22 rfl rfl)
theorem dX3_combs_45 : decode cX3_combs 45 = .ok (.iload_n 3, 1) := dk_29 (dk_at dksX3_combs_1 23 rfl rfl)
theorem dX3_combs_46 : decode cX3_combs 46 = .ok (.ireturn, 1) := dk_172 (dk_at dksX3_combs_2 0 rfl rfl)
abbrev cX3_refusesComb : ByteArray := prog_9_method_46_code
def yX3_refusesComb : MethodName := ⟨RX3, "refusesComb", "(I)I"⟩
def dkwX3_refusesComb_1 : List UInt8 := [167, 0, 4, 3, 172]
abbrev dktX3_refusesComb_1 : List UInt8 := dkwX3_refusesComb_1 ++ []
def dkwX3_refusesComb_0 : List UInt8 := [42, 27, 182, 0, 108, 154, 0, 5, 2, 172, 42, 180, 0, 9, 16, 12, 27, 96, 46, 154, 0, 8, 16, 254]
abbrev dktX3_refusesComb_0 : List UInt8 := dkwX3_refusesComb_0 ++ dktX3_refusesComb_1
theorem dksX3_refusesComb_0 : cX3_refusesComb.data.toList.drop 0 = dktX3_refusesComb_0 := by decide +kernel
theorem dksX3_refusesComb_1 : cX3_refusesComb.data.toList.drop 24 = dktX3_refusesComb_1 := dk_seg dksX3_refusesComb_0 24 rfl rfl
theorem dX3_refusesComb_0 : decode cX3_refusesComb 0 = .ok (.aload_n 0, 1) := dk_42 (dk_at dksX3_refusesComb_0 0 rfl rfl)
theorem dX3_refusesComb_1 : decode cX3_refusesComb 1 = .ok (.iload_n 1, 1) := dk_27 (dk_at dksX3_refusesComb_0 1 rfl rfl)
theorem dX3_refusesComb_2 : decode cX3_refusesComb 2 = .ok (.invokevirtual 108, 3) := dk_182 0 108 (dk_at dksX3_refusesComb_0 2 rfl rfl)
theorem dX3_refusesComb_5 : decode cX3_refusesComb 5 = .ok (.ifCond .ne 5, 3) := dk_154 0 5 (dk_at dksX3_refusesComb_0 5 rfl rfl)
theorem dX3_refusesComb_8 : decode cX3_refusesComb 8 = .ok (.iconst (-1), 1) := dk_2 (dk_at dksX3_refusesComb_0 8 rfl rfl)
theorem dX3_refusesComb_9 : decode cX3_refusesComb 9 = .ok (.ireturn, 1) := dk_172 (dk_at dksX3_refusesComb_0 9 rfl rfl)
theorem dX3_refusesComb_10 : decode cX3_refusesComb 10 = .ok (.aload_n 0, 1) := dk_42 (dk_at dksX3_refusesComb_0 10 rfl rfl)
theorem dX3_refusesComb_11 : decode cX3_refusesComb 11 = .ok (.getfield 9, 3) := dk_180 0 9 (dk_at dksX3_refusesComb_0 11 rfl rfl)
theorem dX3_refusesComb_14 : decode cX3_refusesComb 14 = .ok (.bipush 12, 2) := dk_16 12 (dk_at dksX3_refusesComb_0 14 rfl rfl)
theorem dX3_refusesComb_16 : decode cX3_refusesComb 16 = .ok (.iload_n 1, 1) := dk_27 (dk_at dksX3_refusesComb_0 16 rfl rfl)
theorem dX3_refusesComb_17 : decode cX3_refusesComb 17 = .ok (.iadd, 1) := dk_96 (dk_at dksX3_refusesComb_0 17 rfl rfl)
theorem dX3_refusesComb_18 : decode cX3_refusesComb 18 = .ok (.iaload, 1) := dk_46 (dk_at dksX3_refusesComb_0 18 rfl rfl)
theorem dX3_refusesComb_19 : decode cX3_refusesComb 19 = .ok (.ifCond .ne 8, 3) := dk_154 0 8 (dk_at dksX3_refusesComb_0 19 rfl rfl)
theorem dX3_refusesComb_22 : decode cX3_refusesComb 22 = .ok (.bipush (-2), 2) := dk_16 254 (dk_at dksX3_refusesComb_0 22 rfl rfl)
theorem dX3_refusesComb_24 : decode cX3_refusesComb 24 = .ok (.goto 4, 3) := dk_167 0 4 (dk_at dksX3_refusesComb_1 0 rfl rfl)
theorem dX3_refusesComb_27 : decode cX3_refusesComb 27 = .ok (.iconst 0, 1) := dk_3 (dk_at dksX3_refusesComb_1 3 rfl rfl)
theorem dX3_refusesComb_28 : decode cX3_refusesComb 28 = .ok (.ireturn, 1) := dk_172 (dk_at dksX3_refusesComb_1 4 rfl rfl)
abbrev cX3_taps : ByteArray := prog_9_method_50_code
def yX3_taps : MethodName := ⟨RX3, "taps", "(II)I"⟩
def dkwX3_taps_0 : List UInt8 := [42, 16, 18, 27, 28, 16, 9, 182, 1, 9, 172]
abbrev dktX3_taps_0 : List UInt8 := dkwX3_taps_0 ++ []
theorem dksX3_taps_0 : cX3_taps.data.toList.drop 0 = dktX3_taps_0 := by decide +kernel
theorem dX3_taps_0 : decode cX3_taps 0 = .ok (.aload_n 0, 1) := dk_42 (dk_at dksX3_taps_0 0 rfl rfl)
theorem dX3_taps_1 : decode cX3_taps 1 = .ok (.bipush 18, 2) := dk_16 18 (dk_at dksX3_taps_0 1 rfl rfl)
theorem dX3_taps_3 : decode cX3_taps 3 = .ok (.iload_n 1, 1) := dk_27 (dk_at dksX3_taps_0 3 rfl rfl)
theorem dX3_taps_4 : decode cX3_taps 4 = .ok (.iload_n 2, 1) := dk_28 (dk_at dksX3_taps_0 4 rfl rfl)
theorem dX3_taps_5 : decode cX3_taps 5 = .ok (.bipush 9, 2) := dk_16 9 (dk_at dksX3_taps_0 5 rfl rfl)
theorem dX3_taps_7 : decode cX3_taps 7 = .ok (.invokevirtual 265, 3) := dk_182 1 9 (dk_at dksX3_taps_0 7 rfl rfl)
theorem dX3_taps_10 : decode cX3_taps 10 = .ok (.ireturn, 1) := dk_172 (dk_at dksX3_taps_0 10 rfl rfl)
abbrev cX3_becomes : ByteArray := prog_9_method_49_code
def yX3_becomes : MethodName := ⟨RX3, "becomes", "(IIII)I"⟩
def dkwX3_becomes_2 : List UInt8 := [96, 29, 79, 16, 10, 21, 6, 96, 172]
abbrev dktX3_becomes_2 : List UInt8 := dkwX3_becomes_2 ++ []
def dkwX3_becomes_1 : List UInt8 := [42, 42, 180, 0, 9, 182, 0, 241, 42, 180, 0, 9, 27, 28, 96, 46, 54, 6, 42, 180, 0, 9, 27, 28]
abbrev dktX3_becomes_1 : List UInt8 := dkwX3_becomes_1 ++ dktX3_becomes_2
def dkwX3_becomes_0 : List UInt8 := [42, 3, 181, 0, 95, 42, 27, 28, 29, 21, 4, 182, 1, 5, 54, 5, 21, 5, 156, 0, 6, 21, 5, 172]
abbrev dktX3_becomes_0 : List UInt8 := dkwX3_becomes_0 ++ dktX3_becomes_1
theorem dksX3_becomes_0 : cX3_becomes.data.toList.drop 0 = dktX3_becomes_0 := by decide +kernel
theorem dksX3_becomes_1 : cX3_becomes.data.toList.drop 24 = dktX3_becomes_1 := dk_seg dksX3_becomes_0 24 rfl rfl
theorem dksX3_becomes_2 : cX3_becomes.data.toList.drop 48 = dktX3_becomes_2 := dk_seg dksX3_becomes_1 24 rfl rfl
theorem dX3_becomes_0 : decode cX3_becomes 0 = .ok (.aload_n 0, 1) := dk_42 (dk_at dksX3_becomes_0 0 rfl rfl)
theorem dX3_becomes_1 : decode cX3_becomes 1 = .ok (.iconst 0, 1) := dk_3 (dk_at dksX3_becomes_0 1 rfl rfl)
theorem dX3_becomes_2 : decode cX3_becomes 2 = .ok (.putfield 95, 3) := dk_181 0 95 (dk_at dksX3_becomes_0 2 rfl rfl)
theorem dX3_becomes_5 : decode cX3_becomes 5 = .ok (.aload_n 0, 1) := dk_42 (dk_at dksX3_becomes_0 5 rfl rfl)
theorem dX3_becomes_6 : decode cX3_becomes 6 = .ok (.iload_n 1, 1) := dk_27 (dk_at dksX3_becomes_0 6 rfl rfl)
theorem dX3_becomes_7 : decode cX3_becomes 7 = .ok (.iload_n 2, 1) := dk_28 (dk_at dksX3_becomes_0 7 rfl rfl)
theorem dX3_becomes_8 : decode cX3_becomes 8 = .ok (.iload_n 3, 1) := dk_29 (dk_at dksX3_becomes_0 8 rfl rfl)
theorem dX3_becomes_9 : decode cX3_becomes 9 = .ok (.iload 4, 2) := dk_21 4 (dk_at dksX3_becomes_0 9 rfl rfl)
theorem dX3_becomes_11 : decode cX3_becomes 11 = .ok (.invokevirtual 261, 3) := dk_182 1 5 (dk_at dksX3_becomes_0 11 rfl rfl)
theorem dX3_becomes_14 : decode cX3_becomes 14 = .ok (.istore 5, 2) := dk_54 5 (dk_at dksX3_becomes_0 14 rfl rfl)
theorem dX3_becomes_16 : decode cX3_becomes 16 = .ok (.iload 5, 2) := dk_21 5 (dk_at dksX3_becomes_0 16 rfl rfl)
theorem dX3_becomes_18 : decode cX3_becomes 18 = .ok (.ifCond .ge 6, 3) := dk_156 0 6 (dk_at dksX3_becomes_0 18 rfl rfl)
theorem dX3_becomes_21 : decode cX3_becomes 21 = .ok (.iload 5, 2) := dk_21 5 (dk_at dksX3_becomes_0 21 rfl rfl)
theorem dX3_becomes_23 : decode cX3_becomes 23 = .ok (.ireturn, 1) := dk_172 (dk_at dksX3_becomes_0 23 rfl rfl)
theorem dX3_becomes_24 : decode cX3_becomes 24 = .ok (.aload_n 0, 1) := dk_42 (dk_at dksX3_becomes_1 0 rfl rfl)
theorem dX3_becomes_25 : decode cX3_becomes 25 = .ok (.aload_n 0, 1) := dk_42 (dk_at dksX3_becomes_1 1 rfl rfl)
theorem dX3_becomes_26 : decode cX3_becomes 26 = .ok (.getfield 9, 3) := dk_180 0 9 (dk_at dksX3_becomes_1 2 rfl rfl)
theorem dX3_becomes_29 : decode cX3_becomes 29 = .ok (.invokevirtual 241, 3) := dk_182 0 241 (dk_at dksX3_becomes_1 5 rfl rfl)
theorem dX3_becomes_32 : decode cX3_becomes 32 = .ok (.aload_n 0, 1) := dk_42 (dk_at dksX3_becomes_1 8 rfl rfl)
theorem dX3_becomes_33 : decode cX3_becomes 33 = .ok (.getfield 9, 3) := dk_180 0 9 (dk_at dksX3_becomes_1 9 rfl rfl)
theorem dX3_becomes_36 : decode cX3_becomes 36 = .ok (.iload_n 1, 1) := dk_27 (dk_at dksX3_becomes_1 12 rfl rfl)
theorem dX3_becomes_37 : decode cX3_becomes 37 = .ok (.iload_n 2, 1) := dk_28 (dk_at dksX3_becomes_1 13 rfl rfl)
theorem dX3_becomes_38 : decode cX3_becomes 38 = .ok (.iadd, 1) := dk_96 (dk_at dksX3_becomes_1 14 rfl rfl)
theorem dX3_becomes_39 : decode cX3_becomes 39 = .ok (.iaload, 1) := dk_46 (dk_at dksX3_becomes_1 15 rfl rfl)
theorem dX3_becomes_40 : decode cX3_becomes 40 = .ok (.istore 6, 2) := dk_54 6 (dk_at dksX3_becomes_1 16 rfl rfl)
theorem dX3_becomes_42 : decode cX3_becomes 42 = .ok (.aload_n 0, 1) := dk_42 (dk_at dksX3_becomes_1 18 rfl rfl)
theorem dX3_becomes_43 : decode cX3_becomes 43 = .ok (.getfield 9, 3) := dk_180 0 9 (dk_at dksX3_becomes_1 19 rfl rfl)
theorem dX3_becomes_46 : decode cX3_becomes 46 = .ok (.iload_n 1, 1) := dk_27 (dk_at dksX3_becomes_1 22 rfl rfl)
theorem dX3_becomes_47 : decode cX3_becomes 47 = .ok (.iload_n 2, 1) := dk_28 (dk_at dksX3_becomes_1 23 rfl rfl)
theorem dX3_becomes_48 : decode cX3_becomes 48 = .ok (.iadd, 1) := dk_96 (dk_at dksX3_becomes_2 0 rfl rfl)
theorem dX3_becomes_49 : decode cX3_becomes 49 = .ok (.iload_n 3, 1) := dk_29 (dk_at dksX3_becomes_2 1 rfl rfl)
theorem dX3_becomes_50 : decode cX3_becomes 50 = .ok (.iastore, 1) := dk_79 (dk_at dksX3_becomes_2 2 rfl rfl)
theorem dX3_becomes_51 : decode cX3_becomes 51 = .ok (.bipush 10, 2) := dk_16 10 (dk_at dksX3_becomes_2 3 rfl rfl)
theorem dX3_becomes_53 : decode cX3_becomes 53 = .ok (.iload 6, 2) := dk_21 6 (dk_at dksX3_becomes_2 5 rfl rfl)
theorem dX3_becomes_55 : decode cX3_becomes 55 = .ok (.iadd, 1) := dk_96 (dk_at dksX3_becomes_2 7 rfl rfl)
theorem dX3_becomes_56 : decode cX3_becomes 56 = .ok (.ireturn, 1) := dk_172 (dk_at dksX3_becomes_2 8 rfl rfl)
abbrev cX3_refusesCell : ByteArray := prog_9_method_48_code
def yX3_refusesCell : MethodName := ⟨RX3, "refusesCell", "(IIII)I"⟩
def dkwX3_refusesCell_1 : List UInt8 := [27, 28, 96, 46, 29, 160, 0, 8, 16, 254, 167, 0, 4, 3, 172]
abbrev dktX3_refusesCell_1 : List UInt8 := dkwX3_refusesCell_1 ++ []
def dkwX3_refusesCell_0 : List UInt8 := [42, 28, 182, 0, 108, 153, 0, 13, 29, 3, 21, 4, 184, 0, 104, 154, 0, 5, 2, 172, 42, 180, 0, 9]
abbrev dktX3_refusesCell_0 : List UInt8 := dkwX3_refusesCell_0 ++ dktX3_refusesCell_1
theorem dksX3_refusesCell_0 : cX3_refusesCell.data.toList.drop 0 = dktX3_refusesCell_0 := by decide +kernel
theorem dksX3_refusesCell_1 : cX3_refusesCell.data.toList.drop 24 = dktX3_refusesCell_1 := dk_seg dksX3_refusesCell_0 24 rfl rfl
theorem dX3_refusesCell_0 : decode cX3_refusesCell 0 = .ok (.aload_n 0, 1) := dk_42 (dk_at dksX3_refusesCell_0 0 rfl rfl)
theorem dX3_refusesCell_1 : decode cX3_refusesCell 1 = .ok (.iload_n 2, 1) := dk_28 (dk_at dksX3_refusesCell_0 1 rfl rfl)
theorem dX3_refusesCell_2 : decode cX3_refusesCell 2 = .ok (.invokevirtual 108, 3) := dk_182 0 108 (dk_at dksX3_refusesCell_0 2 rfl rfl)
theorem dX3_refusesCell_5 : decode cX3_refusesCell 5 = .ok (.ifCond .eq 13, 3) := dk_153 0 13 (dk_at dksX3_refusesCell_0 5 rfl rfl)
theorem dX3_refusesCell_8 : decode cX3_refusesCell 8 = .ok (.iload_n 3, 1) := dk_29 (dk_at dksX3_refusesCell_0 8 rfl rfl)
theorem dX3_refusesCell_9 : decode cX3_refusesCell 9 = .ok (.iconst 0, 1) := dk_3 (dk_at dksX3_refusesCell_0 9 rfl rfl)
theorem dX3_refusesCell_10 : decode cX3_refusesCell 10 = .ok (.iload 4, 2) := dk_21 4 (dk_at dksX3_refusesCell_0 10 rfl rfl)
theorem dX3_refusesCell_12 : decode cX3_refusesCell 12 = .ok (.invokestatic 104, 3) := dk_184 0 104 (dk_at dksX3_refusesCell_0 12 rfl rfl)
theorem dX3_refusesCell_15 : decode cX3_refusesCell 15 = .ok (.ifCond .ne 5, 3) := dk_154 0 5 (dk_at dksX3_refusesCell_0 15 rfl rfl)
theorem dX3_refusesCell_18 : decode cX3_refusesCell 18 = .ok (.iconst (-1), 1) := dk_2 (dk_at dksX3_refusesCell_0 18 rfl rfl)
theorem dX3_refusesCell_19 : decode cX3_refusesCell 19 = .ok (.ireturn, 1) := dk_172 (dk_at dksX3_refusesCell_0 19 rfl rfl)
theorem dX3_refusesCell_20 : decode cX3_refusesCell 20 = .ok (.aload_n 0, 1) := dk_42 (dk_at dksX3_refusesCell_0 20 rfl rfl)
theorem dX3_refusesCell_21 : decode cX3_refusesCell 21 = .ok (.getfield 9, 3) := dk_180 0 9 (dk_at dksX3_refusesCell_0 21 rfl rfl)
theorem dX3_refusesCell_24 : decode cX3_refusesCell 24 = .ok (.iload_n 1, 1) := dk_27 (dk_at dksX3_refusesCell_1 0 rfl rfl)
theorem dX3_refusesCell_25 : decode cX3_refusesCell 25 = .ok (.iload_n 2, 1) := dk_28 (dk_at dksX3_refusesCell_1 1 rfl rfl)
theorem dX3_refusesCell_26 : decode cX3_refusesCell 26 = .ok (.iadd, 1) := dk_96 (dk_at dksX3_refusesCell_1 2 rfl rfl)
theorem dX3_refusesCell_27 : decode cX3_refusesCell 27 = .ok (.iaload, 1) := dk_46 (dk_at dksX3_refusesCell_1 3 rfl rfl)
theorem dX3_refusesCell_28 : decode cX3_refusesCell 28 = .ok (.iload_n 3, 1) := dk_29 (dk_at dksX3_refusesCell_1 4 rfl rfl)
theorem dX3_refusesCell_29 : decode cX3_refusesCell 29 = .ok (.if_icmp .ne 8, 3) := dk_160 0 8 (dk_at dksX3_refusesCell_1 5 rfl rfl)
theorem dX3_refusesCell_32 : decode cX3_refusesCell 32 = .ok (.bipush (-2), 2) := dk_16 254 (dk_at dksX3_refusesCell_1 8 rfl rfl)
theorem dX3_refusesCell_34 : decode cX3_refusesCell 34 = .ok (.goto 4, 3) := dk_167 0 4 (dk_at dksX3_refusesCell_1 10 rfl rfl)
theorem dX3_refusesCell_37 : decode cX3_refusesCell 37 = .ok (.iconst 0, 1) := dk_3 (dk_at dksX3_refusesCell_1 13 rfl rfl)
theorem dX3_refusesCell_38 : decode cX3_refusesCell 38 = .ok (.ireturn, 1) := dk_172 (dk_at dksX3_refusesCell_1 14 rfl rfl)
abbrev cX3_gives : ByteArray := prog_9_method_51_code
def yX3_gives : MethodName := ⟨RX3, "gives", "(II)I"⟩
def dkwX3_gives_0 : List UInt8 := [42, 16, 24, 27, 28, 6, 182, 1, 9, 172]
abbrev dktX3_gives_0 : List UInt8 := dkwX3_gives_0 ++ []
theorem dksX3_gives_0 : cX3_gives.data.toList.drop 0 = dktX3_gives_0 := by decide +kernel
theorem dX3_gives_0 : decode cX3_gives 0 = .ok (.aload_n 0, 1) := dk_42 (dk_at dksX3_gives_0 0 rfl rfl)
theorem dX3_gives_1 : decode cX3_gives 1 = .ok (.bipush 24, 2) := dk_16 24 (dk_at dksX3_gives_0 1 rfl rfl)
theorem dX3_gives_3 : decode cX3_gives 3 = .ok (.iload_n 1, 1) := dk_27 (dk_at dksX3_gives_0 3 rfl rfl)
theorem dX3_gives_4 : decode cX3_gives 4 = .ok (.iload_n 2, 1) := dk_28 (dk_at dksX3_gives_0 4 rfl rfl)
theorem dX3_gives_5 : decode cX3_gives 5 = .ok (.iconst 3, 1) := dk_6 (dk_at dksX3_gives_0 5 rfl rfl)
theorem dX3_gives_6 : decode cX3_gives 6 = .ok (.invokevirtual 265, 3) := dk_182 1 9 (dk_at dksX3_gives_0 6 rfl rfl)
theorem dX3_gives_9 : decode cX3_gives 9 = .ok (.ireturn, 1) := dk_172 (dk_at dksX3_gives_0 9 rfl rfl)
abbrev cX3_year : ByteArray := prog_9_method_52_code
def yX3_year : MethodName := ⟨RX3, "year", "()I"⟩
def dkwX3_year_6 : List UInt8 := [167, 0, 4, 9, 182, 0, 248, 42, 42, 42, 180, 0, 9, 3, 182, 0, 227, 133, 182, 0, 248, 28, 172]
abbrev dktX3_year_6 : List UInt8 := dkwX3_year_6 ++ []
def dkwX3_year_5 : List UInt8 := [158, 0, 11, 42, 42, 180, 0, 45, 182, 0, 241, 42, 3, 181, 0, 98, 42, 28, 27, 162, 0, 7, 10]
abbrev dktX3_year_5 : List UInt8 := dkwX3_year_5 ++ dktX3_year_6
def dkwX3_year_4 : List UInt8 := [42, 180, 0, 61, 6, 28, 104, 5, 96, 46, 182, 1, 15, 153, 0, 9, 132, 2, 1, 167, 255, 213, 28]
abbrev dktX3_year_4 : List UInt8 := dkwX3_year_4 ++ dktX3_year_5
def dkwX3_year_3 : List UInt8 := [28, 27, 162, 0, 44, 42, 42, 180, 0, 61, 6, 28, 104, 46, 42, 180, 0, 61, 6, 28, 104, 4, 96, 46]
abbrev dktX3_year_3 : List UInt8 := dkwX3_year_3 ++ dktX3_year_4
def dkwX3_year_2 : List UInt8 := [154, 0, 10, 2, 42, 180, 0, 127, 100, 172, 42, 180, 0, 9, 42, 180, 0, 45, 3, 184, 0, 230, 3, 61]
abbrev dktX3_year_2 : List UInt8 := dkwX3_year_2 ++ dktX3_year_3
def dkwX3_year_1 : List UInt8 := [42, 180, 0, 118, 162, 0, 16, 42, 6, 27, 104, 182, 1, 12, 132, 1, 1, 167, 255, 228, 42, 182, 0, 160]
abbrev dktX3_year_1 : List UInt8 := dkwX3_year_1 ++ dktX3_year_2
def dkwX3_year_0 : List UInt8 := [42, 3, 181, 0, 95, 42, 16, 60, 182, 0, 154, 3, 60, 42, 182, 0, 134, 153, 0, 27, 42, 180, 0, 124]
abbrev dktX3_year_0 : List UInt8 := dkwX3_year_0 ++ dktX3_year_1
theorem dksX3_year_0 : cX3_year.data.toList.drop 0 = dktX3_year_0 := by decide +kernel
theorem dksX3_year_1 : cX3_year.data.toList.drop 24 = dktX3_year_1 := dk_seg dksX3_year_0 24 rfl rfl
theorem dksX3_year_2 : cX3_year.data.toList.drop 48 = dktX3_year_2 := dk_seg dksX3_year_1 24 rfl rfl
theorem dksX3_year_3 : cX3_year.data.toList.drop 72 = dktX3_year_3 := dk_seg dksX3_year_2 24 rfl rfl
theorem dksX3_year_4 : cX3_year.data.toList.drop 96 = dktX3_year_4 := dk_seg dksX3_year_3 24 rfl rfl
theorem dksX3_year_5 : cX3_year.data.toList.drop 119 = dktX3_year_5 := dk_seg dksX3_year_4 23 rfl rfl
theorem dksX3_year_6 : cX3_year.data.toList.drop 142 = dktX3_year_6 := dk_seg dksX3_year_5 23 rfl rfl
theorem dX3_year_0 : decode cX3_year 0 = .ok (.aload_n 0, 1) := dk_42 (dk_at dksX3_year_0 0 rfl rfl)
theorem dX3_year_1 : decode cX3_year 1 = .ok (.iconst 0, 1) := dk_3 (dk_at dksX3_year_0 1 rfl rfl)
theorem dX3_year_2 : decode cX3_year 2 = .ok (.putfield 95, 3) := dk_181 0 95 (dk_at dksX3_year_0 2 rfl rfl)
theorem dX3_year_5 : decode cX3_year 5 = .ok (.aload_n 0, 1) := dk_42 (dk_at dksX3_year_0 5 rfl rfl)
theorem dX3_year_6 : decode cX3_year 6 = .ok (.bipush 60, 2) := dk_16 60 (dk_at dksX3_year_0 6 rfl rfl)
theorem dX3_year_8 : decode cX3_year 8 = .ok (.invokevirtual 154, 3) := dk_182 0 154 (dk_at dksX3_year_0 8 rfl rfl)
theorem dX3_year_11 : decode cX3_year 11 = .ok (.iconst 0, 1) := dk_3 (dk_at dksX3_year_0 11 rfl rfl)
theorem dX3_year_12 : decode cX3_year 12 = .ok (.istore_n 1, 1) := dk_60 (dk_at dksX3_year_0 12 rfl rfl)
theorem dX3_year_13 : decode cX3_year 13 = .ok (.aload_n 0, 1) := dk_42 (dk_at dksX3_year_0 13 rfl rfl)
theorem dX3_year_14 : decode cX3_year 14 = .ok (.invokevirtual 134, 3) := dk_182 0 134 (dk_at dksX3_year_0 14 rfl rfl)
theorem dX3_year_17 : decode cX3_year 17 = .ok (.ifCond .eq 27, 3) := dk_153 0 27 (dk_at dksX3_year_0 17 rfl rfl)
theorem dX3_year_20 : decode cX3_year 20 = .ok (.aload_n 0, 1) := dk_42 (dk_at dksX3_year_0 20 rfl rfl)
theorem dX3_year_21 : decode cX3_year 21 = .ok (.getfield 124, 3) := dk_180 0 124 (dk_at dksX3_year_0 21 rfl rfl)
theorem dX3_year_24 : decode cX3_year 24 = .ok (.aload_n 0, 1) := dk_42 (dk_at dksX3_year_1 0 rfl rfl)
theorem dX3_year_25 : decode cX3_year 25 = .ok (.getfield 118, 3) := dk_180 0 118 (dk_at dksX3_year_1 1 rfl rfl)
theorem dX3_year_28 : decode cX3_year 28 = .ok (.if_icmp .ge 16, 3) := dk_162 0 16 (dk_at dksX3_year_1 4 rfl rfl)
theorem dX3_year_31 : decode cX3_year 31 = .ok (.aload_n 0, 1) := dk_42 (dk_at dksX3_year_1 7 rfl rfl)
theorem dX3_year_32 : decode cX3_year 32 = .ok (.iconst 3, 1) := dk_6 (dk_at dksX3_year_1 8 rfl rfl)
theorem dX3_year_33 : decode cX3_year 33 = .ok (.iload_n 1, 1) := dk_27 (dk_at dksX3_year_1 9 rfl rfl)
theorem dX3_year_34 : decode cX3_year 34 = .ok (.imul, 1) := dk_104 (dk_at dksX3_year_1 10 rfl rfl)
theorem dX3_year_35 : decode cX3_year 35 = .ok (.invokevirtual 268, 3) := dk_182 1 12 (dk_at dksX3_year_1 11 rfl rfl)
theorem dX3_year_38 : decode cX3_year 38 = .ok (.iinc 1 1, 3) := dk_132 1 1 (dk_at dksX3_year_1 14 rfl rfl)
theorem dX3_year_41 : decode cX3_year 41 = .ok (.goto (-28), 3) := dk_167 255 228 (dk_at dksX3_year_1 17 rfl rfl)
theorem dX3_year_44 : decode cX3_year 44 = .ok (.aload_n 0, 1) := dk_42 (dk_at dksX3_year_1 20 rfl rfl)
theorem dX3_year_45 : decode cX3_year 45 = .ok (.invokevirtual 160, 3) := dk_182 0 160 (dk_at dksX3_year_1 21 rfl rfl)
theorem dX3_year_48 : decode cX3_year 48 = .ok (.ifCond .ne 10, 3) := dk_154 0 10 (dk_at dksX3_year_2 0 rfl rfl)
theorem dX3_year_51 : decode cX3_year 51 = .ok (.iconst (-1), 1) := dk_2 (dk_at dksX3_year_2 3 rfl rfl)
theorem dX3_year_52 : decode cX3_year 52 = .ok (.aload_n 0, 1) := dk_42 (dk_at dksX3_year_2 4 rfl rfl)
theorem dX3_year_53 : decode cX3_year 53 = .ok (.getfield 127, 3) := dk_180 0 127 (dk_at dksX3_year_2 5 rfl rfl)
theorem dX3_year_56 : decode cX3_year 56 = .ok (.isub, 1) := dk_100 (dk_at dksX3_year_2 8 rfl rfl)
theorem dX3_year_57 : decode cX3_year 57 = .ok (.ireturn, 1) := dk_172 (dk_at dksX3_year_2 9 rfl rfl)
theorem dX3_year_58 : decode cX3_year 58 = .ok (.aload_n 0, 1) := dk_42 (dk_at dksX3_year_2 10 rfl rfl)
theorem dX3_year_59 : decode cX3_year 59 = .ok (.getfield 9, 3) := dk_180 0 9 (dk_at dksX3_year_2 11 rfl rfl)
theorem dX3_year_62 : decode cX3_year 62 = .ok (.aload_n 0, 1) := dk_42 (dk_at dksX3_year_2 14 rfl rfl)
theorem dX3_year_63 : decode cX3_year 63 = .ok (.getfield 45, 3) := dk_180 0 45 (dk_at dksX3_year_2 15 rfl rfl)
theorem dX3_year_66 : decode cX3_year 66 = .ok (.iconst 0, 1) := dk_3 (dk_at dksX3_year_2 18 rfl rfl)
theorem dX3_year_67 : decode cX3_year 67 = .ok (.invokestatic 230, 3) := dk_184 0 230 (dk_at dksX3_year_2 19 rfl rfl)
theorem dX3_year_70 : decode cX3_year 70 = .ok (.iconst 0, 1) := dk_3 (dk_at dksX3_year_2 22 rfl rfl)
theorem dX3_year_71 : decode cX3_year 71 = .ok (.istore_n 2, 1) := dk_61 (dk_at dksX3_year_2 23 rfl rfl)
theorem dX3_year_72 : decode cX3_year 72 = .ok (.iload_n 2, 1) := dk_28 (dk_at dksX3_year_3 0 rfl rfl)
theorem dX3_year_73 : decode cX3_year 73 = .ok (.iload_n 1, 1) := dk_27 (dk_at dksX3_year_3 1 rfl rfl)
theorem dX3_year_74 : decode cX3_year 74 = .ok (.if_icmp .ge 44, 3) := dk_162 0 44 (dk_at dksX3_year_3 2 rfl rfl)
theorem dX3_year_77 : decode cX3_year 77 = .ok (.aload_n 0, 1) := dk_42 (dk_at dksX3_year_3 5 rfl rfl)
theorem dX3_year_78 : decode cX3_year 78 = .ok (.aload_n 0, 1) := dk_42 (dk_at dksX3_year_3 6 rfl rfl)
theorem dX3_year_79 : decode cX3_year 79 = .ok (.getfield 61, 3) := dk_180 0 61 (dk_at dksX3_year_3 7 rfl rfl)
theorem dX3_year_82 : decode cX3_year 82 = .ok (.iconst 3, 1) := dk_6 (dk_at dksX3_year_3 10 rfl rfl)
theorem dX3_year_83 : decode cX3_year 83 = .ok (.iload_n 2, 1) := dk_28 (dk_at dksX3_year_3 11 rfl rfl)
theorem dX3_year_84 : decode cX3_year 84 = .ok (.imul, 1) := dk_104 (dk_at dksX3_year_3 12 rfl rfl)
theorem dX3_year_85 : decode cX3_year 85 = .ok (.iaload, 1) := dk_46 (dk_at dksX3_year_3 13 rfl rfl)
theorem dX3_year_86 : decode cX3_year 86 = .ok (.aload_n 0, 1) := dk_42 (dk_at dksX3_year_3 14 rfl rfl)
theorem dX3_year_87 : decode cX3_year 87 = .ok (.getfield 61, 3) := dk_180 0 61 (dk_at dksX3_year_3 15 rfl rfl)
theorem dX3_year_90 : decode cX3_year 90 = .ok (.iconst 3, 1) := dk_6 (dk_at dksX3_year_3 18 rfl rfl)
theorem dX3_year_91 : decode cX3_year 91 = .ok (.iload_n 2, 1) := dk_28 (dk_at dksX3_year_3 19 rfl rfl)
theorem dX3_year_92 : decode cX3_year 92 = .ok (.imul, 1) := dk_104 (dk_at dksX3_year_3 20 rfl rfl)
theorem dX3_year_93 : decode cX3_year 93 = .ok (.iconst 1, 1) := dk_4 (dk_at dksX3_year_3 21 rfl rfl)
theorem dX3_year_94 : decode cX3_year 94 = .ok (.iadd, 1) := dk_96 (dk_at dksX3_year_3 22 rfl rfl)
theorem dX3_year_95 : decode cX3_year 95 = .ok (.iaload, 1) := dk_46 (dk_at dksX3_year_3 23 rfl rfl)
theorem dX3_year_96 : decode cX3_year 96 = .ok (.aload_n 0, 1) := dk_42 (dk_at dksX3_year_4 0 rfl rfl)
theorem dX3_year_97 : decode cX3_year 97 = .ok (.getfield 61, 3) := dk_180 0 61 (dk_at dksX3_year_4 1 rfl rfl)
theorem dX3_year_100 : decode cX3_year 100 = .ok (.iconst 3, 1) := dk_6 (dk_at dksX3_year_4 4 rfl rfl)
theorem dX3_year_101 : decode cX3_year 101 = .ok (.iload_n 2, 1) := dk_28 (dk_at dksX3_year_4 5 rfl rfl)
theorem dX3_year_102 : decode cX3_year 102 = .ok (.imul, 1) := dk_104 (dk_at dksX3_year_4 6 rfl rfl)
theorem dX3_year_103 : decode cX3_year 103 = .ok (.iconst 2, 1) := dk_5 (dk_at dksX3_year_4 7 rfl rfl)
theorem dX3_year_104 : decode cX3_year 104 = .ok (.iadd, 1) := dk_96 (dk_at dksX3_year_4 8 rfl rfl)
theorem dX3_year_105 : decode cX3_year 105 = .ok (.iaload, 1) := dk_46 (dk_at dksX3_year_4 9 rfl rfl)
theorem dX3_year_106 : decode cX3_year 106 = .ok (.invokevirtual 271, 3) := dk_182 1 15 (dk_at dksX3_year_4 10 rfl rfl)
theorem dX3_year_109 : decode cX3_year 109 = .ok (.ifCond .eq 9, 3) := dk_153 0 9 (dk_at dksX3_year_4 13 rfl rfl)
theorem dX3_year_112 : decode cX3_year 112 = .ok (.iinc 2 1, 3) := dk_132 2 1 (dk_at dksX3_year_4 16 rfl rfl)
theorem dX3_year_115 : decode cX3_year 115 = .ok (.goto (-43), 3) := dk_167 255 213 (dk_at dksX3_year_4 19 rfl rfl)
theorem dX3_year_118 : decode cX3_year 118 = .ok (.iload_n 2, 1) := dk_28 (dk_at dksX3_year_4 22 rfl rfl)
theorem dX3_year_119 : decode cX3_year 119 = .ok (.ifCond .le 11, 3) := dk_158 0 11 (dk_at dksX3_year_5 0 rfl rfl)
theorem dX3_year_122 : decode cX3_year 122 = .ok (.aload_n 0, 1) := dk_42 (dk_at dksX3_year_5 3 rfl rfl)
theorem dX3_year_123 : decode cX3_year 123 = .ok (.aload_n 0, 1) := dk_42 (dk_at dksX3_year_5 4 rfl rfl)
theorem dX3_year_124 : decode cX3_year 124 = .ok (.getfield 45, 3) := dk_180 0 45 (dk_at dksX3_year_5 5 rfl rfl)
theorem dX3_year_127 : decode cX3_year 127 = .ok (.invokevirtual 241, 3) := dk_182 0 241 (dk_at dksX3_year_5 8 rfl rfl)
theorem dX3_year_130 : decode cX3_year 130 = .ok (.aload_n 0, 1) := dk_42 (dk_at dksX3_year_5 11 rfl rfl)
theorem dX3_year_131 : decode cX3_year 131 = .ok (.iconst 0, 1) := dk_3 (dk_at dksX3_year_5 12 rfl rfl)
theorem dX3_year_132 : decode cX3_year 132 = .ok (.putfield 98, 3) := dk_181 0 98 (dk_at dksX3_year_5 13 rfl rfl)
theorem dX3_year_135 : decode cX3_year 135 = .ok (.aload_n 0, 1) := dk_42 (dk_at dksX3_year_5 16 rfl rfl)
theorem dX3_year_136 : decode cX3_year 136 = .ok (.iload_n 2, 1) := dk_28 (dk_at dksX3_year_5 17 rfl rfl)
theorem dX3_year_137 : decode cX3_year 137 = .ok (.iload_n 1, 1) := dk_27 (dk_at dksX3_year_5 18 rfl rfl)
theorem dX3_year_138 : decode cX3_year 138 = .ok (.if_icmp .ge 7, 3) := dk_162 0 7 (dk_at dksX3_year_5 19 rfl rfl)
theorem dX3_year_141 : decode cX3_year 141 = .ok (.lconst 1, 1) := dk_10 (dk_at dksX3_year_5 22 rfl rfl)
theorem dX3_year_142 : decode cX3_year 142 = .ok (.goto 4, 3) := dk_167 0 4 (dk_at dksX3_year_6 0 rfl rfl)
theorem dX3_year_145 : decode cX3_year 145 = .ok (.lconst 0, 1) := dk_9 (dk_at dksX3_year_6 3 rfl rfl)
theorem dX3_year_146 : decode cX3_year 146 = .ok (.invokevirtual 248, 3) := dk_182 0 248 (dk_at dksX3_year_6 4 rfl rfl)
theorem dX3_year_149 : decode cX3_year 149 = .ok (.aload_n 0, 1) := dk_42 (dk_at dksX3_year_6 7 rfl rfl)
theorem dX3_year_150 : decode cX3_year 150 = .ok (.aload_n 0, 1) := dk_42 (dk_at dksX3_year_6 8 rfl rfl)
theorem dX3_year_151 : decode cX3_year 151 = .ok (.aload_n 0, 1) := dk_42 (dk_at dksX3_year_6 9 rfl rfl)
theorem dX3_year_152 : decode cX3_year 152 = .ok (.getfield 9, 3) := dk_180 0 9 (dk_at dksX3_year_6 10 rfl rfl)
theorem dX3_year_155 : decode cX3_year 155 = .ok (.iconst 0, 1) := dk_3 (dk_at dksX3_year_6 13 rfl rfl)
theorem dX3_year_156 : decode cX3_year 156 = .ok (.invokevirtual 227, 3) := dk_182 0 227 (dk_at dksX3_year_6 14 rfl rfl)
theorem dX3_year_159 : decode cX3_year 159 = .ok (.i2l, 1) := dk_133 (dk_at dksX3_year_6 17 rfl rfl)
theorem dX3_year_160 : decode cX3_year 160 = .ok (.invokevirtual 248, 3) := dk_182 0 248 (dk_at dksX3_year_6 18 rfl rfl)
theorem dX3_year_163 : decode cX3_year 163 = .ok (.iload_n 2, 1) := dk_28 (dk_at dksX3_year_6 21 rfl rfl)
theorem dX3_year_164 : decode cX3_year 164 = .ok (.ireturn, 1) := dk_172 (dk_at dksX3_year_6 22 rfl rfl)
abbrev cX3_readAct : ByteArray := prog_9_method_53_code
def yX3_readAct : MethodName := ⟨RX3, "readAct", "(I)V"⟩
def dkwX3_readAct_5 : List UInt8 := [180, 0, 61, 27, 5, 96, 42, 16, 97, 7, 182, 0, 150, 79, 177]
abbrev dktX3_readAct_5 : List UInt8 := dkwX3_readAct_5 ++ []
def dkwX3_readAct_4 : List UInt8 := [180, 0, 61, 27, 5, 96, 42, 16, 48, 16, 10, 182, 0, 150, 79, 28, 16, 103, 160, 0, 18, 42]
abbrev dktX3_readAct_4 : List UInt8 := dkwX3_readAct_4 ++ dktX3_readAct_5
def dkwX3_readAct_3 : List UInt8 := [180, 0, 61, 27, 4, 96, 42, 16, 48, 16, 10, 182, 0, 150, 79, 28, 16, 116, 160, 0, 19, 42]
abbrev dktX3_readAct_3 : List UInt8 := dkwX3_readAct_3 ++ dktX3_readAct_4
def dkwX3_readAct_2 : List UInt8 := [182, 0, 146, 177, 42, 89, 180, 0, 124, 4, 96, 181, 0, 124, 42, 180, 0, 61, 27, 28, 79, 42]
abbrev dktX3_readAct_2 : List UInt8 := dkwX3_readAct_2 ++ dktX3_readAct_3
def dkwX3_readAct_1 : List UInt8 := [16, 99, 159, 0, 24, 28, 16, 116, 159, 0, 18, 28, 16, 103, 159, 0, 12, 42, 42, 180, 0, 124]
abbrev dktX3_readAct_1 : List UInt8 := dkwX3_readAct_1 ++ dktX3_readAct_2
def dkwX3_readAct_0 : List UInt8 := [42, 182, 0, 138, 61, 28, 16, 110, 159, 0, 42, 28, 16, 112, 159, 0, 36, 28, 16, 115, 159, 0, 30, 28]
abbrev dktX3_readAct_0 : List UInt8 := dkwX3_readAct_0 ++ dktX3_readAct_1
theorem dksX3_readAct_0 : cX3_readAct.data.toList.drop 0 = dktX3_readAct_0 := by decide +kernel
theorem dksX3_readAct_1 : cX3_readAct.data.toList.drop 24 = dktX3_readAct_1 := dk_seg dksX3_readAct_0 24 rfl rfl
theorem dksX3_readAct_2 : cX3_readAct.data.toList.drop 46 = dktX3_readAct_2 := dk_seg dksX3_readAct_1 22 rfl rfl
theorem dksX3_readAct_3 : cX3_readAct.data.toList.drop 68 = dktX3_readAct_3 := dk_seg dksX3_readAct_2 22 rfl rfl
theorem dksX3_readAct_4 : cX3_readAct.data.toList.drop 90 = dktX3_readAct_4 := dk_seg dksX3_readAct_3 22 rfl rfl
theorem dksX3_readAct_5 : cX3_readAct.data.toList.drop 112 = dktX3_readAct_5 := dk_seg dksX3_readAct_4 22 rfl rfl
theorem dX3_readAct_0 : decode cX3_readAct 0 = .ok (.aload_n 0, 1) := dk_42 (dk_at dksX3_readAct_0 0 rfl rfl)
theorem dX3_readAct_1 : decode cX3_readAct 1 = .ok (.invokevirtual 138, 3) := dk_182 0 138 (dk_at dksX3_readAct_0 1 rfl rfl)
theorem dX3_readAct_4 : decode cX3_readAct 4 = .ok (.istore_n 2, 1) := dk_61 (dk_at dksX3_readAct_0 4 rfl rfl)
theorem dX3_readAct_5 : decode cX3_readAct 5 = .ok (.iload_n 2, 1) := dk_28 (dk_at dksX3_readAct_0 5 rfl rfl)
theorem dX3_readAct_6 : decode cX3_readAct 6 = .ok (.bipush 110, 2) := dk_16 110 (dk_at dksX3_readAct_0 6 rfl rfl)
theorem dX3_readAct_8 : decode cX3_readAct 8 = .ok (.if_icmp .eq 42, 3) := dk_159 0 42 (dk_at dksX3_readAct_0 8 rfl rfl)
theorem dX3_readAct_11 : decode cX3_readAct 11 = .ok (.iload_n 2, 1) := dk_28 (dk_at dksX3_readAct_0 11 rfl rfl)
theorem dX3_readAct_12 : decode cX3_readAct 12 = .ok (.bipush 112, 2) := dk_16 112 (dk_at dksX3_readAct_0 12 rfl rfl)
theorem dX3_readAct_14 : decode cX3_readAct 14 = .ok (.if_icmp .eq 36, 3) := dk_159 0 36 (dk_at dksX3_readAct_0 14 rfl rfl)
theorem dX3_readAct_17 : decode cX3_readAct 17 = .ok (.iload_n 2, 1) := dk_28 (dk_at dksX3_readAct_0 17 rfl rfl)
theorem dX3_readAct_18 : decode cX3_readAct 18 = .ok (.bipush 115, 2) := dk_16 115 (dk_at dksX3_readAct_0 18 rfl rfl)
theorem dX3_readAct_20 : decode cX3_readAct 20 = .ok (.if_icmp .eq 30, 3) := dk_159 0 30 (dk_at dksX3_readAct_0 20 rfl rfl)
theorem dX3_readAct_23 : decode cX3_readAct 23 = .ok (.iload_n 2, 1) := dk_28 (dk_at dksX3_readAct_0 23 rfl rfl)
theorem dX3_readAct_24 : decode cX3_readAct 24 = .ok (.bipush 99, 2) := dk_16 99 (dk_at dksX3_readAct_1 0 rfl rfl)
theorem dX3_readAct_26 : decode cX3_readAct 26 = .ok (.if_icmp .eq 24, 3) := dk_159 0 24 (dk_at dksX3_readAct_1 2 rfl rfl)
theorem dX3_readAct_29 : decode cX3_readAct 29 = .ok (.iload_n 2, 1) := dk_28 (dk_at dksX3_readAct_1 5 rfl rfl)
theorem dX3_readAct_30 : decode cX3_readAct 30 = .ok (.bipush 116, 2) := dk_16 116 (dk_at dksX3_readAct_1 6 rfl rfl)
theorem dX3_readAct_32 : decode cX3_readAct 32 = .ok (.if_icmp .eq 18, 3) := dk_159 0 18 (dk_at dksX3_readAct_1 8 rfl rfl)
theorem dX3_readAct_35 : decode cX3_readAct 35 = .ok (.iload_n 2, 1) := dk_28 (dk_at dksX3_readAct_1 11 rfl rfl)
theorem dX3_readAct_36 : decode cX3_readAct 36 = .ok (.bipush 103, 2) := dk_16 103 (dk_at dksX3_readAct_1 12 rfl rfl)
theorem dX3_readAct_38 : decode cX3_readAct 38 = .ok (.if_icmp .eq 12, 3) := dk_159 0 12 (dk_at dksX3_readAct_1 14 rfl rfl)
theorem dX3_readAct_41 : decode cX3_readAct 41 = .ok (.aload_n 0, 1) := dk_42 (dk_at dksX3_readAct_1 17 rfl rfl)
theorem dX3_readAct_42 : decode cX3_readAct 42 = .ok (.aload_n 0, 1) := dk_42 (dk_at dksX3_readAct_1 18 rfl rfl)
theorem dX3_readAct_43 : decode cX3_readAct 43 = .ok (.getfield 124, 3) := dk_180 0 124 (dk_at dksX3_readAct_1 19 rfl rfl)
theorem dX3_readAct_46 : decode cX3_readAct 46 = .ok (.invokevirtual 146, 3) := dk_182 0 146 (dk_at dksX3_readAct_2 0 rfl rfl)
theorem dX3_readAct_49 : decode cX3_readAct 49 = .ok (.return_, 1) := dk_177 (dk_at dksX3_readAct_2 3 rfl rfl)
theorem dX3_readAct_50 : decode cX3_readAct 50 = .ok (.aload_n 0, 1) := dk_42 (dk_at dksX3_readAct_2 4 rfl rfl)
theorem dX3_readAct_51 : decode cX3_readAct 51 = .ok (.dup, 1) := dk_89 (dk_at dksX3_readAct_2 5 rfl rfl)
theorem dX3_readAct_52 : decode cX3_readAct 52 = .ok (.getfield 124, 3) := dk_180 0 124 (dk_at dksX3_readAct_2 6 rfl rfl)
theorem dX3_readAct_55 : decode cX3_readAct 55 = .ok (.iconst 1, 1) := dk_4 (dk_at dksX3_readAct_2 9 rfl rfl)
theorem dX3_readAct_56 : decode cX3_readAct 56 = .ok (.iadd, 1) := dk_96 (dk_at dksX3_readAct_2 10 rfl rfl)
theorem dX3_readAct_57 : decode cX3_readAct 57 = .ok (.putfield 124, 3) := dk_181 0 124 (dk_at dksX3_readAct_2 11 rfl rfl)
theorem dX3_readAct_60 : decode cX3_readAct 60 = .ok (.aload_n 0, 1) := dk_42 (dk_at dksX3_readAct_2 14 rfl rfl)
theorem dX3_readAct_61 : decode cX3_readAct 61 = .ok (.getfield 61, 3) := dk_180 0 61 (dk_at dksX3_readAct_2 15 rfl rfl)
theorem dX3_readAct_64 : decode cX3_readAct 64 = .ok (.iload_n 1, 1) := dk_27 (dk_at dksX3_readAct_2 18 rfl rfl)
theorem dX3_readAct_65 : decode cX3_readAct 65 = .ok (.iload_n 2, 1) := dk_28 (dk_at dksX3_readAct_2 19 rfl rfl)
theorem dX3_readAct_66 : decode cX3_readAct 66 = .ok (.iastore, 1) := dk_79 (dk_at dksX3_readAct_2 20 rfl rfl)
theorem dX3_readAct_67 : decode cX3_readAct 67 = .ok (.aload_n 0, 1) := dk_42 (dk_at dksX3_readAct_2 21 rfl rfl)
theorem dX3_readAct_68 : decode cX3_readAct 68 = .ok (.getfield 61, 3) := dk_180 0 61 (dk_at dksX3_readAct_3 0 rfl rfl)
theorem dX3_readAct_71 : decode cX3_readAct 71 = .ok (.iload_n 1, 1) := dk_27 (dk_at dksX3_readAct_3 3 rfl rfl)
theorem dX3_readAct_72 : decode cX3_readAct 72 = .ok (.iconst 1, 1) := dk_4 (dk_at dksX3_readAct_3 4 rfl rfl)
theorem dX3_readAct_73 : decode cX3_readAct 73 = .ok (.iadd, 1) := dk_96 (dk_at dksX3_readAct_3 5 rfl rfl)
theorem dX3_readAct_74 : decode cX3_readAct 74 = .ok (.aload_n 0, 1) := dk_42 (dk_at dksX3_readAct_3 6 rfl rfl)
theorem dX3_readAct_75 : decode cX3_readAct 75 = .ok (.bipush 48, 2) := dk_16 48 (dk_at dksX3_readAct_3 7 rfl rfl)
theorem dX3_readAct_77 : decode cX3_readAct 77 = .ok (.bipush 10, 2) := dk_16 10 (dk_at dksX3_readAct_3 9 rfl rfl)
theorem dX3_readAct_79 : decode cX3_readAct 79 = .ok (.invokevirtual 150, 3) := dk_182 0 150 (dk_at dksX3_readAct_3 11 rfl rfl)
theorem dX3_readAct_82 : decode cX3_readAct 82 = .ok (.iastore, 1) := dk_79 (dk_at dksX3_readAct_3 14 rfl rfl)
theorem dX3_readAct_83 : decode cX3_readAct 83 = .ok (.iload_n 2, 1) := dk_28 (dk_at dksX3_readAct_3 15 rfl rfl)
theorem dX3_readAct_84 : decode cX3_readAct 84 = .ok (.bipush 116, 2) := dk_16 116 (dk_at dksX3_readAct_3 16 rfl rfl)
theorem dX3_readAct_86 : decode cX3_readAct 86 = .ok (.if_icmp .ne 19, 3) := dk_160 0 19 (dk_at dksX3_readAct_3 18 rfl rfl)
theorem dX3_readAct_89 : decode cX3_readAct 89 = .ok (.aload_n 0, 1) := dk_42 (dk_at dksX3_readAct_3 21 rfl rfl)
theorem dX3_readAct_90 : decode cX3_readAct 90 = .ok (.getfield 61, 3) := dk_180 0 61 (dk_at dksX3_readAct_4 0 rfl rfl)
theorem dX3_readAct_93 : decode cX3_readAct 93 = .ok (.iload_n 1, 1) := dk_27 (dk_at dksX3_readAct_4 3 rfl rfl)
theorem dX3_readAct_94 : decode cX3_readAct 94 = .ok (.iconst 2, 1) := dk_5 (dk_at dksX3_readAct_4 4 rfl rfl)
theorem dX3_readAct_95 : decode cX3_readAct 95 = .ok (.iadd, 1) := dk_96 (dk_at dksX3_readAct_4 5 rfl rfl)
theorem dX3_readAct_96 : decode cX3_readAct 96 = .ok (.aload_n 0, 1) := dk_42 (dk_at dksX3_readAct_4 6 rfl rfl)
theorem dX3_readAct_97 : decode cX3_readAct 97 = .ok (.bipush 48, 2) := dk_16 48 (dk_at dksX3_readAct_4 7 rfl rfl)
theorem dX3_readAct_99 : decode cX3_readAct 99 = .ok (.bipush 10, 2) := dk_16 10 (dk_at dksX3_readAct_4 9 rfl rfl)
theorem dX3_readAct_101 : decode cX3_readAct 101 = .ok (.invokevirtual 150, 3) := dk_182 0 150 (dk_at dksX3_readAct_4 11 rfl rfl)
theorem dX3_readAct_104 : decode cX3_readAct 104 = .ok (.iastore, 1) := dk_79 (dk_at dksX3_readAct_4 14 rfl rfl)
theorem dX3_readAct_105 : decode cX3_readAct 105 = .ok (.iload_n 2, 1) := dk_28 (dk_at dksX3_readAct_4 15 rfl rfl)
theorem dX3_readAct_106 : decode cX3_readAct 106 = .ok (.bipush 103, 2) := dk_16 103 (dk_at dksX3_readAct_4 16 rfl rfl)
theorem dX3_readAct_108 : decode cX3_readAct 108 = .ok (.if_icmp .ne 18, 3) := dk_160 0 18 (dk_at dksX3_readAct_4 18 rfl rfl)
theorem dX3_readAct_111 : decode cX3_readAct 111 = .ok (.aload_n 0, 1) := dk_42 (dk_at dksX3_readAct_4 21 rfl rfl)
theorem dX3_readAct_112 : decode cX3_readAct 112 = .ok (.getfield 61, 3) := dk_180 0 61 (dk_at dksX3_readAct_5 0 rfl rfl)
theorem dX3_readAct_115 : decode cX3_readAct 115 = .ok (.iload_n 1, 1) := dk_27 (dk_at dksX3_readAct_5 3 rfl rfl)
theorem dX3_readAct_116 : decode cX3_readAct 116 = .ok (.iconst 2, 1) := dk_5 (dk_at dksX3_readAct_5 4 rfl rfl)
theorem dX3_readAct_117 : decode cX3_readAct 117 = .ok (.iadd, 1) := dk_96 (dk_at dksX3_readAct_5 5 rfl rfl)
theorem dX3_readAct_118 : decode cX3_readAct 118 = .ok (.aload_n 0, 1) := dk_42 (dk_at dksX3_readAct_5 6 rfl rfl)
theorem dX3_readAct_119 : decode cX3_readAct 119 = .ok (.bipush 97, 2) := dk_16 97 (dk_at dksX3_readAct_5 7 rfl rfl)
theorem dX3_readAct_121 : decode cX3_readAct 121 = .ok (.iconst 4, 1) := dk_7 (dk_at dksX3_readAct_5 9 rfl rfl)
theorem dX3_readAct_122 : decode cX3_readAct 122 = .ok (.invokevirtual 150, 3) := dk_182 0 150 (dk_at dksX3_readAct_5 10 rfl rfl)
theorem dX3_readAct_125 : decode cX3_readAct 125 = .ok (.iastore, 1) := dk_79 (dk_at dksX3_readAct_5 13 rfl rfl)
theorem dX3_readAct_126 : decode cX3_readAct 126 = .ok (.return_, 1) := dk_177 (dk_at dksX3_readAct_5 14 rfl rfl)
abbrev cX3_act : ByteArray := prog_9_method_54_code
def yX3_act : MethodName := ⟨RX3, "act", "(III)Z"⟩
def dkwX3_act_6 : List UInt8 := [29, 16, 9, 182, 1, 5, 156, 0, 5, 3, 172, 42, 180, 0, 9, 21, 4, 28, 96, 29, 79, 4, 172]
abbrev dktX3_act_6 : List UInt8 := dkwX3_act_6 ++ []
def dkwX3_act_5 : List UInt8 := [96, 3, 79, 4, 172, 27, 16, 116, 160, 0, 8, 16, 18, 167, 0, 5, 16, 24, 54, 4, 42, 21, 4, 28]
abbrev dktX3_act_5 : List UInt8 := dkwX3_act_5 ++ dktX3_act_6
def dkwX3_act_4 : List UInt8 := [167, 0, 4, 3, 79, 4, 172, 42, 28, 182, 1, 2, 156, 0, 5, 3, 172, 42, 180, 0, 9, 16, 12, 28]
abbrev dktX3_act_4 : List UInt8 := dkwX3_act_4 ++ dktX3_act_5
def dkwX3_act_3 : List UInt8 := [182, 0, 252, 156, 0, 5, 3, 172, 42, 180, 0, 9, 16, 6, 28, 96, 27, 16, 112, 160, 0, 7, 4]
abbrev dktX3_act_3 : List UInt8 := dkwX3_act_3 ++ dktX3_act_4
def dkwX3_act_2 : List UInt8 := [42, 42, 180, 0, 9, 28, 182, 0, 244, 4, 172, 42, 28, 27, 16, 112, 160, 0, 7, 4, 167, 0, 4, 3]
abbrev dktX3_act_2 : List UInt8 := dkwX3_act_2 ++ dktX3_act_3
def dkwX3_act_1 : List UInt8 := [171, 0, 0, 0, 0, 0, 119, 0, 0, 0, 4, 0, 0, 0, 99, 0, 0, 0, 97, 0, 0, 0, 110, 0, 0, 0, 43, 0, 0, 0, 112, 0, 0, 0, 54, 0, 0, 0, 115, 0, 0, 0, 54]
abbrev dktX3_act_1 : List UInt8 := dkwX3_act_1 ++ dktX3_act_2
def dkwX3_act_0 : List UInt8 := [27]
abbrev dktX3_act_0 : List UInt8 := dkwX3_act_0 ++ dktX3_act_1
theorem dksX3_act_0 : cX3_act.data.toList.drop 0 = dktX3_act_0 := by decide +kernel
theorem dksX3_act_1 : cX3_act.data.toList.drop 1 = dktX3_act_1 := dk_seg dksX3_act_0 1 rfl rfl
theorem dksX3_act_2 : cX3_act.data.toList.drop 44 = dktX3_act_2 := dk_seg dksX3_act_1 43 rfl rfl
theorem dksX3_act_3 : cX3_act.data.toList.drop 68 = dktX3_act_3 := dk_seg dksX3_act_2 24 rfl rfl
theorem dksX3_act_4 : cX3_act.data.toList.drop 91 = dktX3_act_4 := dk_seg dksX3_act_3 23 rfl rfl
theorem dksX3_act_5 : cX3_act.data.toList.drop 115 = dktX3_act_5 := dk_seg dksX3_act_4 24 rfl rfl
theorem dksX3_act_6 : cX3_act.data.toList.drop 139 = dktX3_act_6 := dk_seg dksX3_act_5 24 rfl rfl
theorem dX3_act_0 : decode cX3_act 0 = .ok (.iload_n 1, 1) := dk_27 (dk_at dksX3_act_0 0 rfl rfl)
theorem dX3_act_1 : decode cX3_act 1 = .ok (.lookupswitch 119 #[(99, 97), (110, 43), (112, 54), (115, 54)], 43) := by decide +kernel
theorem dX3_act_44 : decode cX3_act 44 = .ok (.aload_n 0, 1) := dk_42 (dk_at dksX3_act_2 0 rfl rfl)
theorem dX3_act_45 : decode cX3_act 45 = .ok (.aload_n 0, 1) := dk_42 (dk_at dksX3_act_2 1 rfl rfl)
theorem dX3_act_46 : decode cX3_act 46 = .ok (.getfield 9, 3) := dk_180 0 9 (dk_at dksX3_act_2 2 rfl rfl)
theorem dX3_act_49 : decode cX3_act 49 = .ok (.iload_n 2, 1) := dk_28 (dk_at dksX3_act_2 5 rfl rfl)
theorem dX3_act_50 : decode cX3_act 50 = .ok (.invokevirtual 244, 3) := dk_182 0 244 (dk_at dksX3_act_2 6 rfl rfl)
theorem dX3_act_53 : decode cX3_act 53 = .ok (.iconst 1, 1) := dk_4 (dk_at dksX3_act_2 9 rfl rfl)
theorem dX3_act_54 : decode cX3_act 54 = .ok (.ireturn, 1) := dk_172 (dk_at dksX3_act_2 10 rfl rfl)
theorem dX3_act_55 : decode cX3_act 55 = .ok (.aload_n 0, 1) := dk_42 (dk_at dksX3_act_2 11 rfl rfl)
theorem dX3_act_56 : decode cX3_act 56 = .ok (.iload_n 2, 1) := dk_28 (dk_at dksX3_act_2 12 rfl rfl)
theorem dX3_act_57 : decode cX3_act 57 = .ok (.iload_n 1, 1) := dk_27 (dk_at dksX3_act_2 13 rfl rfl)
theorem dX3_act_58 : decode cX3_act 58 = .ok (.bipush 112, 2) := dk_16 112 (dk_at dksX3_act_2 14 rfl rfl)
theorem dX3_act_60 : decode cX3_act 60 = .ok (.if_icmp .ne 7, 3) := dk_160 0 7 (dk_at dksX3_act_2 16 rfl rfl)
theorem dX3_act_63 : decode cX3_act 63 = .ok (.iconst 1, 1) := dk_4 (dk_at dksX3_act_2 19 rfl rfl)
theorem dX3_act_64 : decode cX3_act 64 = .ok (.goto 4, 3) := dk_167 0 4 (dk_at dksX3_act_2 20 rfl rfl)
theorem dX3_act_67 : decode cX3_act 67 = .ok (.iconst 0, 1) := dk_3 (dk_at dksX3_act_2 23 rfl rfl)
theorem dX3_act_68 : decode cX3_act 68 = .ok (.invokevirtual 252, 3) := dk_182 0 252 (dk_at dksX3_act_3 0 rfl rfl)
theorem dX3_act_71 : decode cX3_act 71 = .ok (.ifCond .ge 5, 3) := dk_156 0 5 (dk_at dksX3_act_3 3 rfl rfl)
theorem dX3_act_74 : decode cX3_act 74 = .ok (.iconst 0, 1) := dk_3 (dk_at dksX3_act_3 6 rfl rfl)
theorem dX3_act_75 : decode cX3_act 75 = .ok (.ireturn, 1) := dk_172 (dk_at dksX3_act_3 7 rfl rfl)
theorem dX3_act_76 : decode cX3_act 76 = .ok (.aload_n 0, 1) := dk_42 (dk_at dksX3_act_3 8 rfl rfl)
theorem dX3_act_77 : decode cX3_act 77 = .ok (.getfield 9, 3) := dk_180 0 9 (dk_at dksX3_act_3 9 rfl rfl)
theorem dX3_act_80 : decode cX3_act 80 = .ok (.bipush 6, 2) := dk_16 6 (dk_at dksX3_act_3 12 rfl rfl)
theorem dX3_act_82 : decode cX3_act 82 = .ok (.iload_n 2, 1) := dk_28 (dk_at dksX3_act_3 14 rfl rfl)
theorem dX3_act_83 : decode cX3_act 83 = .ok (.iadd, 1) := dk_96 (dk_at dksX3_act_3 15 rfl rfl)
theorem dX3_act_84 : decode cX3_act 84 = .ok (.iload_n 1, 1) := dk_27 (dk_at dksX3_act_3 16 rfl rfl)
theorem dX3_act_85 : decode cX3_act 85 = .ok (.bipush 112, 2) := dk_16 112 (dk_at dksX3_act_3 17 rfl rfl)
theorem dX3_act_87 : decode cX3_act 87 = .ok (.if_icmp .ne 7, 3) := dk_160 0 7 (dk_at dksX3_act_3 19 rfl rfl)
theorem dX3_act_90 : decode cX3_act 90 = .ok (.iconst 1, 1) := dk_4 (dk_at dksX3_act_3 22 rfl rfl)
theorem dX3_act_91 : decode cX3_act 91 = .ok (.goto 4, 3) := dk_167 0 4 (dk_at dksX3_act_4 0 rfl rfl)
theorem dX3_act_94 : decode cX3_act 94 = .ok (.iconst 0, 1) := dk_3 (dk_at dksX3_act_4 3 rfl rfl)
theorem dX3_act_95 : decode cX3_act 95 = .ok (.iastore, 1) := dk_79 (dk_at dksX3_act_4 4 rfl rfl)
theorem dX3_act_96 : decode cX3_act 96 = .ok (.iconst 1, 1) := dk_4 (dk_at dksX3_act_4 5 rfl rfl)
theorem dX3_act_97 : decode cX3_act 97 = .ok (.ireturn, 1) := dk_172 (dk_at dksX3_act_4 6 rfl rfl)
theorem dX3_act_98 : decode cX3_act 98 = .ok (.aload_n 0, 1) := dk_42 (dk_at dksX3_act_4 7 rfl rfl)
theorem dX3_act_99 : decode cX3_act 99 = .ok (.iload_n 2, 1) := dk_28 (dk_at dksX3_act_4 8 rfl rfl)
theorem dX3_act_100 : decode cX3_act 100 = .ok (.invokevirtual 258, 3) := dk_182 1 2 (dk_at dksX3_act_4 9 rfl rfl)
theorem dX3_act_103 : decode cX3_act 103 = .ok (.ifCond .ge 5, 3) := dk_156 0 5 (dk_at dksX3_act_4 12 rfl rfl)
theorem dX3_act_106 : decode cX3_act 106 = .ok (.iconst 0, 1) := dk_3 (dk_at dksX3_act_4 15 rfl rfl)
theorem dX3_act_107 : decode cX3_act 107 = .ok (.ireturn, 1) := dk_172 (dk_at dksX3_act_4 16 rfl rfl)
theorem dX3_act_108 : decode cX3_act 108 = .ok (.aload_n 0, 1) := dk_42 (dk_at dksX3_act_4 17 rfl rfl)
theorem dX3_act_109 : decode cX3_act 109 = .ok (.getfield 9, 3) := dk_180 0 9 (dk_at dksX3_act_4 18 rfl rfl)
theorem dX3_act_112 : decode cX3_act 112 = .ok (.bipush 12, 2) := dk_16 12 (dk_at dksX3_act_4 21 rfl rfl)
theorem dX3_act_114 : decode cX3_act 114 = .ok (.iload_n 2, 1) := dk_28 (dk_at dksX3_act_4 23 rfl rfl)
theorem dX3_act_115 : decode cX3_act 115 = .ok (.iadd, 1) := dk_96 (dk_at dksX3_act_5 0 rfl rfl)
theorem dX3_act_116 : decode cX3_act 116 = .ok (.iconst 0, 1) := dk_3 (dk_at dksX3_act_5 1 rfl rfl)
theorem dX3_act_117 : decode cX3_act 117 = .ok (.iastore, 1) := dk_79 (dk_at dksX3_act_5 2 rfl rfl)
theorem dX3_act_118 : decode cX3_act 118 = .ok (.iconst 1, 1) := dk_4 (dk_at dksX3_act_5 3 rfl rfl)
theorem dX3_act_119 : decode cX3_act 119 = .ok (.ireturn, 1) := dk_172 (dk_at dksX3_act_5 4 rfl rfl)
theorem dX3_act_120 : decode cX3_act 120 = .ok (.iload_n 1, 1) := dk_27 (dk_at dksX3_act_5 5 rfl rfl)
theorem dX3_act_121 : decode cX3_act 121 = .ok (.bipush 116, 2) := dk_16 116 (dk_at dksX3_act_5 6 rfl rfl)
theorem dX3_act_123 : decode cX3_act 123 = .ok (.if_icmp .ne 8, 3) := dk_160 0 8 (dk_at dksX3_act_5 8 rfl rfl)
theorem dX3_act_126 : decode cX3_act 126 = .ok (.bipush 18, 2) := dk_16 18 (dk_at dksX3_act_5 11 rfl rfl)
theorem dX3_act_128 : decode cX3_act 128 = .ok (.goto 5, 3) := dk_167 0 5 (dk_at dksX3_act_5 13 rfl rfl)
theorem dX3_act_131 : decode cX3_act 131 = .ok (.bipush 24, 2) := dk_16 24 (dk_at dksX3_act_5 16 rfl rfl)
theorem dX3_act_133 : decode cX3_act 133 = .ok (.istore 4, 2) := dk_54 4 (dk_at dksX3_act_5 18 rfl rfl)
theorem dX3_act_135 : decode cX3_act 135 = .ok (.aload_n 0, 1) := dk_42 (dk_at dksX3_act_5 20 rfl rfl)
theorem dX3_act_136 : decode cX3_act 136 = .ok (.iload 4, 2) := dk_21 4 (dk_at dksX3_act_5 21 rfl rfl)
theorem dX3_act_138 : decode cX3_act 138 = .ok (.iload_n 2, 1) := dk_28 (dk_at dksX3_act_5 23 rfl rfl)
theorem dX3_act_139 : decode cX3_act 139 = .ok (.iload_n 3, 1) := dk_29 (dk_at dksX3_act_6 0 rfl rfl)
theorem dX3_act_140 : decode cX3_act 140 = .ok (.bipush 9, 2) := dk_16 9 (dk_at dksX3_act_6 1 rfl rfl)
theorem dX3_act_142 : decode cX3_act 142 = .ok (.invokevirtual 261, 3) := dk_182 1 5 (dk_at dksX3_act_6 3 rfl rfl)
theorem dX3_act_145 : decode cX3_act 145 = .ok (.ifCond .ge 5, 3) := dk_156 0 5 (dk_at dksX3_act_6 6 rfl rfl)
theorem dX3_act_148 : decode cX3_act 148 = .ok (.iconst 0, 1) := dk_3 (dk_at dksX3_act_6 9 rfl rfl)
theorem dX3_act_149 : decode cX3_act 149 = .ok (.ireturn, 1) := dk_172 (dk_at dksX3_act_6 10 rfl rfl)
theorem dX3_act_150 : decode cX3_act 150 = .ok (.aload_n 0, 1) := dk_42 (dk_at dksX3_act_6 11 rfl rfl)
theorem dX3_act_151 : decode cX3_act 151 = .ok (.getfield 9, 3) := dk_180 0 9 (dk_at dksX3_act_6 12 rfl rfl)
theorem dX3_act_154 : decode cX3_act 154 = .ok (.iload 4, 2) := dk_21 4 (dk_at dksX3_act_6 15 rfl rfl)
theorem dX3_act_156 : decode cX3_act 156 = .ok (.iload_n 2, 1) := dk_28 (dk_at dksX3_act_6 17 rfl rfl)
theorem dX3_act_157 : decode cX3_act 157 = .ok (.iadd, 1) := dk_96 (dk_at dksX3_act_6 18 rfl rfl)
theorem dX3_act_158 : decode cX3_act 158 = .ok (.iload_n 3, 1) := dk_29 (dk_at dksX3_act_6 19 rfl rfl)
theorem dX3_act_159 : decode cX3_act 159 = .ok (.iastore, 1) := dk_79 (dk_at dksX3_act_6 20 rfl rfl)
theorem dX3_act_160 : decode cX3_act 160 = .ok (.iconst 1, 1) := dk_4 (dk_at dksX3_act_6 21 rfl rfl)
theorem dX3_act_161 : decode cX3_act 161 = .ok (.ireturn, 1) := dk_172 (dk_at dksX3_act_6 22 rfl rfl)
abbrev cX3_undo : ByteArray := prog_9_method_55_code
def yX3_undo : MethodName := ⟨RX3, "undo", "()I"⟩
def dkwX3_undo_2 : List UInt8 := [27, 96, 46, 79, 132, 1, 1, 167, 255, 227, 42, 180, 0, 163, 172]
abbrev dktX3_undo_2 : List UInt8 := dkwX3_undo_2 ++ []
def dkwX3_undo_1 : List UInt8 := [3, 60, 27, 16, 33, 162, 0, 29, 42, 180, 0, 9, 27, 42, 180, 0, 42, 16, 33, 42, 180, 0, 163, 104]
abbrev dktX3_undo_1 : List UInt8 := dkwX3_undo_1 ++ dktX3_undo_2
def dkwX3_undo_0 : List UInt8 := [42, 3, 181, 0, 95, 42, 180, 0, 163, 154, 0, 5, 2, 172, 42, 89, 180, 0, 163, 4, 100, 181, 0, 163]
abbrev dktX3_undo_0 : List UInt8 := dkwX3_undo_0 ++ dktX3_undo_1
theorem dksX3_undo_0 : cX3_undo.data.toList.drop 0 = dktX3_undo_0 := by decide +kernel
theorem dksX3_undo_1 : cX3_undo.data.toList.drop 24 = dktX3_undo_1 := dk_seg dksX3_undo_0 24 rfl rfl
theorem dksX3_undo_2 : cX3_undo.data.toList.drop 48 = dktX3_undo_2 := dk_seg dksX3_undo_1 24 rfl rfl
theorem dX3_undo_0 : decode cX3_undo 0 = .ok (.aload_n 0, 1) := dk_42 (dk_at dksX3_undo_0 0 rfl rfl)
theorem dX3_undo_1 : decode cX3_undo 1 = .ok (.iconst 0, 1) := dk_3 (dk_at dksX3_undo_0 1 rfl rfl)
theorem dX3_undo_2 : decode cX3_undo 2 = .ok (.putfield 95, 3) := dk_181 0 95 (dk_at dksX3_undo_0 2 rfl rfl)
theorem dX3_undo_5 : decode cX3_undo 5 = .ok (.aload_n 0, 1) := dk_42 (dk_at dksX3_undo_0 5 rfl rfl)
theorem dX3_undo_6 : decode cX3_undo 6 = .ok (.getfield 163, 3) := dk_180 0 163 (dk_at dksX3_undo_0 6 rfl rfl)
theorem dX3_undo_9 : decode cX3_undo 9 = .ok (.ifCond .ne 5, 3) := dk_154 0 5 (dk_at dksX3_undo_0 9 rfl rfl)
theorem dX3_undo_12 : decode cX3_undo 12 = .ok (.iconst (-1), 1) := dk_2 (dk_at dksX3_undo_0 12 rfl rfl)
theorem dX3_undo_13 : decode cX3_undo 13 = .ok (.ireturn, 1) := dk_172 (dk_at dksX3_undo_0 13 rfl rfl)
theorem dX3_undo_14 : decode cX3_undo 14 = .ok (.aload_n 0, 1) := dk_42 (dk_at dksX3_undo_0 14 rfl rfl)
theorem dX3_undo_15 : decode cX3_undo 15 = .ok (.dup, 1) := dk_89 (dk_at dksX3_undo_0 15 rfl rfl)
theorem dX3_undo_16 : decode cX3_undo 16 = .ok (.getfield 163, 3) := dk_180 0 163 (dk_at dksX3_undo_0 16 rfl rfl)
theorem dX3_undo_19 : decode cX3_undo 19 = .ok (.iconst 1, 1) := dk_4 (dk_at dksX3_undo_0 19 rfl rfl)
theorem dX3_undo_20 : decode cX3_undo 20 = .ok (.isub, 1) := dk_100 (dk_at dksX3_undo_0 20 rfl rfl)
theorem dX3_undo_21 : decode cX3_undo 21 = .ok (.putfield 163, 3) := dk_181 0 163 (dk_at dksX3_undo_0 21 rfl rfl)
theorem dX3_undo_24 : decode cX3_undo 24 = .ok (.iconst 0, 1) := dk_3 (dk_at dksX3_undo_1 0 rfl rfl)
theorem dX3_undo_25 : decode cX3_undo 25 = .ok (.istore_n 1, 1) := dk_60 (dk_at dksX3_undo_1 1 rfl rfl)
theorem dX3_undo_26 : decode cX3_undo 26 = .ok (.iload_n 1, 1) := dk_27 (dk_at dksX3_undo_1 2 rfl rfl)
theorem dX3_undo_27 : decode cX3_undo 27 = .ok (.bipush 33, 2) := dk_16 33 (dk_at dksX3_undo_1 3 rfl rfl)
theorem dX3_undo_29 : decode cX3_undo 29 = .ok (.if_icmp .ge 29, 3) := dk_162 0 29 (dk_at dksX3_undo_1 5 rfl rfl)
theorem dX3_undo_32 : decode cX3_undo 32 = .ok (.aload_n 0, 1) := dk_42 (dk_at dksX3_undo_1 8 rfl rfl)
theorem dX3_undo_33 : decode cX3_undo 33 = .ok (.getfield 9, 3) := dk_180 0 9 (dk_at dksX3_undo_1 9 rfl rfl)
theorem dX3_undo_36 : decode cX3_undo 36 = .ok (.iload_n 1, 1) := dk_27 (dk_at dksX3_undo_1 12 rfl rfl)
theorem dX3_undo_37 : decode cX3_undo 37 = .ok (.aload_n 0, 1) := dk_42 (dk_at dksX3_undo_1 13 rfl rfl)
theorem dX3_undo_38 : decode cX3_undo 38 = .ok (.getfield 42, 3) := dk_180 0 42 (dk_at dksX3_undo_1 14 rfl rfl)
theorem dX3_undo_41 : decode cX3_undo 41 = .ok (.bipush 33, 2) := dk_16 33 (dk_at dksX3_undo_1 17 rfl rfl)
theorem dX3_undo_43 : decode cX3_undo 43 = .ok (.aload_n 0, 1) := dk_42 (dk_at dksX3_undo_1 19 rfl rfl)
theorem dX3_undo_44 : decode cX3_undo 44 = .ok (.getfield 163, 3) := dk_180 0 163 (dk_at dksX3_undo_1 20 rfl rfl)
theorem dX3_undo_47 : decode cX3_undo 47 = .ok (.imul, 1) := dk_104 (dk_at dksX3_undo_1 23 rfl rfl)
theorem dX3_undo_48 : decode cX3_undo 48 = .ok (.iload_n 1, 1) := dk_27 (dk_at dksX3_undo_2 0 rfl rfl)
theorem dX3_undo_49 : decode cX3_undo 49 = .ok (.iadd, 1) := dk_96 (dk_at dksX3_undo_2 1 rfl rfl)
theorem dX3_undo_50 : decode cX3_undo 50 = .ok (.iaload, 1) := dk_46 (dk_at dksX3_undo_2 2 rfl rfl)
theorem dX3_undo_51 : decode cX3_undo 51 = .ok (.iastore, 1) := dk_79 (dk_at dksX3_undo_2 3 rfl rfl)
theorem dX3_undo_52 : decode cX3_undo 52 = .ok (.iinc 1 1, 3) := dk_132 1 1 (dk_at dksX3_undo_2 4 rfl rfl)
theorem dX3_undo_55 : decode cX3_undo 55 = .ok (.goto (-29), 3) := dk_167 255 227 (dk_at dksX3_undo_2 7 rfl rfl)
theorem dX3_undo_58 : decode cX3_undo 58 = .ok (.aload_n 0, 1) := dk_42 (dk_at dksX3_undo_2 10 rfl rfl)
theorem dX3_undo_59 : decode cX3_undo 59 = .ok (.getfield 163, 3) := dk_180 0 163 (dk_at dksX3_undo_2 11 rfl rfl)
theorem dX3_undo_62 : decode cX3_undo 62 = .ok (.ireturn, 1) := dk_172 (dk_at dksX3_undo_2 14 rfl rfl)
abbrev cX3_later : ByteArray := prog_9_method_57_code
def yX3_later : MethodName := ⟨RX3, "later", "(II)I"⟩
def dkwX3_later_2 : List UInt8 := [180, 0, 48, 29, 46, 133, 182, 0, 248, 132, 3, 1, 167, 255, 234, 42, 180, 0, 48, 27, 46, 172]
abbrev dktX3_later_2 : List UInt8 := dkwX3_later_2 ++ []
def dkwX3_later_1 : List UInt8 := [172, 42, 28, 182, 1, 18, 42, 3, 181, 0, 98, 3, 62, 29, 42, 180, 0, 101, 162, 0, 20, 42, 42]
abbrev dktX3_later_1 : List UInt8 := dkwX3_later_1 ++ dktX3_later_2
def dkwX3_later_0 : List UInt8 := [42, 3, 181, 0, 95, 42, 27, 182, 0, 108, 153, 0, 13, 28, 3, 16, 99, 184, 0, 104, 154, 0, 5, 2]
abbrev dktX3_later_0 : List UInt8 := dkwX3_later_0 ++ dktX3_later_1
theorem dksX3_later_0 : cX3_later.data.toList.drop 0 = dktX3_later_0 := by decide +kernel
theorem dksX3_later_1 : cX3_later.data.toList.drop 24 = dktX3_later_1 := dk_seg dksX3_later_0 24 rfl rfl
theorem dksX3_later_2 : cX3_later.data.toList.drop 47 = dktX3_later_2 := dk_seg dksX3_later_1 23 rfl rfl
theorem dX3_later_0 : decode cX3_later 0 = .ok (.aload_n 0, 1) := dk_42 (dk_at dksX3_later_0 0 rfl rfl)
theorem dX3_later_1 : decode cX3_later 1 = .ok (.iconst 0, 1) := dk_3 (dk_at dksX3_later_0 1 rfl rfl)
theorem dX3_later_2 : decode cX3_later 2 = .ok (.putfield 95, 3) := dk_181 0 95 (dk_at dksX3_later_0 2 rfl rfl)
theorem dX3_later_5 : decode cX3_later 5 = .ok (.aload_n 0, 1) := dk_42 (dk_at dksX3_later_0 5 rfl rfl)
theorem dX3_later_6 : decode cX3_later 6 = .ok (.iload_n 1, 1) := dk_27 (dk_at dksX3_later_0 6 rfl rfl)
theorem dX3_later_7 : decode cX3_later 7 = .ok (.invokevirtual 108, 3) := dk_182 0 108 (dk_at dksX3_later_0 7 rfl rfl)
theorem dX3_later_10 : decode cX3_later 10 = .ok (.ifCond .eq 13, 3) := dk_153 0 13 (dk_at dksX3_later_0 10 rfl rfl)
theorem dX3_later_13 : decode cX3_later 13 = .ok (.iload_n 2, 1) := dk_28 (dk_at dksX3_later_0 13 rfl rfl)
theorem dX3_later_14 : decode cX3_later 14 = .ok (.iconst 0, 1) := dk_3 (dk_at dksX3_later_0 14 rfl rfl)
theorem dX3_later_15 : decode cX3_later 15 = .ok (.bipush 99, 2) := dk_16 99 (dk_at dksX3_later_0 15 rfl rfl)
theorem dX3_later_17 : decode cX3_later 17 = .ok (.invokestatic 104, 3) := dk_184 0 104 (dk_at dksX3_later_0 17 rfl rfl)
theorem dX3_later_20 : decode cX3_later 20 = .ok (.ifCond .ne 5, 3) := dk_154 0 5 (dk_at dksX3_later_0 20 rfl rfl)
theorem dX3_later_23 : decode cX3_later 23 = .ok (.iconst (-1), 1) := dk_2 (dk_at dksX3_later_0 23 rfl rfl)
theorem dX3_later_24 : decode cX3_later 24 = .ok (.ireturn, 1) := dk_172 (dk_at dksX3_later_1 0 rfl rfl)
theorem dX3_later_25 : decode cX3_later 25 = .ok (.aload_n 0, 1) := dk_42 (dk_at dksX3_later_1 1 rfl rfl)
theorem dX3_later_26 : decode cX3_later 26 = .ok (.iload_n 2, 1) := dk_28 (dk_at dksX3_later_1 2 rfl rfl)
theorem dX3_later_27 : decode cX3_later 27 = .ok (.invokevirtual 274, 3) := dk_182 1 18 (dk_at dksX3_later_1 3 rfl rfl)
theorem dX3_later_30 : decode cX3_later 30 = .ok (.aload_n 0, 1) := dk_42 (dk_at dksX3_later_1 6 rfl rfl)
theorem dX3_later_31 : decode cX3_later 31 = .ok (.iconst 0, 1) := dk_3 (dk_at dksX3_later_1 7 rfl rfl)
theorem dX3_later_32 : decode cX3_later 32 = .ok (.putfield 98, 3) := dk_181 0 98 (dk_at dksX3_later_1 8 rfl rfl)
theorem dX3_later_35 : decode cX3_later 35 = .ok (.iconst 0, 1) := dk_3 (dk_at dksX3_later_1 11 rfl rfl)
theorem dX3_later_36 : decode cX3_later 36 = .ok (.istore_n 3, 1) := dk_62 (dk_at dksX3_later_1 12 rfl rfl)
theorem dX3_later_37 : decode cX3_later 37 = .ok (.iload_n 3, 1) := dk_29 (dk_at dksX3_later_1 13 rfl rfl)
theorem dX3_later_38 : decode cX3_later 38 = .ok (.aload_n 0, 1) := dk_42 (dk_at dksX3_later_1 14 rfl rfl)
theorem dX3_later_39 : decode cX3_later 39 = .ok (.getfield 101, 3) := dk_180 0 101 (dk_at dksX3_later_1 15 rfl rfl)
theorem dX3_later_42 : decode cX3_later 42 = .ok (.if_icmp .ge 20, 3) := dk_162 0 20 (dk_at dksX3_later_1 18 rfl rfl)
theorem dX3_later_45 : decode cX3_later 45 = .ok (.aload_n 0, 1) := dk_42 (dk_at dksX3_later_1 21 rfl rfl)
theorem dX3_later_46 : decode cX3_later 46 = .ok (.aload_n 0, 1) := dk_42 (dk_at dksX3_later_1 22 rfl rfl)
theorem dX3_later_47 : decode cX3_later 47 = .ok (.getfield 48, 3) := dk_180 0 48 (dk_at dksX3_later_2 0 rfl rfl)
theorem dX3_later_50 : decode cX3_later 50 = .ok (.iload_n 3, 1) := dk_29 (dk_at dksX3_later_2 3 rfl rfl)
theorem dX3_later_51 : decode cX3_later 51 = .ok (.iaload, 1) := dk_46 (dk_at dksX3_later_2 4 rfl rfl)
theorem dX3_later_52 : decode cX3_later 52 = .ok (.i2l, 1) := dk_133 (dk_at dksX3_later_2 5 rfl rfl)
theorem dX3_later_53 : decode cX3_later 53 = .ok (.invokevirtual 248, 3) := dk_182 0 248 (dk_at dksX3_later_2 6 rfl rfl)
theorem dX3_later_56 : decode cX3_later 56 = .ok (.iinc 3 1, 3) := dk_132 3 1 (dk_at dksX3_later_2 9 rfl rfl)
theorem dX3_later_59 : decode cX3_later 59 = .ok (.goto (-22), 3) := dk_167 255 234 (dk_at dksX3_later_2 12 rfl rfl)
theorem dX3_later_62 : decode cX3_later 62 = .ok (.aload_n 0, 1) := dk_42 (dk_at dksX3_later_2 15 rfl rfl)
theorem dX3_later_63 : decode cX3_later 63 = .ok (.getfield 48, 3) := dk_180 0 48 (dk_at dksX3_later_2 16 rfl rfl)
theorem dX3_later_66 : decode cX3_later 66 = .ok (.iload_n 1, 1) := dk_27 (dk_at dksX3_later_2 19 rfl rfl)
theorem dX3_later_67 : decode cX3_later 67 = .ok (.iaload, 1) := dk_46 (dk_at dksX3_later_2 20 rfl rfl)
theorem dX3_later_68 : decode cX3_later 68 = .ok (.ireturn, 1) := dk_172 (dk_at dksX3_later_2 21 rfl rfl)
abbrev cX3_goThen : ByteArray := prog_9_method_56_code
def yX3_goThen : MethodName := ⟨RX3, "goThen", "(I)V"⟩
def dkwX3_goThen_0 : List UInt8 := [42, 180, 0, 9, 42, 180, 0, 48, 3, 184, 0, 230, 42, 42, 180, 0, 48, 27, 182, 0, 244, 177]
abbrev dktX3_goThen_0 : List UInt8 := dkwX3_goThen_0 ++ []
theorem dksX3_goThen_0 : cX3_goThen.data.toList.drop 0 = dktX3_goThen_0 := by decide +kernel
theorem dX3_goThen_0 : decode cX3_goThen 0 = .ok (.aload_n 0, 1) := dk_42 (dk_at dksX3_goThen_0 0 rfl rfl)
theorem dX3_goThen_1 : decode cX3_goThen 1 = .ok (.getfield 9, 3) := dk_180 0 9 (dk_at dksX3_goThen_0 1 rfl rfl)
theorem dX3_goThen_4 : decode cX3_goThen 4 = .ok (.aload_n 0, 1) := dk_42 (dk_at dksX3_goThen_0 4 rfl rfl)
theorem dX3_goThen_5 : decode cX3_goThen 5 = .ok (.getfield 48, 3) := dk_180 0 48 (dk_at dksX3_goThen_0 5 rfl rfl)
theorem dX3_goThen_8 : decode cX3_goThen 8 = .ok (.iconst 0, 1) := dk_3 (dk_at dksX3_goThen_0 8 rfl rfl)
theorem dX3_goThen_9 : decode cX3_goThen 9 = .ok (.invokestatic 230, 3) := dk_184 0 230 (dk_at dksX3_goThen_0 9 rfl rfl)
theorem dX3_goThen_12 : decode cX3_goThen 12 = .ok (.aload_n 0, 1) := dk_42 (dk_at dksX3_goThen_0 12 rfl rfl)
theorem dX3_goThen_13 : decode cX3_goThen 13 = .ok (.aload_n 0, 1) := dk_42 (dk_at dksX3_goThen_0 13 rfl rfl)
theorem dX3_goThen_14 : decode cX3_goThen 14 = .ok (.getfield 48, 3) := dk_180 0 48 (dk_at dksX3_goThen_0 14 rfl rfl)
theorem dX3_goThen_17 : decode cX3_goThen 17 = .ok (.iload_n 1, 1) := dk_27 (dk_at dksX3_goThen_0 17 rfl rfl)
theorem dX3_goThen_18 : decode cX3_goThen 18 = .ok (.invokevirtual 244, 3) := dk_182 0 244 (dk_at dksX3_goThen_0 18 rfl rfl)
theorem dX3_goThen_21 : decode cX3_goThen 21 = .ok (.return_, 1) := dk_177 (dk_at dksX3_goThen_0 21 rfl rfl)
abbrev cX3_dries : ByteArray := prog_9_method_58_code
def yX3_dries : MethodName := ⟨RX3, "dries", "(I)I"⟩
def dkwX3_dries_3 : List UInt8 := [182, 0, 237, 132, 2, 1, 167, 255, 209, 16, 254, 172]
abbrev dktX3_dries_3 : List UInt8 := dkwX3_dries_3 ++ []
def dkwX3_dries_2 : List UInt8 := [181, 0, 98, 42, 42, 42, 180, 0, 48, 3, 182, 0, 227, 133, 182, 0, 248, 28, 172, 42, 42, 180, 0, 48]
abbrev dktX3_dries_2 : List UInt8 := dkwX3_dries_2 ++ dktX3_dries_3
def dkwX3_dries_1 : List UInt8 := [184, 0, 230, 3, 61, 28, 16, 99, 163, 0, 47, 42, 180, 0, 48, 27, 46, 154, 0, 24, 42, 3]
abbrev dktX3_dries_1 : List UInt8 := dkwX3_dries_1 ++ dktX3_dries_2
def dkwX3_dries_0 : List UInt8 := [42, 3, 181, 0, 95, 42, 27, 182, 0, 108, 154, 0, 5, 2, 172, 42, 180, 0, 9, 42, 180, 0, 48, 3]
abbrev dktX3_dries_0 : List UInt8 := dkwX3_dries_0 ++ dktX3_dries_1
theorem dksX3_dries_0 : cX3_dries.data.toList.drop 0 = dktX3_dries_0 := by decide +kernel
theorem dksX3_dries_1 : cX3_dries.data.toList.drop 24 = dktX3_dries_1 := dk_seg dksX3_dries_0 24 rfl rfl
theorem dksX3_dries_2 : cX3_dries.data.toList.drop 46 = dktX3_dries_2 := dk_seg dksX3_dries_1 22 rfl rfl
theorem dksX3_dries_3 : cX3_dries.data.toList.drop 70 = dktX3_dries_3 := dk_seg dksX3_dries_2 24 rfl rfl
theorem dX3_dries_0 : decode cX3_dries 0 = .ok (.aload_n 0, 1) := dk_42 (dk_at dksX3_dries_0 0 rfl rfl)
theorem dX3_dries_1 : decode cX3_dries 1 = .ok (.iconst 0, 1) := dk_3 (dk_at dksX3_dries_0 1 rfl rfl)
theorem dX3_dries_2 : decode cX3_dries 2 = .ok (.putfield 95, 3) := dk_181 0 95 (dk_at dksX3_dries_0 2 rfl rfl)
theorem dX3_dries_5 : decode cX3_dries 5 = .ok (.aload_n 0, 1) := dk_42 (dk_at dksX3_dries_0 5 rfl rfl)
theorem dX3_dries_6 : decode cX3_dries 6 = .ok (.iload_n 1, 1) := dk_27 (dk_at dksX3_dries_0 6 rfl rfl)
theorem dX3_dries_7 : decode cX3_dries 7 = .ok (.invokevirtual 108, 3) := dk_182 0 108 (dk_at dksX3_dries_0 7 rfl rfl)
theorem dX3_dries_10 : decode cX3_dries 10 = .ok (.ifCond .ne 5, 3) := dk_154 0 5 (dk_at dksX3_dries_0 10 rfl rfl)
theorem dX3_dries_13 : decode cX3_dries 13 = .ok (.iconst (-1), 1) := dk_2 (dk_at dksX3_dries_0 13 rfl rfl)
theorem dX3_dries_14 : decode cX3_dries 14 = .ok (.ireturn, 1) := dk_172 (dk_at dksX3_dries_0 14 rfl rfl)
theorem dX3_dries_15 : decode cX3_dries 15 = .ok (.aload_n 0, 1) := dk_42 (dk_at dksX3_dries_0 15 rfl rfl)
theorem dX3_dries_16 : decode cX3_dries 16 = .ok (.getfield 9, 3) := dk_180 0 9 (dk_at dksX3_dries_0 16 rfl rfl)
theorem dX3_dries_19 : decode cX3_dries 19 = .ok (.aload_n 0, 1) := dk_42 (dk_at dksX3_dries_0 19 rfl rfl)
theorem dX3_dries_20 : decode cX3_dries 20 = .ok (.getfield 48, 3) := dk_180 0 48 (dk_at dksX3_dries_0 20 rfl rfl)
theorem dX3_dries_23 : decode cX3_dries 23 = .ok (.iconst 0, 1) := dk_3 (dk_at dksX3_dries_0 23 rfl rfl)
theorem dX3_dries_24 : decode cX3_dries 24 = .ok (.invokestatic 230, 3) := dk_184 0 230 (dk_at dksX3_dries_1 0 rfl rfl)
theorem dX3_dries_27 : decode cX3_dries 27 = .ok (.iconst 0, 1) := dk_3 (dk_at dksX3_dries_1 3 rfl rfl)
theorem dX3_dries_28 : decode cX3_dries 28 = .ok (.istore_n 2, 1) := dk_61 (dk_at dksX3_dries_1 4 rfl rfl)
theorem dX3_dries_29 : decode cX3_dries 29 = .ok (.iload_n 2, 1) := dk_28 (dk_at dksX3_dries_1 5 rfl rfl)
theorem dX3_dries_30 : decode cX3_dries 30 = .ok (.bipush 99, 2) := dk_16 99 (dk_at dksX3_dries_1 6 rfl rfl)
theorem dX3_dries_32 : decode cX3_dries 32 = .ok (.if_icmp .gt 47, 3) := dk_163 0 47 (dk_at dksX3_dries_1 8 rfl rfl)
theorem dX3_dries_35 : decode cX3_dries 35 = .ok (.aload_n 0, 1) := dk_42 (dk_at dksX3_dries_1 11 rfl rfl)
theorem dX3_dries_36 : decode cX3_dries 36 = .ok (.getfield 48, 3) := dk_180 0 48 (dk_at dksX3_dries_1 12 rfl rfl)
theorem dX3_dries_39 : decode cX3_dries 39 = .ok (.iload_n 1, 1) := dk_27 (dk_at dksX3_dries_1 15 rfl rfl)
theorem dX3_dries_40 : decode cX3_dries 40 = .ok (.iaload, 1) := dk_46 (dk_at dksX3_dries_1 16 rfl rfl)
theorem dX3_dries_41 : decode cX3_dries 41 = .ok (.ifCond .ne 24, 3) := dk_154 0 24 (dk_at dksX3_dries_1 17 rfl rfl)
theorem dX3_dries_44 : decode cX3_dries 44 = .ok (.aload_n 0, 1) := dk_42 (dk_at dksX3_dries_1 20 rfl rfl)
theorem dX3_dries_45 : decode cX3_dries 45 = .ok (.iconst 0, 1) := dk_3 (dk_at dksX3_dries_1 21 rfl rfl)
theorem dX3_dries_46 : decode cX3_dries 46 = .ok (.putfield 98, 3) := dk_181 0 98 (dk_at dksX3_dries_2 0 rfl rfl)
theorem dX3_dries_49 : decode cX3_dries 49 = .ok (.aload_n 0, 1) := dk_42 (dk_at dksX3_dries_2 3 rfl rfl)
theorem dX3_dries_50 : decode cX3_dries 50 = .ok (.aload_n 0, 1) := dk_42 (dk_at dksX3_dries_2 4 rfl rfl)
theorem dX3_dries_51 : decode cX3_dries 51 = .ok (.aload_n 0, 1) := dk_42 (dk_at dksX3_dries_2 5 rfl rfl)
theorem dX3_dries_52 : decode cX3_dries 52 = .ok (.getfield 48, 3) := dk_180 0 48 (dk_at dksX3_dries_2 6 rfl rfl)
theorem dX3_dries_55 : decode cX3_dries 55 = .ok (.iconst 0, 1) := dk_3 (dk_at dksX3_dries_2 9 rfl rfl)
theorem dX3_dries_56 : decode cX3_dries 56 = .ok (.invokevirtual 227, 3) := dk_182 0 227 (dk_at dksX3_dries_2 10 rfl rfl)
theorem dX3_dries_59 : decode cX3_dries 59 = .ok (.i2l, 1) := dk_133 (dk_at dksX3_dries_2 13 rfl rfl)
theorem dX3_dries_60 : decode cX3_dries 60 = .ok (.invokevirtual 248, 3) := dk_182 0 248 (dk_at dksX3_dries_2 14 rfl rfl)
theorem dX3_dries_63 : decode cX3_dries 63 = .ok (.iload_n 2, 1) := dk_28 (dk_at dksX3_dries_2 17 rfl rfl)
theorem dX3_dries_64 : decode cX3_dries 64 = .ok (.ireturn, 1) := dk_172 (dk_at dksX3_dries_2 18 rfl rfl)
theorem dX3_dries_65 : decode cX3_dries 65 = .ok (.aload_n 0, 1) := dk_42 (dk_at dksX3_dries_2 19 rfl rfl)
theorem dX3_dries_66 : decode cX3_dries 66 = .ok (.aload_n 0, 1) := dk_42 (dk_at dksX3_dries_2 20 rfl rfl)
theorem dX3_dries_67 : decode cX3_dries 67 = .ok (.getfield 48, 3) := dk_180 0 48 (dk_at dksX3_dries_2 21 rfl rfl)
theorem dX3_dries_70 : decode cX3_dries 70 = .ok (.invokevirtual 237, 3) := dk_182 0 237 (dk_at dksX3_dries_3 0 rfl rfl)
theorem dX3_dries_73 : decode cX3_dries 73 = .ok (.iinc 2 1, 3) := dk_132 2 1 (dk_at dksX3_dries_3 3 rfl rfl)
theorem dX3_dries_76 : decode cX3_dries 76 = .ok (.goto (-47), 3) := dk_167 255 209 (dk_at dksX3_dries_3 6 rfl rfl)
theorem dX3_dries_79 : decode cX3_dries 79 = .ok (.bipush (-2), 2) := dk_16 254 (dk_at dksX3_dries_3 9 rfl rfl)
theorem dX3_dries_81 : decode cX3_dries 81 = .ok (.ireturn, 1) := dk_172 (dk_at dksX3_dries_3 11 rfl rfl)
abbrev cX3_brims : ByteArray := prog_9_method_59_code
def yX3_brims : MethodName := ⟨RX3, "brims", "(I)I"⟩
def dkwX3_brims_3 : List UInt8 := [133, 182, 0, 248, 28, 172, 42, 42, 180, 0, 48, 182, 0, 237, 132, 2, 1, 167, 255, 197, 16, 254, 172]
abbrev dktX3_brims_3 : List UInt8 := dkwX3_brims_3 ++ []
def dkwX3_brims_2 : List UInt8 := [160, 0, 30, 42, 3, 181, 0, 98, 42, 42, 180, 0, 48, 16, 31, 46, 42, 180, 0, 9, 16, 31, 46, 100]
abbrev dktX3_brims_2 : List UInt8 := dkwX3_brims_2 ++ dktX3_brims_3
def dkwX3_brims_1 : List UInt8 := [184, 0, 230, 3, 61, 28, 16, 99, 163, 0, 59, 42, 180, 0, 48, 27, 46, 42, 180, 0, 13, 27, 46]
abbrev dktX3_brims_1 : List UInt8 := dkwX3_brims_1 ++ dktX3_brims_2
def dkwX3_brims_0 : List UInt8 := [42, 3, 181, 0, 95, 42, 27, 182, 0, 108, 154, 0, 5, 2, 172, 42, 180, 0, 9, 42, 180, 0, 48, 3]
abbrev dktX3_brims_0 : List UInt8 := dkwX3_brims_0 ++ dktX3_brims_1
theorem dksX3_brims_0 : cX3_brims.data.toList.drop 0 = dktX3_brims_0 := by decide +kernel
theorem dksX3_brims_1 : cX3_brims.data.toList.drop 24 = dktX3_brims_1 := dk_seg dksX3_brims_0 24 rfl rfl
theorem dksX3_brims_2 : cX3_brims.data.toList.drop 47 = dktX3_brims_2 := dk_seg dksX3_brims_1 23 rfl rfl
theorem dksX3_brims_3 : cX3_brims.data.toList.drop 71 = dktX3_brims_3 := dk_seg dksX3_brims_2 24 rfl rfl
theorem dX3_brims_0 : decode cX3_brims 0 = .ok (.aload_n 0, 1) := dk_42 (dk_at dksX3_brims_0 0 rfl rfl)
theorem dX3_brims_1 : decode cX3_brims 1 = .ok (.iconst 0, 1) := dk_3 (dk_at dksX3_brims_0 1 rfl rfl)
theorem dX3_brims_2 : decode cX3_brims 2 = .ok (.putfield 95, 3) := dk_181 0 95 (dk_at dksX3_brims_0 2 rfl rfl)
theorem dX3_brims_5 : decode cX3_brims 5 = .ok (.aload_n 0, 1) := dk_42 (dk_at dksX3_brims_0 5 rfl rfl)
theorem dX3_brims_6 : decode cX3_brims 6 = .ok (.iload_n 1, 1) := dk_27 (dk_at dksX3_brims_0 6 rfl rfl)
theorem dX3_brims_7 : decode cX3_brims 7 = .ok (.invokevirtual 108, 3) := dk_182 0 108 (dk_at dksX3_brims_0 7 rfl rfl)
theorem dX3_brims_10 : decode cX3_brims 10 = .ok (.ifCond .ne 5, 3) := dk_154 0 5 (dk_at dksX3_brims_0 10 rfl rfl)
theorem dX3_brims_13 : decode cX3_brims 13 = .ok (.iconst (-1), 1) := dk_2 (dk_at dksX3_brims_0 13 rfl rfl)
theorem dX3_brims_14 : decode cX3_brims 14 = .ok (.ireturn, 1) := dk_172 (dk_at dksX3_brims_0 14 rfl rfl)
theorem dX3_brims_15 : decode cX3_brims 15 = .ok (.aload_n 0, 1) := dk_42 (dk_at dksX3_brims_0 15 rfl rfl)
theorem dX3_brims_16 : decode cX3_brims 16 = .ok (.getfield 9, 3) := dk_180 0 9 (dk_at dksX3_brims_0 16 rfl rfl)
theorem dX3_brims_19 : decode cX3_brims 19 = .ok (.aload_n 0, 1) := dk_42 (dk_at dksX3_brims_0 19 rfl rfl)
theorem dX3_brims_20 : decode cX3_brims 20 = .ok (.getfield 48, 3) := dk_180 0 48 (dk_at dksX3_brims_0 20 rfl rfl)
theorem dX3_brims_23 : decode cX3_brims 23 = .ok (.iconst 0, 1) := dk_3 (dk_at dksX3_brims_0 23 rfl rfl)
theorem dX3_brims_24 : decode cX3_brims 24 = .ok (.invokestatic 230, 3) := dk_184 0 230 (dk_at dksX3_brims_1 0 rfl rfl)
theorem dX3_brims_27 : decode cX3_brims 27 = .ok (.iconst 0, 1) := dk_3 (dk_at dksX3_brims_1 3 rfl rfl)
theorem dX3_brims_28 : decode cX3_brims 28 = .ok (.istore_n 2, 1) := dk_61 (dk_at dksX3_brims_1 4 rfl rfl)
theorem dX3_brims_29 : decode cX3_brims 29 = .ok (.iload_n 2, 1) := dk_28 (dk_at dksX3_brims_1 5 rfl rfl)
theorem dX3_brims_30 : decode cX3_brims 30 = .ok (.bipush 99, 2) := dk_16 99 (dk_at dksX3_brims_1 6 rfl rfl)
theorem dX3_brims_32 : decode cX3_brims 32 = .ok (.if_icmp .gt 59, 3) := dk_163 0 59 (dk_at dksX3_brims_1 8 rfl rfl)
theorem dX3_brims_35 : decode cX3_brims 35 = .ok (.aload_n 0, 1) := dk_42 (dk_at dksX3_brims_1 11 rfl rfl)
theorem dX3_brims_36 : decode cX3_brims 36 = .ok (.getfield 48, 3) := dk_180 0 48 (dk_at dksX3_brims_1 12 rfl rfl)
theorem dX3_brims_39 : decode cX3_brims 39 = .ok (.iload_n 1, 1) := dk_27 (dk_at dksX3_brims_1 15 rfl rfl)
theorem dX3_brims_40 : decode cX3_brims 40 = .ok (.iaload, 1) := dk_46 (dk_at dksX3_brims_1 16 rfl rfl)
theorem dX3_brims_41 : decode cX3_brims 41 = .ok (.aload_n 0, 1) := dk_42 (dk_at dksX3_brims_1 17 rfl rfl)
theorem dX3_brims_42 : decode cX3_brims 42 = .ok (.getfield 13, 3) := dk_180 0 13 (dk_at dksX3_brims_1 18 rfl rfl)
theorem dX3_brims_45 : decode cX3_brims 45 = .ok (.iload_n 1, 1) := dk_27 (dk_at dksX3_brims_1 21 rfl rfl)
theorem dX3_brims_46 : decode cX3_brims 46 = .ok (.iaload, 1) := dk_46 (dk_at dksX3_brims_1 22 rfl rfl)
theorem dX3_brims_47 : decode cX3_brims 47 = .ok (.if_icmp .ne 30, 3) := dk_160 0 30 (dk_at dksX3_brims_2 0 rfl rfl)
theorem dX3_brims_50 : decode cX3_brims 50 = .ok (.aload_n 0, 1) := dk_42 (dk_at dksX3_brims_2 3 rfl rfl)
theorem dX3_brims_51 : decode cX3_brims 51 = .ok (.iconst 0, 1) := dk_3 (dk_at dksX3_brims_2 4 rfl rfl)
theorem dX3_brims_52 : decode cX3_brims 52 = .ok (.putfield 98, 3) := dk_181 0 98 (dk_at dksX3_brims_2 5 rfl rfl)
theorem dX3_brims_55 : decode cX3_brims 55 = .ok (.aload_n 0, 1) := dk_42 (dk_at dksX3_brims_2 8 rfl rfl)
theorem dX3_brims_56 : decode cX3_brims 56 = .ok (.aload_n 0, 1) := dk_42 (dk_at dksX3_brims_2 9 rfl rfl)
theorem dX3_brims_57 : decode cX3_brims 57 = .ok (.getfield 48, 3) := dk_180 0 48 (dk_at dksX3_brims_2 10 rfl rfl)
theorem dX3_brims_60 : decode cX3_brims 60 = .ok (.bipush 31, 2) := dk_16 31 (dk_at dksX3_brims_2 13 rfl rfl)
theorem dX3_brims_62 : decode cX3_brims 62 = .ok (.iaload, 1) := dk_46 (dk_at dksX3_brims_2 15 rfl rfl)
theorem dX3_brims_63 : decode cX3_brims 63 = .ok (.aload_n 0, 1) := dk_42 (dk_at dksX3_brims_2 16 rfl rfl)
theorem dX3_brims_64 : decode cX3_brims 64 = .ok (.getfield 9, 3) := dk_180 0 9 (dk_at dksX3_brims_2 17 rfl rfl)
theorem dX3_brims_67 : decode cX3_brims 67 = .ok (.bipush 31, 2) := dk_16 31 (dk_at dksX3_brims_2 20 rfl rfl)
theorem dX3_brims_69 : decode cX3_brims 69 = .ok (.iaload, 1) := dk_46 (dk_at dksX3_brims_2 22 rfl rfl)
theorem dX3_brims_70 : decode cX3_brims 70 = .ok (.isub, 1) := dk_100 (dk_at dksX3_brims_2 23 rfl rfl)
theorem dX3_brims_71 : decode cX3_brims 71 = .ok (.i2l, 1) := dk_133 (dk_at dksX3_brims_3 0 rfl rfl)
theorem dX3_brims_72 : decode cX3_brims 72 = .ok (.invokevirtual 248, 3) := dk_182 0 248 (dk_at dksX3_brims_3 1 rfl rfl)
theorem dX3_brims_75 : decode cX3_brims 75 = .ok (.iload_n 2, 1) := dk_28 (dk_at dksX3_brims_3 4 rfl rfl)
theorem dX3_brims_76 : decode cX3_brims 76 = .ok (.ireturn, 1) := dk_172 (dk_at dksX3_brims_3 5 rfl rfl)
theorem dX3_brims_77 : decode cX3_brims 77 = .ok (.aload_n 0, 1) := dk_42 (dk_at dksX3_brims_3 6 rfl rfl)
theorem dX3_brims_78 : decode cX3_brims 78 = .ok (.aload_n 0, 1) := dk_42 (dk_at dksX3_brims_3 7 rfl rfl)
theorem dX3_brims_79 : decode cX3_brims 79 = .ok (.getfield 48, 3) := dk_180 0 48 (dk_at dksX3_brims_3 8 rfl rfl)
theorem dX3_brims_82 : decode cX3_brims 82 = .ok (.invokevirtual 237, 3) := dk_182 0 237 (dk_at dksX3_brims_3 11 rfl rfl)
theorem dX3_brims_85 : decode cX3_brims 85 = .ok (.iinc 2 1, 3) := dk_132 2 1 (dk_at dksX3_brims_3 14 rfl rfl)
theorem dX3_brims_88 : decode cX3_brims 88 = .ok (.goto (-59), 3) := dk_167 255 197 (dk_at dksX3_brims_3 17 rfl rfl)
theorem dX3_brims_91 : decode cX3_brims 91 = .ok (.bipush (-2), 2) := dk_16 254 (dk_at dksX3_brims_3 20 rfl rfl)
theorem dX3_brims_93 : decode cX3_brims 93 = .ok (.ireturn, 1) := dk_172 (dk_at dksX3_brims_3 22 rfl rfl)
abbrev cX3_marks : ByteArray := prog_9_method_60_code
def yX3_marks : MethodName := ⟨RX3, "marks", "(II)I"⟩
def dkwX3_marks_6 : List UInt8 := [182, 0, 248, 42, 21, 6, 133, 182, 0, 248, 29, 172]
abbrev dktX3_marks_6 : List UInt8 := dkwX3_marks_6 ++ []
def dkwX3_marks_5 : List UInt8 := [132, 7, 1, 167, 255, 195, 42, 3, 181, 0, 98, 42, 21, 5, 133, 182, 0, 248, 42, 21, 4, 133]
abbrev dktX3_marks_5 : List UInt8 := dkwX3_marks_5 ++ dktX3_marks_6
def dkwX3_marks_4 : List UInt8 := [42, 180, 0, 48, 27, 46, 21, 4, 164, 0, 15, 42, 180, 0, 48, 27, 46, 54, 4, 21, 7, 54, 6]
abbrev dktX3_marks_4 : List UInt8 := dkwX3_marks_4 ++ dktX3_marks_5
def dkwX3_marks_3 : List UInt8 := [182, 0, 237, 42, 180, 0, 48, 27, 46, 29, 162, 0, 14, 42, 180, 0, 48, 27, 46, 62, 21, 7, 54, 5]
abbrev dktX3_marks_3 : List UInt8 := dkwX3_marks_3 ++ dktX3_marks_4
def dkwX3_marks_2 : List UInt8 := [27, 46, 54, 4, 3, 54, 5, 3, 54, 6, 4, 54, 7, 21, 7, 28, 163, 0, 61, 42, 42, 180, 0, 48]
abbrev dktX3_marks_2 : List UInt8 := dkwX3_marks_2 ++ dktX3_marks_3
def dkwX3_marks_1 : List UInt8 := [172, 42, 180, 0, 9, 42, 180, 0, 48, 3, 184, 0, 230, 42, 180, 0, 9, 27, 46, 62, 42, 180, 0, 9]
abbrev dktX3_marks_1 : List UInt8 := dkwX3_marks_1 ++ dktX3_marks_2
def dkwX3_marks_0 : List UInt8 := [42, 3, 181, 0, 95, 42, 27, 182, 0, 108, 153, 0, 13, 28, 3, 16, 99, 184, 0, 104, 154, 0, 5, 2]
abbrev dktX3_marks_0 : List UInt8 := dkwX3_marks_0 ++ dktX3_marks_1
theorem dksX3_marks_0 : cX3_marks.data.toList.drop 0 = dktX3_marks_0 := by decide +kernel
theorem dksX3_marks_1 : cX3_marks.data.toList.drop 24 = dktX3_marks_1 := dk_seg dksX3_marks_0 24 rfl rfl
theorem dksX3_marks_2 : cX3_marks.data.toList.drop 48 = dktX3_marks_2 := dk_seg dksX3_marks_1 24 rfl rfl
theorem dksX3_marks_3 : cX3_marks.data.toList.drop 72 = dktX3_marks_3 := dk_seg dksX3_marks_2 24 rfl rfl
theorem dksX3_marks_4 : cX3_marks.data.toList.drop 96 = dktX3_marks_4 := dk_seg dksX3_marks_3 24 rfl rfl
theorem dksX3_marks_5 : cX3_marks.data.toList.drop 119 = dktX3_marks_5 := dk_seg dksX3_marks_4 23 rfl rfl
theorem dksX3_marks_6 : cX3_marks.data.toList.drop 141 = dktX3_marks_6 := dk_seg dksX3_marks_5 22 rfl rfl
theorem dX3_marks_0 : decode cX3_marks 0 = .ok (.aload_n 0, 1) := dk_42 (dk_at dksX3_marks_0 0 rfl rfl)
theorem dX3_marks_1 : decode cX3_marks 1 = .ok (.iconst 0, 1) := dk_3 (dk_at dksX3_marks_0 1 rfl rfl)
theorem dX3_marks_2 : decode cX3_marks 2 = .ok (.putfield 95, 3) := dk_181 0 95 (dk_at dksX3_marks_0 2 rfl rfl)
theorem dX3_marks_5 : decode cX3_marks 5 = .ok (.aload_n 0, 1) := dk_42 (dk_at dksX3_marks_0 5 rfl rfl)
theorem dX3_marks_6 : decode cX3_marks 6 = .ok (.iload_n 1, 1) := dk_27 (dk_at dksX3_marks_0 6 rfl rfl)
theorem dX3_marks_7 : decode cX3_marks 7 = .ok (.invokevirtual 108, 3) := dk_182 0 108 (dk_at dksX3_marks_0 7 rfl rfl)
theorem dX3_marks_10 : decode cX3_marks 10 = .ok (.ifCond .eq 13, 3) := dk_153 0 13 (dk_at dksX3_marks_0 10 rfl rfl)
theorem dX3_marks_13 : decode cX3_marks 13 = .ok (.iload_n 2, 1) := dk_28 (dk_at dksX3_marks_0 13 rfl rfl)
theorem dX3_marks_14 : decode cX3_marks 14 = .ok (.iconst 0, 1) := dk_3 (dk_at dksX3_marks_0 14 rfl rfl)
theorem dX3_marks_15 : decode cX3_marks 15 = .ok (.bipush 99, 2) := dk_16 99 (dk_at dksX3_marks_0 15 rfl rfl)
theorem dX3_marks_17 : decode cX3_marks 17 = .ok (.invokestatic 104, 3) := dk_184 0 104 (dk_at dksX3_marks_0 17 rfl rfl)
theorem dX3_marks_20 : decode cX3_marks 20 = .ok (.ifCond .ne 5, 3) := dk_154 0 5 (dk_at dksX3_marks_0 20 rfl rfl)
theorem dX3_marks_23 : decode cX3_marks 23 = .ok (.iconst (-1), 1) := dk_2 (dk_at dksX3_marks_0 23 rfl rfl)
theorem dX3_marks_24 : decode cX3_marks 24 = .ok (.ireturn, 1) := dk_172 (dk_at dksX3_marks_1 0 rfl rfl)
theorem dX3_marks_25 : decode cX3_marks 25 = .ok (.aload_n 0, 1) := dk_42 (dk_at dksX3_marks_1 1 rfl rfl)
theorem dX3_marks_26 : decode cX3_marks 26 = .ok (.getfield 9, 3) := dk_180 0 9 (dk_at dksX3_marks_1 2 rfl rfl)
theorem dX3_marks_29 : decode cX3_marks 29 = .ok (.aload_n 0, 1) := dk_42 (dk_at dksX3_marks_1 5 rfl rfl)
theorem dX3_marks_30 : decode cX3_marks 30 = .ok (.getfield 48, 3) := dk_180 0 48 (dk_at dksX3_marks_1 6 rfl rfl)
theorem dX3_marks_33 : decode cX3_marks 33 = .ok (.iconst 0, 1) := dk_3 (dk_at dksX3_marks_1 9 rfl rfl)
theorem dX3_marks_34 : decode cX3_marks 34 = .ok (.invokestatic 230, 3) := dk_184 0 230 (dk_at dksX3_marks_1 10 rfl rfl)
theorem dX3_marks_37 : decode cX3_marks 37 = .ok (.aload_n 0, 1) := dk_42 (dk_at dksX3_marks_1 13 rfl rfl)
theorem dX3_marks_38 : decode cX3_marks 38 = .ok (.getfield 9, 3) := dk_180 0 9 (dk_at dksX3_marks_1 14 rfl rfl)
theorem dX3_marks_41 : decode cX3_marks 41 = .ok (.iload_n 1, 1) := dk_27 (dk_at dksX3_marks_1 17 rfl rfl)
theorem dX3_marks_42 : decode cX3_marks 42 = .ok (.iaload, 1) := dk_46 (dk_at dksX3_marks_1 18 rfl rfl)
theorem dX3_marks_43 : decode cX3_marks 43 = .ok (.istore_n 3, 1) := dk_62 (dk_at dksX3_marks_1 19 rfl rfl)
theorem dX3_marks_44 : decode cX3_marks 44 = .ok (.aload_n 0, 1) := dk_42 (dk_at dksX3_marks_1 20 rfl rfl)
theorem dX3_marks_45 : decode cX3_marks 45 = .ok (.getfield 9, 3) := dk_180 0 9 (dk_at dksX3_marks_1 21 rfl rfl)
theorem dX3_marks_48 : decode cX3_marks 48 = .ok (.iload_n 1, 1) := dk_27 (dk_at dksX3_marks_2 0 rfl rfl)
theorem dX3_marks_49 : decode cX3_marks 49 = .ok (.iaload, 1) := dk_46 (dk_at dksX3_marks_2 1 rfl rfl)
theorem dX3_marks_50 : decode cX3_marks 50 = .ok (.istore 4, 2) := dk_54 4 (dk_at dksX3_marks_2 2 rfl rfl)
theorem dX3_marks_52 : decode cX3_marks 52 = .ok (.iconst 0, 1) := dk_3 (dk_at dksX3_marks_2 4 rfl rfl)
theorem dX3_marks_53 : decode cX3_marks 53 = .ok (.istore 5, 2) := dk_54 5 (dk_at dksX3_marks_2 5 rfl rfl)
theorem dX3_marks_55 : decode cX3_marks 55 = .ok (.iconst 0, 1) := dk_3 (dk_at dksX3_marks_2 7 rfl rfl)
theorem dX3_marks_56 : decode cX3_marks 56 = .ok (.istore 6, 2) := dk_54 6 (dk_at dksX3_marks_2 8 rfl rfl)
theorem dX3_marks_58 : decode cX3_marks 58 = .ok (.iconst 1, 1) := dk_4 (dk_at dksX3_marks_2 10 rfl rfl)
theorem dX3_marks_59 : decode cX3_marks 59 = .ok (.istore 7, 2) := dk_54 7 (dk_at dksX3_marks_2 11 rfl rfl)
theorem dX3_marks_61 : decode cX3_marks 61 = .ok (.iload 7, 2) := dk_21 7 (dk_at dksX3_marks_2 13 rfl rfl)
theorem dX3_marks_63 : decode cX3_marks 63 = .ok (.iload_n 2, 1) := dk_28 (dk_at dksX3_marks_2 15 rfl rfl)
theorem dX3_marks_64 : decode cX3_marks 64 = .ok (.if_icmp .gt 61, 3) := dk_163 0 61 (dk_at dksX3_marks_2 16 rfl rfl)
theorem dX3_marks_67 : decode cX3_marks 67 = .ok (.aload_n 0, 1) := dk_42 (dk_at dksX3_marks_2 19 rfl rfl)
theorem dX3_marks_68 : decode cX3_marks 68 = .ok (.aload_n 0, 1) := dk_42 (dk_at dksX3_marks_2 20 rfl rfl)
theorem dX3_marks_69 : decode cX3_marks 69 = .ok (.getfield 48, 3) := dk_180 0 48 (dk_at dksX3_marks_2 21 rfl rfl)
theorem dX3_marks_72 : decode cX3_marks 72 = .ok (.invokevirtual 237, 3) := dk_182 0 237 (dk_at dksX3_marks_3 0 rfl rfl)
theorem dX3_marks_75 : decode cX3_marks 75 = .ok (.aload_n 0, 1) := dk_42 (dk_at dksX3_marks_3 3 rfl rfl)
theorem dX3_marks_76 : decode cX3_marks 76 = .ok (.getfield 48, 3) := dk_180 0 48 (dk_at dksX3_marks_3 4 rfl rfl)
theorem dX3_marks_79 : decode cX3_marks 79 = .ok (.iload_n 1, 1) := dk_27 (dk_at dksX3_marks_3 7 rfl rfl)
theorem dX3_marks_80 : decode cX3_marks 80 = .ok (.iaload, 1) := dk_46 (dk_at dksX3_marks_3 8 rfl rfl)
theorem dX3_marks_81 : decode cX3_marks 81 = .ok (.iload_n 3, 1) := dk_29 (dk_at dksX3_marks_3 9 rfl rfl)
theorem dX3_marks_82 : decode cX3_marks 82 = .ok (.if_icmp .ge 14, 3) := dk_162 0 14 (dk_at dksX3_marks_3 10 rfl rfl)
theorem dX3_marks_85 : decode cX3_marks 85 = .ok (.aload_n 0, 1) := dk_42 (dk_at dksX3_marks_3 13 rfl rfl)
theorem dX3_marks_86 : decode cX3_marks 86 = .ok (.getfield 48, 3) := dk_180 0 48 (dk_at dksX3_marks_3 14 rfl rfl)
theorem dX3_marks_89 : decode cX3_marks 89 = .ok (.iload_n 1, 1) := dk_27 (dk_at dksX3_marks_3 17 rfl rfl)
theorem dX3_marks_90 : decode cX3_marks 90 = .ok (.iaload, 1) := dk_46 (dk_at dksX3_marks_3 18 rfl rfl)
theorem dX3_marks_91 : decode cX3_marks 91 = .ok (.istore_n 3, 1) := dk_62 (dk_at dksX3_marks_3 19 rfl rfl)
theorem dX3_marks_92 : decode cX3_marks 92 = .ok (.iload 7, 2) := dk_21 7 (dk_at dksX3_marks_3 20 rfl rfl)
theorem dX3_marks_94 : decode cX3_marks 94 = .ok (.istore 5, 2) := dk_54 5 (dk_at dksX3_marks_3 22 rfl rfl)
theorem dX3_marks_96 : decode cX3_marks 96 = .ok (.aload_n 0, 1) := dk_42 (dk_at dksX3_marks_4 0 rfl rfl)
theorem dX3_marks_97 : decode cX3_marks 97 = .ok (.getfield 48, 3) := dk_180 0 48 (dk_at dksX3_marks_4 1 rfl rfl)
theorem dX3_marks_100 : decode cX3_marks 100 = .ok (.iload_n 1, 1) := dk_27 (dk_at dksX3_marks_4 4 rfl rfl)
theorem dX3_marks_101 : decode cX3_marks 101 = .ok (.iaload, 1) := dk_46 (dk_at dksX3_marks_4 5 rfl rfl)
theorem dX3_marks_102 : decode cX3_marks 102 = .ok (.iload 4, 2) := dk_21 4 (dk_at dksX3_marks_4 6 rfl rfl)
theorem dX3_marks_104 : decode cX3_marks 104 = .ok (.if_icmp .le 15, 3) := dk_164 0 15 (dk_at dksX3_marks_4 8 rfl rfl)
theorem dX3_marks_107 : decode cX3_marks 107 = .ok (.aload_n 0, 1) := dk_42 (dk_at dksX3_marks_4 11 rfl rfl)
theorem dX3_marks_108 : decode cX3_marks 108 = .ok (.getfield 48, 3) := dk_180 0 48 (dk_at dksX3_marks_4 12 rfl rfl)
theorem dX3_marks_111 : decode cX3_marks 111 = .ok (.iload_n 1, 1) := dk_27 (dk_at dksX3_marks_4 15 rfl rfl)
theorem dX3_marks_112 : decode cX3_marks 112 = .ok (.iaload, 1) := dk_46 (dk_at dksX3_marks_4 16 rfl rfl)
theorem dX3_marks_113 : decode cX3_marks 113 = .ok (.istore 4, 2) := dk_54 4 (dk_at dksX3_marks_4 17 rfl rfl)
theorem dX3_marks_115 : decode cX3_marks 115 = .ok (.iload 7, 2) := dk_21 7 (dk_at dksX3_marks_4 19 rfl rfl)
theorem dX3_marks_117 : decode cX3_marks 117 = .ok (.istore 6, 2) := dk_54 6 (dk_at dksX3_marks_4 21 rfl rfl)
theorem dX3_marks_119 : decode cX3_marks 119 = .ok (.iinc 7 1, 3) := dk_132 7 1 (dk_at dksX3_marks_5 0 rfl rfl)
theorem dX3_marks_122 : decode cX3_marks 122 = .ok (.goto (-61), 3) := dk_167 255 195 (dk_at dksX3_marks_5 3 rfl rfl)
theorem dX3_marks_125 : decode cX3_marks 125 = .ok (.aload_n 0, 1) := dk_42 (dk_at dksX3_marks_5 6 rfl rfl)
theorem dX3_marks_126 : decode cX3_marks 126 = .ok (.iconst 0, 1) := dk_3 (dk_at dksX3_marks_5 7 rfl rfl)
theorem dX3_marks_127 : decode cX3_marks 127 = .ok (.putfield 98, 3) := dk_181 0 98 (dk_at dksX3_marks_5 8 rfl rfl)
theorem dX3_marks_130 : decode cX3_marks 130 = .ok (.aload_n 0, 1) := dk_42 (dk_at dksX3_marks_5 11 rfl rfl)
theorem dX3_marks_131 : decode cX3_marks 131 = .ok (.iload 5, 2) := dk_21 5 (dk_at dksX3_marks_5 12 rfl rfl)
theorem dX3_marks_133 : decode cX3_marks 133 = .ok (.i2l, 1) := dk_133 (dk_at dksX3_marks_5 14 rfl rfl)
theorem dX3_marks_134 : decode cX3_marks 134 = .ok (.invokevirtual 248, 3) := dk_182 0 248 (dk_at dksX3_marks_5 15 rfl rfl)
theorem dX3_marks_137 : decode cX3_marks 137 = .ok (.aload_n 0, 1) := dk_42 (dk_at dksX3_marks_5 18 rfl rfl)
theorem dX3_marks_138 : decode cX3_marks 138 = .ok (.iload 4, 2) := dk_21 4 (dk_at dksX3_marks_5 19 rfl rfl)
theorem dX3_marks_140 : decode cX3_marks 140 = .ok (.i2l, 1) := dk_133 (dk_at dksX3_marks_5 21 rfl rfl)
theorem dX3_marks_141 : decode cX3_marks 141 = .ok (.invokevirtual 248, 3) := dk_182 0 248 (dk_at dksX3_marks_6 0 rfl rfl)
theorem dX3_marks_144 : decode cX3_marks 144 = .ok (.aload_n 0, 1) := dk_42 (dk_at dksX3_marks_6 3 rfl rfl)
theorem dX3_marks_145 : decode cX3_marks 145 = .ok (.iload 6, 2) := dk_21 6 (dk_at dksX3_marks_6 4 rfl rfl)
theorem dX3_marks_147 : decode cX3_marks 147 = .ok (.i2l, 1) := dk_133 (dk_at dksX3_marks_6 6 rfl rfl)
theorem dX3_marks_148 : decode cX3_marks 148 = .ok (.invokevirtual 248, 3) := dk_182 0 248 (dk_at dksX3_marks_6 7 rfl rfl)
theorem dX3_marks_151 : decode cX3_marks 151 = .ok (.iload_n 3, 1) := dk_29 (dk_at dksX3_marks_6 10 rfl rfl)
theorem dX3_marks_152 : decode cX3_marks 152 = .ok (.ireturn, 1) := dk_172 (dk_at dksX3_marks_6 11 rfl rfl)
abbrev cX3_realm : ByteArray := prog_9_method_63_code
def yX3_realm : MethodName := ⟨RX3, "realm", "(I)I"⟩
def dkwX3_realm_3 : List UInt8 := [42, 42, 42, 180, 0, 9, 28, 182, 1, 31, 133, 182, 0, 248, 42, 29, 133, 182, 0, 248, 28, 172]
abbrev dktX3_realm_3 : List UInt8 := dkwX3_realm_3 ++ []
def dkwX3_realm_2 : List UInt8 := [42, 180, 0, 13, 21, 4, 46, 167, 0, 4, 3, 96, 62, 132, 4, 1, 167, 255, 221, 42, 3, 181, 0, 98]
abbrev dktX3_realm_2 : List UInt8 := dkwX3_realm_2 ++ dktX3_realm_3
def dkwX3_realm_1 : List UInt8 := [3, 62, 3, 54, 4, 21, 4, 42, 180, 0, 101, 162, 0, 32, 29, 28, 21, 4, 184, 1, 21, 153, 0, 13]
abbrev dktX3_realm_1 : List UInt8 := dkwX3_realm_1 ++ dktX3_realm_2
def dkwX3_realm_0 : List UInt8 := [42, 3, 181, 0, 95, 27, 184, 1, 25, 154, 0, 5, 2, 172, 42, 42, 180, 0, 9, 27, 182, 1, 28, 61]
abbrev dktX3_realm_0 : List UInt8 := dkwX3_realm_0 ++ dktX3_realm_1
theorem dksX3_realm_0 : cX3_realm.data.toList.drop 0 = dktX3_realm_0 := by decide +kernel
theorem dksX3_realm_1 : cX3_realm.data.toList.drop 24 = dktX3_realm_1 := dk_seg dksX3_realm_0 24 rfl rfl
theorem dksX3_realm_2 : cX3_realm.data.toList.drop 48 = dktX3_realm_2 := dk_seg dksX3_realm_1 24 rfl rfl
theorem dksX3_realm_3 : cX3_realm.data.toList.drop 72 = dktX3_realm_3 := dk_seg dksX3_realm_2 24 rfl rfl
theorem dX3_realm_0 : decode cX3_realm 0 = .ok (.aload_n 0, 1) := dk_42 (dk_at dksX3_realm_0 0 rfl rfl)
theorem dX3_realm_1 : decode cX3_realm 1 = .ok (.iconst 0, 1) := dk_3 (dk_at dksX3_realm_0 1 rfl rfl)
theorem dX3_realm_2 : decode cX3_realm 2 = .ok (.putfield 95, 3) := dk_181 0 95 (dk_at dksX3_realm_0 2 rfl rfl)
theorem dX3_realm_5 : decode cX3_realm 5 = .ok (.iload_n 1, 1) := dk_27 (dk_at dksX3_realm_0 5 rfl rfl)
theorem dX3_realm_6 : decode cX3_realm 6 = .ok (.invokestatic 281, 3) := dk_184 1 25 (dk_at dksX3_realm_0 6 rfl rfl)
theorem dX3_realm_9 : decode cX3_realm 9 = .ok (.ifCond .ne 5, 3) := dk_154 0 5 (dk_at dksX3_realm_0 9 rfl rfl)
theorem dX3_realm_12 : decode cX3_realm 12 = .ok (.iconst (-1), 1) := dk_2 (dk_at dksX3_realm_0 12 rfl rfl)
theorem dX3_realm_13 : decode cX3_realm 13 = .ok (.ireturn, 1) := dk_172 (dk_at dksX3_realm_0 13 rfl rfl)
theorem dX3_realm_14 : decode cX3_realm 14 = .ok (.aload_n 0, 1) := dk_42 (dk_at dksX3_realm_0 14 rfl rfl)
theorem dX3_realm_15 : decode cX3_realm 15 = .ok (.aload_n 0, 1) := dk_42 (dk_at dksX3_realm_0 15 rfl rfl)
theorem dX3_realm_16 : decode cX3_realm 16 = .ok (.getfield 9, 3) := dk_180 0 9 (dk_at dksX3_realm_0 16 rfl rfl)
theorem dX3_realm_19 : decode cX3_realm 19 = .ok (.iload_n 1, 1) := dk_27 (dk_at dksX3_realm_0 19 rfl rfl)
theorem dX3_realm_20 : decode cX3_realm 20 = .ok (.invokevirtual 284, 3) := dk_182 1 28 (dk_at dksX3_realm_0 20 rfl rfl)
theorem dX3_realm_23 : decode cX3_realm 23 = .ok (.istore_n 2, 1) := dk_61 (dk_at dksX3_realm_0 23 rfl rfl)
theorem dX3_realm_24 : decode cX3_realm 24 = .ok (.iconst 0, 1) := dk_3 (dk_at dksX3_realm_1 0 rfl rfl)
theorem dX3_realm_25 : decode cX3_realm 25 = .ok (.istore_n 3, 1) := dk_62 (dk_at dksX3_realm_1 1 rfl rfl)
theorem dX3_realm_26 : decode cX3_realm 26 = .ok (.iconst 0, 1) := dk_3 (dk_at dksX3_realm_1 2 rfl rfl)
theorem dX3_realm_27 : decode cX3_realm 27 = .ok (.istore 4, 2) := dk_54 4 (dk_at dksX3_realm_1 3 rfl rfl)
theorem dX3_realm_29 : decode cX3_realm 29 = .ok (.iload 4, 2) := dk_21 4 (dk_at dksX3_realm_1 5 rfl rfl)
theorem dX3_realm_31 : decode cX3_realm 31 = .ok (.aload_n 0, 1) := dk_42 (dk_at dksX3_realm_1 7 rfl rfl)
theorem dX3_realm_32 : decode cX3_realm 32 = .ok (.getfield 101, 3) := dk_180 0 101 (dk_at dksX3_realm_1 8 rfl rfl)
theorem dX3_realm_35 : decode cX3_realm 35 = .ok (.if_icmp .ge 32, 3) := dk_162 0 32 (dk_at dksX3_realm_1 11 rfl rfl)
theorem dX3_realm_38 : decode cX3_realm 38 = .ok (.iload_n 3, 1) := dk_29 (dk_at dksX3_realm_1 14 rfl rfl)
theorem dX3_realm_39 : decode cX3_realm 39 = .ok (.iload_n 2, 1) := dk_28 (dk_at dksX3_realm_1 15 rfl rfl)
theorem dX3_realm_40 : decode cX3_realm 40 = .ok (.iload 4, 2) := dk_21 4 (dk_at dksX3_realm_1 16 rfl rfl)
theorem dX3_realm_42 : decode cX3_realm 42 = .ok (.invokestatic 277, 3) := dk_184 1 21 (dk_at dksX3_realm_1 18 rfl rfl)
theorem dX3_realm_45 : decode cX3_realm 45 = .ok (.ifCond .eq 13, 3) := dk_153 0 13 (dk_at dksX3_realm_1 21 rfl rfl)
theorem dX3_realm_48 : decode cX3_realm 48 = .ok (.aload_n 0, 1) := dk_42 (dk_at dksX3_realm_2 0 rfl rfl)
theorem dX3_realm_49 : decode cX3_realm 49 = .ok (.getfield 13, 3) := dk_180 0 13 (dk_at dksX3_realm_2 1 rfl rfl)
theorem dX3_realm_52 : decode cX3_realm 52 = .ok (.iload 4, 2) := dk_21 4 (dk_at dksX3_realm_2 4 rfl rfl)
theorem dX3_realm_54 : decode cX3_realm 54 = .ok (.iaload, 1) := dk_46 (dk_at dksX3_realm_2 6 rfl rfl)
theorem dX3_realm_55 : decode cX3_realm 55 = .ok (.goto 4, 3) := dk_167 0 4 (dk_at dksX3_realm_2 7 rfl rfl)
theorem dX3_realm_58 : decode cX3_realm 58 = .ok (.iconst 0, 1) := dk_3 (dk_at dksX3_realm_2 10 rfl rfl)
theorem dX3_realm_59 : decode cX3_realm 59 = .ok (.iadd, 1) := dk_96 (dk_at dksX3_realm_2 11 rfl rfl)
theorem dX3_realm_60 : decode cX3_realm 60 = .ok (.istore_n 3, 1) := dk_62 (dk_at dksX3_realm_2 12 rfl rfl)
theorem dX3_realm_61 : decode cX3_realm 61 = .ok (.iinc 4 1, 3) := dk_132 4 1 (dk_at dksX3_realm_2 13 rfl rfl)
theorem dX3_realm_64 : decode cX3_realm 64 = .ok (.goto (-35), 3) := dk_167 255 221 (dk_at dksX3_realm_2 16 rfl rfl)
theorem dX3_realm_67 : decode cX3_realm 67 = .ok (.aload_n 0, 1) := dk_42 (dk_at dksX3_realm_2 19 rfl rfl)
theorem dX3_realm_68 : decode cX3_realm 68 = .ok (.iconst 0, 1) := dk_3 (dk_at dksX3_realm_2 20 rfl rfl)
theorem dX3_realm_69 : decode cX3_realm 69 = .ok (.putfield 98, 3) := dk_181 0 98 (dk_at dksX3_realm_2 21 rfl rfl)
theorem dX3_realm_72 : decode cX3_realm 72 = .ok (.aload_n 0, 1) := dk_42 (dk_at dksX3_realm_3 0 rfl rfl)
theorem dX3_realm_73 : decode cX3_realm 73 = .ok (.aload_n 0, 1) := dk_42 (dk_at dksX3_realm_3 1 rfl rfl)
theorem dX3_realm_74 : decode cX3_realm 74 = .ok (.aload_n 0, 1) := dk_42 (dk_at dksX3_realm_3 2 rfl rfl)
theorem dX3_realm_75 : decode cX3_realm 75 = .ok (.getfield 9, 3) := dk_180 0 9 (dk_at dksX3_realm_3 3 rfl rfl)
theorem dX3_realm_78 : decode cX3_realm 78 = .ok (.iload_n 2, 1) := dk_28 (dk_at dksX3_realm_3 6 rfl rfl)
theorem dX3_realm_79 : decode cX3_realm 79 = .ok (.invokevirtual 287, 3) := dk_182 1 31 (dk_at dksX3_realm_3 7 rfl rfl)
theorem dX3_realm_82 : decode cX3_realm 82 = .ok (.i2l, 1) := dk_133 (dk_at dksX3_realm_3 10 rfl rfl)
theorem dX3_realm_83 : decode cX3_realm 83 = .ok (.invokevirtual 248, 3) := dk_182 0 248 (dk_at dksX3_realm_3 11 rfl rfl)
theorem dX3_realm_86 : decode cX3_realm 86 = .ok (.aload_n 0, 1) := dk_42 (dk_at dksX3_realm_3 14 rfl rfl)
theorem dX3_realm_87 : decode cX3_realm 87 = .ok (.iload_n 3, 1) := dk_29 (dk_at dksX3_realm_3 15 rfl rfl)
theorem dX3_realm_88 : decode cX3_realm 88 = .ok (.i2l, 1) := dk_133 (dk_at dksX3_realm_3 16 rfl rfl)
theorem dX3_realm_89 : decode cX3_realm 89 = .ok (.invokevirtual 248, 3) := dk_182 0 248 (dk_at dksX3_realm_3 17 rfl rfl)
theorem dX3_realm_92 : decode cX3_realm 92 = .ok (.iload_n 2, 1) := dk_28 (dk_at dksX3_realm_3 20 rfl rfl)
theorem dX3_realm_93 : decode cX3_realm 93 = .ok (.ireturn, 1) := dk_172 (dk_at dksX3_realm_3 21 rfl rfl)
abbrev cX3_isKing : ByteArray := prog_9_method_9_code
def yX3_isKing : MethodName := ⟨RX3, "isKing", "(I)Z"⟩
def dkwX3_isKing_0 : List UInt8 := [26, 3, 6, 184, 0, 104, 172]
abbrev dktX3_isKing_0 : List UInt8 := dkwX3_isKing_0 ++ []
theorem dksX3_isKing_0 : cX3_isKing.data.toList.drop 0 = dktX3_isKing_0 := by decide +kernel
theorem dX3_isKing_0 : decode cX3_isKing 0 = .ok (.iload_n 0, 1) := dk_26 (dk_at dksX3_isKing_0 0 rfl rfl)
theorem dX3_isKing_1 : decode cX3_isKing 1 = .ok (.iconst 0, 1) := dk_3 (dk_at dksX3_isKing_0 1 rfl rfl)
theorem dX3_isKing_2 : decode cX3_isKing 2 = .ok (.iconst 3, 1) := dk_6 (dk_at dksX3_isKing_0 2 rfl rfl)
theorem dX3_isKing_3 : decode cX3_isKing 3 = .ok (.invokestatic 104, 3) := dk_184 0 104 (dk_at dksX3_isKing_0 3 rfl rfl)
theorem dX3_isKing_6 : decode cX3_isKing 6 = .ok (.ireturn, 1) := dk_172 (dk_at dksX3_isKing_0 6 rfl rfl)
abbrev cX3_ownOf : ByteArray := prog_9_method_61_code
def yX3_ownOf : MethodName := ⟨RX3, "ownOf", "([II)I"⟩
def dkwX3_ownOf_1 : List UInt8 := [160, 0, 10, 4, 21, 4, 120, 167, 0, 4, 3, 128, 62, 132, 4, 1, 167, 255, 222, 29, 172]
abbrev dktX3_ownOf_1 : List UInt8 := dkwX3_ownOf_1 ++ []
def dkwX3_ownOf_0 : List UInt8 := [3, 62, 3, 54, 4, 21, 4, 42, 180, 0, 101, 162, 0, 31, 29, 43, 16, 24, 21, 4, 96, 46, 28]
abbrev dktX3_ownOf_0 : List UInt8 := dkwX3_ownOf_0 ++ dktX3_ownOf_1
theorem dksX3_ownOf_0 : cX3_ownOf.data.toList.drop 0 = dktX3_ownOf_0 := by decide +kernel
theorem dksX3_ownOf_1 : cX3_ownOf.data.toList.drop 23 = dktX3_ownOf_1 := dk_seg dksX3_ownOf_0 23 rfl rfl
theorem dX3_ownOf_0 : decode cX3_ownOf 0 = .ok (.iconst 0, 1) := dk_3 (dk_at dksX3_ownOf_0 0 rfl rfl)
theorem dX3_ownOf_1 : decode cX3_ownOf 1 = .ok (.istore_n 3, 1) := dk_62 (dk_at dksX3_ownOf_0 1 rfl rfl)
theorem dX3_ownOf_2 : decode cX3_ownOf 2 = .ok (.iconst 0, 1) := dk_3 (dk_at dksX3_ownOf_0 2 rfl rfl)
theorem dX3_ownOf_3 : decode cX3_ownOf 3 = .ok (.istore 4, 2) := dk_54 4 (dk_at dksX3_ownOf_0 3 rfl rfl)
theorem dX3_ownOf_5 : decode cX3_ownOf 5 = .ok (.iload 4, 2) := dk_21 4 (dk_at dksX3_ownOf_0 5 rfl rfl)
theorem dX3_ownOf_7 : decode cX3_ownOf 7 = .ok (.aload_n 0, 1) := dk_42 (dk_at dksX3_ownOf_0 7 rfl rfl)
theorem dX3_ownOf_8 : decode cX3_ownOf 8 = .ok (.getfield 101, 3) := dk_180 0 101 (dk_at dksX3_ownOf_0 8 rfl rfl)
theorem dX3_ownOf_11 : decode cX3_ownOf 11 = .ok (.if_icmp .ge 31, 3) := dk_162 0 31 (dk_at dksX3_ownOf_0 11 rfl rfl)
theorem dX3_ownOf_14 : decode cX3_ownOf 14 = .ok (.iload_n 3, 1) := dk_29 (dk_at dksX3_ownOf_0 14 rfl rfl)
theorem dX3_ownOf_15 : decode cX3_ownOf 15 = .ok (.aload_n 1, 1) := dk_43 (dk_at dksX3_ownOf_0 15 rfl rfl)
theorem dX3_ownOf_16 : decode cX3_ownOf 16 = .ok (.bipush 24, 2) := dk_16 24 (dk_at dksX3_ownOf_0 16 rfl rfl)
theorem dX3_ownOf_18 : decode cX3_ownOf 18 = .ok (.iload 4, 2) := dk_21 4 (dk_at dksX3_ownOf_0 18 rfl rfl)
theorem dX3_ownOf_20 : decode cX3_ownOf 20 = .ok (.iadd, 1) := dk_96 (dk_at dksX3_ownOf_0 20 rfl rfl)
theorem dX3_ownOf_21 : decode cX3_ownOf 21 = .ok (.iaload, 1) := dk_46 (dk_at dksX3_ownOf_0 21 rfl rfl)
theorem dX3_ownOf_22 : decode cX3_ownOf 22 = .ok (.iload_n 2, 1) := dk_28 (dk_at dksX3_ownOf_0 22 rfl rfl)
theorem dX3_ownOf_23 : decode cX3_ownOf 23 = .ok (.if_icmp .ne 10, 3) := dk_160 0 10 (dk_at dksX3_ownOf_1 0 rfl rfl)
theorem dX3_ownOf_26 : decode cX3_ownOf 26 = .ok (.iconst 1, 1) := dk_4 (dk_at dksX3_ownOf_1 3 rfl rfl)
theorem dX3_ownOf_27 : decode cX3_ownOf 27 = .ok (.iload 4, 2) := dk_21 4 (dk_at dksX3_ownOf_1 4 rfl rfl)
theorem dX3_ownOf_29 : decode cX3_ownOf 29 = .ok (.ishl, 1) := dk_120 (dk_at dksX3_ownOf_1 6 rfl rfl)
theorem dX3_ownOf_30 : decode cX3_ownOf 30 = .ok (.goto 4, 3) := dk_167 0 4 (dk_at dksX3_ownOf_1 7 rfl rfl)
theorem dX3_ownOf_33 : decode cX3_ownOf 33 = .ok (.iconst 0, 1) := dk_3 (dk_at dksX3_ownOf_1 10 rfl rfl)
theorem dX3_ownOf_34 : decode cX3_ownOf 34 = .ok (.ior, 1) := dk_128 (dk_at dksX3_ownOf_1 11 rfl rfl)
theorem dX3_ownOf_35 : decode cX3_ownOf 35 = .ok (.istore_n 3, 1) := dk_62 (dk_at dksX3_ownOf_1 12 rfl rfl)
theorem dX3_ownOf_36 : decode cX3_ownOf 36 = .ok (.iinc 4 1, 3) := dk_132 4 1 (dk_at dksX3_ownOf_1 13 rfl rfl)
theorem dX3_ownOf_39 : decode cX3_ownOf 39 = .ok (.goto (-34), 3) := dk_167 255 222 (dk_at dksX3_ownOf_1 16 rfl rfl)
theorem dX3_ownOf_42 : decode cX3_ownOf 42 = .ok (.iload_n 3, 1) := dk_29 (dk_at dksX3_ownOf_1 19 rfl rfl)
theorem dX3_ownOf_43 : decode cX3_ownOf 43 = .ok (.ireturn, 1) := dk_172 (dk_at dksX3_ownOf_1 20 rfl rfl)
abbrev cX3_has : ByteArray := prog_9_method_4_code
def yX3_has : MethodName := ⟨RX3, "has", "(II)Z"⟩
def dkwX3_has_0 : List UInt8 := [26, 27, 122, 4, 126, 4, 160, 0, 7, 4, 167, 0, 4, 3, 172]
abbrev dktX3_has_0 : List UInt8 := dkwX3_has_0 ++ []
theorem dksX3_has_0 : cX3_has.data.toList.drop 0 = dktX3_has_0 := by decide +kernel
theorem dX3_has_0 : decode cX3_has 0 = .ok (.iload_n 0, 1) := dk_26 (dk_at dksX3_has_0 0 rfl rfl)
theorem dX3_has_1 : decode cX3_has 1 = .ok (.iload_n 1, 1) := dk_27 (dk_at dksX3_has_0 1 rfl rfl)
theorem dX3_has_2 : decode cX3_has 2 = .ok (.ishr, 1) := dk_122 (dk_at dksX3_has_0 2 rfl rfl)
theorem dX3_has_3 : decode cX3_has 3 = .ok (.iconst 1, 1) := dk_4 (dk_at dksX3_has_0 3 rfl rfl)
theorem dX3_has_4 : decode cX3_has 4 = .ok (.iand, 1) := dk_126 (dk_at dksX3_has_0 4 rfl rfl)
theorem dX3_has_5 : decode cX3_has 5 = .ok (.iconst 1, 1) := dk_4 (dk_at dksX3_has_0 5 rfl rfl)
theorem dX3_has_6 : decode cX3_has 6 = .ok (.if_icmp .ne 7, 3) := dk_160 0 7 (dk_at dksX3_has_0 6 rfl rfl)
theorem dX3_has_9 : decode cX3_has 9 = .ok (.iconst 1, 1) := dk_4 (dk_at dksX3_has_0 9 rfl rfl)
theorem dX3_has_10 : decode cX3_has 10 = .ok (.goto 4, 3) := dk_167 0 4 (dk_at dksX3_has_0 10 rfl rfl)
theorem dX3_has_13 : decode cX3_has 13 = .ok (.iconst 0, 1) := dk_3 (dk_at dksX3_has_0 13 rfl rfl)
theorem dX3_has_14 : decode cX3_has 14 = .ok (.ireturn, 1) := dk_172 (dk_at dksX3_has_0 14 rfl rfl)
abbrev cX3_levelOf : ByteArray := prog_9_method_62_code
def yX3_levelOf : MethodName := ⟨RX3, "levelOf", "([II)I"⟩
def dkwX3_levelOf_1 : List UInt8 := [43, 21, 4, 46, 167, 0, 4, 3, 96, 62, 132, 4, 1, 167, 255, 224, 29, 172]
abbrev dktX3_levelOf_1 : List UInt8 := dkwX3_levelOf_1 ++ []
def dkwX3_levelOf_0 : List UInt8 := [3, 62, 3, 54, 4, 21, 4, 42, 180, 0, 101, 162, 0, 29, 29, 28, 21, 4, 184, 1, 21, 153, 0, 10]
abbrev dktX3_levelOf_0 : List UInt8 := dkwX3_levelOf_0 ++ dktX3_levelOf_1
theorem dksX3_levelOf_0 : cX3_levelOf.data.toList.drop 0 = dktX3_levelOf_0 := by decide +kernel
theorem dksX3_levelOf_1 : cX3_levelOf.data.toList.drop 24 = dktX3_levelOf_1 := dk_seg dksX3_levelOf_0 24 rfl rfl
theorem dX3_levelOf_0 : decode cX3_levelOf 0 = .ok (.iconst 0, 1) := dk_3 (dk_at dksX3_levelOf_0 0 rfl rfl)
theorem dX3_levelOf_1 : decode cX3_levelOf 1 = .ok (.istore_n 3, 1) := dk_62 (dk_at dksX3_levelOf_0 1 rfl rfl)
theorem dX3_levelOf_2 : decode cX3_levelOf 2 = .ok (.iconst 0, 1) := dk_3 (dk_at dksX3_levelOf_0 2 rfl rfl)
theorem dX3_levelOf_3 : decode cX3_levelOf 3 = .ok (.istore 4, 2) := dk_54 4 (dk_at dksX3_levelOf_0 3 rfl rfl)
theorem dX3_levelOf_5 : decode cX3_levelOf 5 = .ok (.iload 4, 2) := dk_21 4 (dk_at dksX3_levelOf_0 5 rfl rfl)
theorem dX3_levelOf_7 : decode cX3_levelOf 7 = .ok (.aload_n 0, 1) := dk_42 (dk_at dksX3_levelOf_0 7 rfl rfl)
theorem dX3_levelOf_8 : decode cX3_levelOf 8 = .ok (.getfield 101, 3) := dk_180 0 101 (dk_at dksX3_levelOf_0 8 rfl rfl)
theorem dX3_levelOf_11 : decode cX3_levelOf 11 = .ok (.if_icmp .ge 29, 3) := dk_162 0 29 (dk_at dksX3_levelOf_0 11 rfl rfl)
theorem dX3_levelOf_14 : decode cX3_levelOf 14 = .ok (.iload_n 3, 1) := dk_29 (dk_at dksX3_levelOf_0 14 rfl rfl)
theorem dX3_levelOf_15 : decode cX3_levelOf 15 = .ok (.iload_n 2, 1) := dk_28 (dk_at dksX3_levelOf_0 15 rfl rfl)
theorem dX3_levelOf_16 : decode cX3_levelOf 16 = .ok (.iload 4, 2) := dk_21 4 (dk_at dksX3_levelOf_0 16 rfl rfl)
theorem dX3_levelOf_18 : decode cX3_levelOf 18 = .ok (.invokestatic 277, 3) := dk_184 1 21 (dk_at dksX3_levelOf_0 18 rfl rfl)
theorem dX3_levelOf_21 : decode cX3_levelOf 21 = .ok (.ifCond .eq 10, 3) := dk_153 0 10 (dk_at dksX3_levelOf_0 21 rfl rfl)
theorem dX3_levelOf_24 : decode cX3_levelOf 24 = .ok (.aload_n 1, 1) := dk_43 (dk_at dksX3_levelOf_1 0 rfl rfl)
theorem dX3_levelOf_25 : decode cX3_levelOf 25 = .ok (.iload 4, 2) := dk_21 4 (dk_at dksX3_levelOf_1 1 rfl rfl)
theorem dX3_levelOf_27 : decode cX3_levelOf 27 = .ok (.iaload, 1) := dk_46 (dk_at dksX3_levelOf_1 3 rfl rfl)
theorem dX3_levelOf_28 : decode cX3_levelOf 28 = .ok (.goto 4, 3) := dk_167 0 4 (dk_at dksX3_levelOf_1 4 rfl rfl)
theorem dX3_levelOf_31 : decode cX3_levelOf 31 = .ok (.iconst 0, 1) := dk_3 (dk_at dksX3_levelOf_1 7 rfl rfl)
theorem dX3_levelOf_32 : decode cX3_levelOf 32 = .ok (.iadd, 1) := dk_96 (dk_at dksX3_levelOf_1 8 rfl rfl)
theorem dX3_levelOf_33 : decode cX3_levelOf 33 = .ok (.istore_n 3, 1) := dk_62 (dk_at dksX3_levelOf_1 9 rfl rfl)
theorem dX3_levelOf_34 : decode cX3_levelOf 34 = .ok (.iinc 4 1, 3) := dk_132 4 1 (dk_at dksX3_levelOf_1 10 rfl rfl)
theorem dX3_levelOf_37 : decode cX3_levelOf 37 = .ok (.goto (-32), 3) := dk_167 255 224 (dk_at dksX3_levelOf_1 13 rfl rfl)
theorem dX3_levelOf_40 : decode cX3_levelOf 40 = .ok (.iload_n 3, 1) := dk_29 (dk_at dksX3_levelOf_1 16 rfl rfl)
theorem dX3_levelOf_41 : decode cX3_levelOf 41 = .ok (.ireturn, 1) := dk_172 (dk_at dksX3_levelOf_1 17 rfl rfl)
abbrev cX3_course : ByteArray := prog_9_method_64_code
def yX3_course : MethodName := ⟨RX3, "course", "(I)I"⟩
def dkwX3_course_1 : List UInt8 := [159, 0, 19, 42, 28, 133, 182, 0, 248, 42, 180, 0, 19, 28, 46, 61, 167, 255, 238, 42, 180, 0, 98, 172]
abbrev dktX3_course_1 : List UInt8 := dkwX3_course_1 ++ []
def dkwX3_course_0 : List UInt8 := [42, 3, 181, 0, 95, 42, 27, 182, 0, 108, 154, 0, 5, 2, 172, 42, 3, 181, 0, 98, 27, 61, 28, 2]
abbrev dktX3_course_0 : List UInt8 := dkwX3_course_0 ++ dktX3_course_1
theorem dksX3_course_0 : cX3_course.data.toList.drop 0 = dktX3_course_0 := by decide +kernel
theorem dksX3_course_1 : cX3_course.data.toList.drop 24 = dktX3_course_1 := dk_seg dksX3_course_0 24 rfl rfl
theorem dX3_course_0 : decode cX3_course 0 = .ok (.aload_n 0, 1) := dk_42 (dk_at dksX3_course_0 0 rfl rfl)
theorem dX3_course_1 : decode cX3_course 1 = .ok (.iconst 0, 1) := dk_3 (dk_at dksX3_course_0 1 rfl rfl)
theorem dX3_course_2 : decode cX3_course 2 = .ok (.putfield 95, 3) := dk_181 0 95 (dk_at dksX3_course_0 2 rfl rfl)
theorem dX3_course_5 : decode cX3_course 5 = .ok (.aload_n 0, 1) := dk_42 (dk_at dksX3_course_0 5 rfl rfl)
theorem dX3_course_6 : decode cX3_course 6 = .ok (.iload_n 1, 1) := dk_27 (dk_at dksX3_course_0 6 rfl rfl)
theorem dX3_course_7 : decode cX3_course 7 = .ok (.invokevirtual 108, 3) := dk_182 0 108 (dk_at dksX3_course_0 7 rfl rfl)
theorem dX3_course_10 : decode cX3_course 10 = .ok (.ifCond .ne 5, 3) := dk_154 0 5 (dk_at dksX3_course_0 10 rfl rfl)
theorem dX3_course_13 : decode cX3_course 13 = .ok (.iconst (-1), 1) := dk_2 (dk_at dksX3_course_0 13 rfl rfl)
theorem dX3_course_14 : decode cX3_course 14 = .ok (.ireturn, 1) := dk_172 (dk_at dksX3_course_0 14 rfl rfl)
theorem dX3_course_15 : decode cX3_course 15 = .ok (.aload_n 0, 1) := dk_42 (dk_at dksX3_course_0 15 rfl rfl)
theorem dX3_course_16 : decode cX3_course 16 = .ok (.iconst 0, 1) := dk_3 (dk_at dksX3_course_0 16 rfl rfl)
theorem dX3_course_17 : decode cX3_course 17 = .ok (.putfield 98, 3) := dk_181 0 98 (dk_at dksX3_course_0 17 rfl rfl)
theorem dX3_course_20 : decode cX3_course 20 = .ok (.iload_n 1, 1) := dk_27 (dk_at dksX3_course_0 20 rfl rfl)
theorem dX3_course_21 : decode cX3_course 21 = .ok (.istore_n 2, 1) := dk_61 (dk_at dksX3_course_0 21 rfl rfl)
theorem dX3_course_22 : decode cX3_course 22 = .ok (.iload_n 2, 1) := dk_28 (dk_at dksX3_course_0 22 rfl rfl)
theorem dX3_course_23 : decode cX3_course 23 = .ok (.iconst (-1), 1) := dk_2 (dk_at dksX3_course_0 23 rfl rfl)
theorem dX3_course_24 : decode cX3_course 24 = .ok (.if_icmp .eq 19, 3) := dk_159 0 19 (dk_at dksX3_course_1 0 rfl rfl)
theorem dX3_course_27 : decode cX3_course 27 = .ok (.aload_n 0, 1) := dk_42 (dk_at dksX3_course_1 3 rfl rfl)
theorem dX3_course_28 : decode cX3_course 28 = .ok (.iload_n 2, 1) := dk_28 (dk_at dksX3_course_1 4 rfl rfl)
theorem dX3_course_29 : decode cX3_course 29 = .ok (.i2l, 1) := dk_133 (dk_at dksX3_course_1 5 rfl rfl)
theorem dX3_course_30 : decode cX3_course 30 = .ok (.invokevirtual 248, 3) := dk_182 0 248 (dk_at dksX3_course_1 6 rfl rfl)
theorem dX3_course_33 : decode cX3_course 33 = .ok (.aload_n 0, 1) := dk_42 (dk_at dksX3_course_1 9 rfl rfl)
theorem dX3_course_34 : decode cX3_course 34 = .ok (.getfield 19, 3) := dk_180 0 19 (dk_at dksX3_course_1 10 rfl rfl)
theorem dX3_course_37 : decode cX3_course 37 = .ok (.iload_n 2, 1) := dk_28 (dk_at dksX3_course_1 13 rfl rfl)
theorem dX3_course_38 : decode cX3_course 38 = .ok (.iaload, 1) := dk_46 (dk_at dksX3_course_1 14 rfl rfl)
theorem dX3_course_39 : decode cX3_course 39 = .ok (.istore_n 2, 1) := dk_61 (dk_at dksX3_course_1 15 rfl rfl)
theorem dX3_course_40 : decode cX3_course 40 = .ok (.goto (-18), 3) := dk_167 255 238 (dk_at dksX3_course_1 16 rfl rfl)
theorem dX3_course_43 : decode cX3_course 43 = .ok (.aload_n 0, 1) := dk_42 (dk_at dksX3_course_1 19 rfl rfl)
theorem dX3_course_44 : decode cX3_course 44 = .ok (.getfield 98, 3) := dk_180 0 98 (dk_at dksX3_course_1 20 rfl rfl)
theorem dX3_course_47 : decode cX3_course 47 = .ok (.ireturn, 1) := dk_172 (dk_at dksX3_course_1 23 rfl rfl)
abbrev cX3_basin : ByteArray := prog_9_method_65_code
def yX3_basin : MethodName := ⟨RX3, "basin", "(I)I"⟩
def dkwX3_basin_5 : List UInt8 := [182, 0, 248, 42, 29, 133, 182, 0, 248, 28, 172]
abbrev dktX3_basin_5 : List UInt8 := dkwX3_basin_5 ++ []
def dkwX3_basin_4 : List UInt8 := [132, 4, 1, 167, 255, 180, 42, 3, 181, 0, 98, 42, 42, 42, 180, 0, 9, 28, 182, 1, 31, 133]
abbrev dktX3_basin_4 : List UInt8 := dkwX3_basin_4 ++ dktX3_basin_5
def dkwX3_basin_3 : List UInt8 := [46, 54, 5, 167, 255, 235, 28, 21, 5, 27, 160, 0, 10, 4, 21, 4, 120, 167, 0, 4, 3, 128, 61]
abbrev dktX3_basin_3 : List UInt8 := dkwX3_basin_3 ++ dktX3_basin_4
def dkwX3_basin_2 : List UInt8 := [167, 0, 4, 3, 96, 62, 21, 5, 2, 159, 0, 21, 21, 5, 27, 159, 0, 15, 42, 180, 0, 19, 21, 5]
abbrev dktX3_basin_2 : List UInt8 := dkwX3_basin_2 ++ dktX3_basin_3
def dkwX3_basin_1 : List UInt8 := [42, 180, 0, 101, 162, 0, 73, 42, 180, 0, 19, 21, 4, 46, 54, 5, 29, 21, 5, 27, 160, 0, 7, 4]
abbrev dktX3_basin_1 : List UInt8 := dkwX3_basin_1 ++ dktX3_basin_2
def dkwX3_basin_0 : List UInt8 := [42, 3, 181, 0, 95, 42, 27, 182, 0, 108, 154, 0, 5, 2, 172, 3, 61, 3, 62, 3, 54, 4, 21, 4]
abbrev dktX3_basin_0 : List UInt8 := dkwX3_basin_0 ++ dktX3_basin_1
theorem dksX3_basin_0 : cX3_basin.data.toList.drop 0 = dktX3_basin_0 := by decide +kernel
theorem dksX3_basin_1 : cX3_basin.data.toList.drop 24 = dktX3_basin_1 := dk_seg dksX3_basin_0 24 rfl rfl
theorem dksX3_basin_2 : cX3_basin.data.toList.drop 48 = dktX3_basin_2 := dk_seg dksX3_basin_1 24 rfl rfl
theorem dksX3_basin_3 : cX3_basin.data.toList.drop 72 = dktX3_basin_3 := dk_seg dksX3_basin_2 24 rfl rfl
theorem dksX3_basin_4 : cX3_basin.data.toList.drop 95 = dktX3_basin_4 := dk_seg dksX3_basin_3 23 rfl rfl
theorem dksX3_basin_5 : cX3_basin.data.toList.drop 117 = dktX3_basin_5 := dk_seg dksX3_basin_4 22 rfl rfl
theorem dX3_basin_0 : decode cX3_basin 0 = .ok (.aload_n 0, 1) := dk_42 (dk_at dksX3_basin_0 0 rfl rfl)
theorem dX3_basin_1 : decode cX3_basin 1 = .ok (.iconst 0, 1) := dk_3 (dk_at dksX3_basin_0 1 rfl rfl)
theorem dX3_basin_2 : decode cX3_basin 2 = .ok (.putfield 95, 3) := dk_181 0 95 (dk_at dksX3_basin_0 2 rfl rfl)
theorem dX3_basin_5 : decode cX3_basin 5 = .ok (.aload_n 0, 1) := dk_42 (dk_at dksX3_basin_0 5 rfl rfl)
theorem dX3_basin_6 : decode cX3_basin 6 = .ok (.iload_n 1, 1) := dk_27 (dk_at dksX3_basin_0 6 rfl rfl)
theorem dX3_basin_7 : decode cX3_basin 7 = .ok (.invokevirtual 108, 3) := dk_182 0 108 (dk_at dksX3_basin_0 7 rfl rfl)
theorem dX3_basin_10 : decode cX3_basin 10 = .ok (.ifCond .ne 5, 3) := dk_154 0 5 (dk_at dksX3_basin_0 10 rfl rfl)
theorem dX3_basin_13 : decode cX3_basin 13 = .ok (.iconst (-1), 1) := dk_2 (dk_at dksX3_basin_0 13 rfl rfl)
theorem dX3_basin_14 : decode cX3_basin 14 = .ok (.ireturn, 1) := dk_172 (dk_at dksX3_basin_0 14 rfl rfl)
theorem dX3_basin_15 : decode cX3_basin 15 = .ok (.iconst 0, 1) := dk_3 (dk_at dksX3_basin_0 15 rfl rfl)
theorem dX3_basin_16 : decode cX3_basin 16 = .ok (.istore_n 2, 1) := dk_61 (dk_at dksX3_basin_0 16 rfl rfl)
theorem dX3_basin_17 : decode cX3_basin 17 = .ok (.iconst 0, 1) := dk_3 (dk_at dksX3_basin_0 17 rfl rfl)
theorem dX3_basin_18 : decode cX3_basin 18 = .ok (.istore_n 3, 1) := dk_62 (dk_at dksX3_basin_0 18 rfl rfl)
theorem dX3_basin_19 : decode cX3_basin 19 = .ok (.iconst 0, 1) := dk_3 (dk_at dksX3_basin_0 19 rfl rfl)
theorem dX3_basin_20 : decode cX3_basin 20 = .ok (.istore 4, 2) := dk_54 4 (dk_at dksX3_basin_0 20 rfl rfl)
theorem dX3_basin_22 : decode cX3_basin 22 = .ok (.iload 4, 2) := dk_21 4 (dk_at dksX3_basin_0 22 rfl rfl)
theorem dX3_basin_24 : decode cX3_basin 24 = .ok (.aload_n 0, 1) := dk_42 (dk_at dksX3_basin_1 0 rfl rfl)
theorem dX3_basin_25 : decode cX3_basin 25 = .ok (.getfield 101, 3) := dk_180 0 101 (dk_at dksX3_basin_1 1 rfl rfl)
theorem dX3_basin_28 : decode cX3_basin 28 = .ok (.if_icmp .ge 73, 3) := dk_162 0 73 (dk_at dksX3_basin_1 4 rfl rfl)
theorem dX3_basin_31 : decode cX3_basin 31 = .ok (.aload_n 0, 1) := dk_42 (dk_at dksX3_basin_1 7 rfl rfl)
theorem dX3_basin_32 : decode cX3_basin 32 = .ok (.getfield 19, 3) := dk_180 0 19 (dk_at dksX3_basin_1 8 rfl rfl)
theorem dX3_basin_35 : decode cX3_basin 35 = .ok (.iload 4, 2) := dk_21 4 (dk_at dksX3_basin_1 11 rfl rfl)
theorem dX3_basin_37 : decode cX3_basin 37 = .ok (.iaload, 1) := dk_46 (dk_at dksX3_basin_1 13 rfl rfl)
theorem dX3_basin_38 : decode cX3_basin 38 = .ok (.istore 5, 2) := dk_54 5 (dk_at dksX3_basin_1 14 rfl rfl)
theorem dX3_basin_40 : decode cX3_basin 40 = .ok (.iload_n 3, 1) := dk_29 (dk_at dksX3_basin_1 16 rfl rfl)
theorem dX3_basin_41 : decode cX3_basin 41 = .ok (.iload 5, 2) := dk_21 5 (dk_at dksX3_basin_1 17 rfl rfl)
theorem dX3_basin_43 : decode cX3_basin 43 = .ok (.iload_n 1, 1) := dk_27 (dk_at dksX3_basin_1 19 rfl rfl)
theorem dX3_basin_44 : decode cX3_basin 44 = .ok (.if_icmp .ne 7, 3) := dk_160 0 7 (dk_at dksX3_basin_1 20 rfl rfl)
theorem dX3_basin_47 : decode cX3_basin 47 = .ok (.iconst 1, 1) := dk_4 (dk_at dksX3_basin_1 23 rfl rfl)
theorem dX3_basin_48 : decode cX3_basin 48 = .ok (.goto 4, 3) := dk_167 0 4 (dk_at dksX3_basin_2 0 rfl rfl)
theorem dX3_basin_51 : decode cX3_basin 51 = .ok (.iconst 0, 1) := dk_3 (dk_at dksX3_basin_2 3 rfl rfl)
theorem dX3_basin_52 : decode cX3_basin 52 = .ok (.iadd, 1) := dk_96 (dk_at dksX3_basin_2 4 rfl rfl)
theorem dX3_basin_53 : decode cX3_basin 53 = .ok (.istore_n 3, 1) := dk_62 (dk_at dksX3_basin_2 5 rfl rfl)
theorem dX3_basin_54 : decode cX3_basin 54 = .ok (.iload 5, 2) := dk_21 5 (dk_at dksX3_basin_2 6 rfl rfl)
theorem dX3_basin_56 : decode cX3_basin 56 = .ok (.iconst (-1), 1) := dk_2 (dk_at dksX3_basin_2 8 rfl rfl)
theorem dX3_basin_57 : decode cX3_basin 57 = .ok (.if_icmp .eq 21, 3) := dk_159 0 21 (dk_at dksX3_basin_2 9 rfl rfl)
theorem dX3_basin_60 : decode cX3_basin 60 = .ok (.iload 5, 2) := dk_21 5 (dk_at dksX3_basin_2 12 rfl rfl)
theorem dX3_basin_62 : decode cX3_basin 62 = .ok (.iload_n 1, 1) := dk_27 (dk_at dksX3_basin_2 14 rfl rfl)
theorem dX3_basin_63 : decode cX3_basin 63 = .ok (.if_icmp .eq 15, 3) := dk_159 0 15 (dk_at dksX3_basin_2 15 rfl rfl)
theorem dX3_basin_66 : decode cX3_basin 66 = .ok (.aload_n 0, 1) := dk_42 (dk_at dksX3_basin_2 18 rfl rfl)
theorem dX3_basin_67 : decode cX3_basin 67 = .ok (.getfield 19, 3) := dk_180 0 19 (dk_at dksX3_basin_2 19 rfl rfl)
theorem dX3_basin_70 : decode cX3_basin 70 = .ok (.iload 5, 2) := dk_21 5 (dk_at dksX3_basin_2 22 rfl rfl)
theorem dX3_basin_72 : decode cX3_basin 72 = .ok (.iaload, 1) := dk_46 (dk_at dksX3_basin_3 0 rfl rfl)
theorem dX3_basin_73 : decode cX3_basin 73 = .ok (.istore 5, 2) := dk_54 5 (dk_at dksX3_basin_3 1 rfl rfl)
theorem dX3_basin_75 : decode cX3_basin 75 = .ok (.goto (-21), 3) := dk_167 255 235 (dk_at dksX3_basin_3 3 rfl rfl)
theorem dX3_basin_78 : decode cX3_basin 78 = .ok (.iload_n 2, 1) := dk_28 (dk_at dksX3_basin_3 6 rfl rfl)
theorem dX3_basin_79 : decode cX3_basin 79 = .ok (.iload 5, 2) := dk_21 5 (dk_at dksX3_basin_3 7 rfl rfl)
theorem dX3_basin_81 : decode cX3_basin 81 = .ok (.iload_n 1, 1) := dk_27 (dk_at dksX3_basin_3 9 rfl rfl)
theorem dX3_basin_82 : decode cX3_basin 82 = .ok (.if_icmp .ne 10, 3) := dk_160 0 10 (dk_at dksX3_basin_3 10 rfl rfl)
theorem dX3_basin_85 : decode cX3_basin 85 = .ok (.iconst 1, 1) := dk_4 (dk_at dksX3_basin_3 13 rfl rfl)
theorem dX3_basin_86 : decode cX3_basin 86 = .ok (.iload 4, 2) := dk_21 4 (dk_at dksX3_basin_3 14 rfl rfl)
theorem dX3_basin_88 : decode cX3_basin 88 = .ok (.ishl, 1) := dk_120 (dk_at dksX3_basin_3 16 rfl rfl)
theorem dX3_basin_89 : decode cX3_basin 89 = .ok (.goto 4, 3) := dk_167 0 4 (dk_at dksX3_basin_3 17 rfl rfl)
theorem dX3_basin_92 : decode cX3_basin 92 = .ok (.iconst 0, 1) := dk_3 (dk_at dksX3_basin_3 20 rfl rfl)
theorem dX3_basin_93 : decode cX3_basin 93 = .ok (.ior, 1) := dk_128 (dk_at dksX3_basin_3 21 rfl rfl)
theorem dX3_basin_94 : decode cX3_basin 94 = .ok (.istore_n 2, 1) := dk_61 (dk_at dksX3_basin_3 22 rfl rfl)
theorem dX3_basin_95 : decode cX3_basin 95 = .ok (.iinc 4 1, 3) := dk_132 4 1 (dk_at dksX3_basin_4 0 rfl rfl)
theorem dX3_basin_98 : decode cX3_basin 98 = .ok (.goto (-76), 3) := dk_167 255 180 (dk_at dksX3_basin_4 3 rfl rfl)
theorem dX3_basin_101 : decode cX3_basin 101 = .ok (.aload_n 0, 1) := dk_42 (dk_at dksX3_basin_4 6 rfl rfl)
theorem dX3_basin_102 : decode cX3_basin 102 = .ok (.iconst 0, 1) := dk_3 (dk_at dksX3_basin_4 7 rfl rfl)
theorem dX3_basin_103 : decode cX3_basin 103 = .ok (.putfield 98, 3) := dk_181 0 98 (dk_at dksX3_basin_4 8 rfl rfl)
theorem dX3_basin_106 : decode cX3_basin 106 = .ok (.aload_n 0, 1) := dk_42 (dk_at dksX3_basin_4 11 rfl rfl)
theorem dX3_basin_107 : decode cX3_basin 107 = .ok (.aload_n 0, 1) := dk_42 (dk_at dksX3_basin_4 12 rfl rfl)
theorem dX3_basin_108 : decode cX3_basin 108 = .ok (.aload_n 0, 1) := dk_42 (dk_at dksX3_basin_4 13 rfl rfl)
theorem dX3_basin_109 : decode cX3_basin 109 = .ok (.getfield 9, 3) := dk_180 0 9 (dk_at dksX3_basin_4 14 rfl rfl)
theorem dX3_basin_112 : decode cX3_basin 112 = .ok (.iload_n 2, 1) := dk_28 (dk_at dksX3_basin_4 17 rfl rfl)
theorem dX3_basin_113 : decode cX3_basin 113 = .ok (.invokevirtual 287, 3) := dk_182 1 31 (dk_at dksX3_basin_4 18 rfl rfl)
theorem dX3_basin_116 : decode cX3_basin 116 = .ok (.i2l, 1) := dk_133 (dk_at dksX3_basin_4 21 rfl rfl)
theorem dX3_basin_117 : decode cX3_basin 117 = .ok (.invokevirtual 248, 3) := dk_182 0 248 (dk_at dksX3_basin_5 0 rfl rfl)
theorem dX3_basin_120 : decode cX3_basin 120 = .ok (.aload_n 0, 1) := dk_42 (dk_at dksX3_basin_5 3 rfl rfl)
theorem dX3_basin_121 : decode cX3_basin 121 = .ok (.iload_n 3, 1) := dk_29 (dk_at dksX3_basin_5 4 rfl rfl)
theorem dX3_basin_122 : decode cX3_basin 122 = .ok (.i2l, 1) := dk_133 (dk_at dksX3_basin_5 5 rfl rfl)
theorem dX3_basin_123 : decode cX3_basin 123 = .ok (.invokevirtual 248, 3) := dk_182 0 248 (dk_at dksX3_basin_5 6 rfl rfl)
theorem dX3_basin_126 : decode cX3_basin 126 = .ok (.iload_n 2, 1) := dk_28 (dk_at dksX3_basin_5 9 rfl rfl)
theorem dX3_basin_127 : decode cX3_basin 127 = .ok (.ireturn, 1) := dk_172 (dk_at dksX3_basin_5 10 rfl rfl)
abbrev cX3_order : ByteArray := prog_9_method_66_code
def yX3_order : MethodName := ⟨RX3, "order", "(I)I"⟩
def dkwX3_order_5 : List UInt8 := [172]
abbrev dktX3_order_5 : List UInt8 := dkwX3_order_5 ++ []
def dkwX3_order_4 : List UInt8 := [132, 4, 1, 167, 255, 208, 42, 42, 180, 0, 48, 182, 0, 237, 132, 3, 1, 167, 255, 186, 42, 180, 0, 98]
abbrev dktX3_order_4 : List UInt8 := dkwX3_order_4 ++ dktX3_order_5
def dkwX3_order_3 : List UInt8 := [184, 1, 21, 153, 0, 6, 167, 0, 17, 28, 4, 21, 4, 120, 128, 61, 42, 21, 4, 133, 182, 0, 248]
abbrev dktX3_order_3 : List UInt8 := dkwX3_order_3 ++ dktX3_order_4
def dkwX3_order_2 : List UInt8 := [21, 4, 42, 180, 0, 101, 162, 0, 45, 42, 180, 0, 48, 21, 4, 46, 157, 0, 29, 28, 21, 4]
abbrev dktX3_order_2 : List UInt8 := dkwX3_order_2 ++ dktX3_order_3
def dkwX3_order_1 : List UInt8 := [180, 0, 48, 3, 184, 0, 230, 3, 61, 42, 3, 181, 0, 98, 3, 62, 29, 27, 163, 0, 71, 3, 54, 4]
abbrev dktX3_order_1 : List UInt8 := dkwX3_order_1 ++ dktX3_order_2
def dkwX3_order_0 : List UInt8 := [42, 3, 181, 0, 95, 27, 3, 16, 99, 184, 0, 104, 154, 0, 5, 2, 172, 42, 180, 0, 9, 42]
abbrev dktX3_order_0 : List UInt8 := dkwX3_order_0 ++ dktX3_order_1
theorem dksX3_order_0 : cX3_order.data.toList.drop 0 = dktX3_order_0 := by decide +kernel
theorem dksX3_order_1 : cX3_order.data.toList.drop 22 = dktX3_order_1 := dk_seg dksX3_order_0 22 rfl rfl
theorem dksX3_order_2 : cX3_order.data.toList.drop 46 = dktX3_order_2 := dk_seg dksX3_order_1 24 rfl rfl
theorem dksX3_order_3 : cX3_order.data.toList.drop 68 = dktX3_order_3 := dk_seg dksX3_order_2 22 rfl rfl
theorem dksX3_order_4 : cX3_order.data.toList.drop 91 = dktX3_order_4 := dk_seg dksX3_order_3 23 rfl rfl
theorem dksX3_order_5 : cX3_order.data.toList.drop 115 = dktX3_order_5 := dk_seg dksX3_order_4 24 rfl rfl
theorem dX3_order_0 : decode cX3_order 0 = .ok (.aload_n 0, 1) := dk_42 (dk_at dksX3_order_0 0 rfl rfl)
theorem dX3_order_1 : decode cX3_order 1 = .ok (.iconst 0, 1) := dk_3 (dk_at dksX3_order_0 1 rfl rfl)
theorem dX3_order_2 : decode cX3_order 2 = .ok (.putfield 95, 3) := dk_181 0 95 (dk_at dksX3_order_0 2 rfl rfl)
theorem dX3_order_5 : decode cX3_order 5 = .ok (.iload_n 1, 1) := dk_27 (dk_at dksX3_order_0 5 rfl rfl)
theorem dX3_order_6 : decode cX3_order 6 = .ok (.iconst 0, 1) := dk_3 (dk_at dksX3_order_0 6 rfl rfl)
theorem dX3_order_7 : decode cX3_order 7 = .ok (.bipush 99, 2) := dk_16 99 (dk_at dksX3_order_0 7 rfl rfl)
theorem dX3_order_9 : decode cX3_order 9 = .ok (.invokestatic 104, 3) := dk_184 0 104 (dk_at dksX3_order_0 9 rfl rfl)
theorem dX3_order_12 : decode cX3_order 12 = .ok (.ifCond .ne 5, 3) := dk_154 0 5 (dk_at dksX3_order_0 12 rfl rfl)
theorem dX3_order_15 : decode cX3_order 15 = .ok (.iconst (-1), 1) := dk_2 (dk_at dksX3_order_0 15 rfl rfl)
theorem dX3_order_16 : decode cX3_order 16 = .ok (.ireturn, 1) := dk_172 (dk_at dksX3_order_0 16 rfl rfl)
theorem dX3_order_17 : decode cX3_order 17 = .ok (.aload_n 0, 1) := dk_42 (dk_at dksX3_order_0 17 rfl rfl)
theorem dX3_order_18 : decode cX3_order 18 = .ok (.getfield 9, 3) := dk_180 0 9 (dk_at dksX3_order_0 18 rfl rfl)
theorem dX3_order_21 : decode cX3_order 21 = .ok (.aload_n 0, 1) := dk_42 (dk_at dksX3_order_0 21 rfl rfl)
theorem dX3_order_22 : decode cX3_order 22 = .ok (.getfield 48, 3) := dk_180 0 48 (dk_at dksX3_order_1 0 rfl rfl)
theorem dX3_order_25 : decode cX3_order 25 = .ok (.iconst 0, 1) := dk_3 (dk_at dksX3_order_1 3 rfl rfl)
theorem dX3_order_26 : decode cX3_order 26 = .ok (.invokestatic 230, 3) := dk_184 0 230 (dk_at dksX3_order_1 4 rfl rfl)
theorem dX3_order_29 : decode cX3_order 29 = .ok (.iconst 0, 1) := dk_3 (dk_at dksX3_order_1 7 rfl rfl)
theorem dX3_order_30 : decode cX3_order 30 = .ok (.istore_n 2, 1) := dk_61 (dk_at dksX3_order_1 8 rfl rfl)
theorem dX3_order_31 : decode cX3_order 31 = .ok (.aload_n 0, 1) := dk_42 (dk_at dksX3_order_1 9 rfl rfl)
theorem dX3_order_32 : decode cX3_order 32 = .ok (.iconst 0, 1) := dk_3 (dk_at dksX3_order_1 10 rfl rfl)
theorem dX3_order_33 : decode cX3_order 33 = .ok (.putfield 98, 3) := dk_181 0 98 (dk_at dksX3_order_1 11 rfl rfl)
theorem dX3_order_36 : decode cX3_order 36 = .ok (.iconst 0, 1) := dk_3 (dk_at dksX3_order_1 14 rfl rfl)
theorem dX3_order_37 : decode cX3_order 37 = .ok (.istore_n 3, 1) := dk_62 (dk_at dksX3_order_1 15 rfl rfl)
theorem dX3_order_38 : decode cX3_order 38 = .ok (.iload_n 3, 1) := dk_29 (dk_at dksX3_order_1 16 rfl rfl)
theorem dX3_order_39 : decode cX3_order 39 = .ok (.iload_n 1, 1) := dk_27 (dk_at dksX3_order_1 17 rfl rfl)
theorem dX3_order_40 : decode cX3_order 40 = .ok (.if_icmp .gt 71, 3) := dk_163 0 71 (dk_at dksX3_order_1 18 rfl rfl)
theorem dX3_order_43 : decode cX3_order 43 = .ok (.iconst 0, 1) := dk_3 (dk_at dksX3_order_1 21 rfl rfl)
theorem dX3_order_44 : decode cX3_order 44 = .ok (.istore 4, 2) := dk_54 4 (dk_at dksX3_order_1 22 rfl rfl)
theorem dX3_order_46 : decode cX3_order 46 = .ok (.iload 4, 2) := dk_21 4 (dk_at dksX3_order_2 0 rfl rfl)
theorem dX3_order_48 : decode cX3_order 48 = .ok (.aload_n 0, 1) := dk_42 (dk_at dksX3_order_2 2 rfl rfl)
theorem dX3_order_49 : decode cX3_order 49 = .ok (.getfield 101, 3) := dk_180 0 101 (dk_at dksX3_order_2 3 rfl rfl)
theorem dX3_order_52 : decode cX3_order 52 = .ok (.if_icmp .ge 45, 3) := dk_162 0 45 (dk_at dksX3_order_2 6 rfl rfl)
theorem dX3_order_55 : decode cX3_order 55 = .ok (.aload_n 0, 1) := dk_42 (dk_at dksX3_order_2 9 rfl rfl)
theorem dX3_order_56 : decode cX3_order 56 = .ok (.getfield 48, 3) := dk_180 0 48 (dk_at dksX3_order_2 10 rfl rfl)
theorem dX3_order_59 : decode cX3_order 59 = .ok (.iload 4, 2) := dk_21 4 (dk_at dksX3_order_2 13 rfl rfl)
theorem dX3_order_61 : decode cX3_order 61 = .ok (.iaload, 1) := dk_46 (dk_at dksX3_order_2 15 rfl rfl)
theorem dX3_order_62 : decode cX3_order 62 = .ok (.ifCond .gt 29, 3) := dk_157 0 29 (dk_at dksX3_order_2 16 rfl rfl)
theorem dX3_order_65 : decode cX3_order 65 = .ok (.iload_n 2, 1) := dk_28 (dk_at dksX3_order_2 19 rfl rfl)
theorem dX3_order_66 : decode cX3_order 66 = .ok (.iload 4, 2) := dk_21 4 (dk_at dksX3_order_2 20 rfl rfl)
theorem dX3_order_68 : decode cX3_order 68 = .ok (.invokestatic 277, 3) := dk_184 1 21 (dk_at dksX3_order_3 0 rfl rfl)
theorem dX3_order_71 : decode cX3_order 71 = .ok (.ifCond .eq 6, 3) := dk_153 0 6 (dk_at dksX3_order_3 3 rfl rfl)
theorem dX3_order_74 : decode cX3_order 74 = .ok (.goto 17, 3) := dk_167 0 17 (dk_at dksX3_order_3 6 rfl rfl)
theorem dX3_order_77 : decode cX3_order 77 = .ok (.iload_n 2, 1) := dk_28 (dk_at dksX3_order_3 9 rfl rfl)
theorem dX3_order_78 : decode cX3_order 78 = .ok (.iconst 1, 1) := dk_4 (dk_at dksX3_order_3 10 rfl rfl)
theorem dX3_order_79 : decode cX3_order 79 = .ok (.iload 4, 2) := dk_21 4 (dk_at dksX3_order_3 11 rfl rfl)
theorem dX3_order_81 : decode cX3_order 81 = .ok (.ishl, 1) := dk_120 (dk_at dksX3_order_3 13 rfl rfl)
theorem dX3_order_82 : decode cX3_order 82 = .ok (.ior, 1) := dk_128 (dk_at dksX3_order_3 14 rfl rfl)
theorem dX3_order_83 : decode cX3_order 83 = .ok (.istore_n 2, 1) := dk_61 (dk_at dksX3_order_3 15 rfl rfl)
theorem dX3_order_84 : decode cX3_order 84 = .ok (.aload_n 0, 1) := dk_42 (dk_at dksX3_order_3 16 rfl rfl)
theorem dX3_order_85 : decode cX3_order 85 = .ok (.iload 4, 2) := dk_21 4 (dk_at dksX3_order_3 17 rfl rfl)
theorem dX3_order_87 : decode cX3_order 87 = .ok (.i2l, 1) := dk_133 (dk_at dksX3_order_3 19 rfl rfl)
theorem dX3_order_88 : decode cX3_order 88 = .ok (.invokevirtual 248, 3) := dk_182 0 248 (dk_at dksX3_order_3 20 rfl rfl)
theorem dX3_order_91 : decode cX3_order 91 = .ok (.iinc 4 1, 3) := dk_132 4 1 (dk_at dksX3_order_4 0 rfl rfl)
theorem dX3_order_94 : decode cX3_order 94 = .ok (.goto (-48), 3) := dk_167 255 208 (dk_at dksX3_order_4 3 rfl rfl)
theorem dX3_order_97 : decode cX3_order 97 = .ok (.aload_n 0, 1) := dk_42 (dk_at dksX3_order_4 6 rfl rfl)
theorem dX3_order_98 : decode cX3_order 98 = .ok (.aload_n 0, 1) := dk_42 (dk_at dksX3_order_4 7 rfl rfl)
theorem dX3_order_99 : decode cX3_order 99 = .ok (.getfield 48, 3) := dk_180 0 48 (dk_at dksX3_order_4 8 rfl rfl)
theorem dX3_order_102 : decode cX3_order 102 = .ok (.invokevirtual 237, 3) := dk_182 0 237 (dk_at dksX3_order_4 11 rfl rfl)
theorem dX3_order_105 : decode cX3_order 105 = .ok (.iinc 3 1, 3) := dk_132 3 1 (dk_at dksX3_order_4 14 rfl rfl)
theorem dX3_order_108 : decode cX3_order 108 = .ok (.goto (-70), 3) := dk_167 255 186 (dk_at dksX3_order_4 17 rfl rfl)
theorem dX3_order_111 : decode cX3_order 111 = .ok (.aload_n 0, 1) := dk_42 (dk_at dksX3_order_4 20 rfl rfl)
theorem dX3_order_112 : decode cX3_order 112 = .ok (.getfield 98, 3) := dk_180 0 98 (dk_at dksX3_order_4 21 rfl rfl)
theorem dX3_order_115 : decode cX3_order 115 = .ok (.ireturn, 1) := dk_172 (dk_at dksX3_order_5 0 rfl rfl)
abbrev cX3_meets : ByteArray := prog_9_method_67_code
def yX3_meets : MethodName := ⟨RX3, "meets", "(II)I"⟩
def dkwX3_meets_3 : List UInt8 := [180, 0, 48, 182, 0, 237, 132, 3, 1, 167, 255, 206, 16, 254, 172]
abbrev dktX3_meets_3 : List UInt8 := dkwX3_meets_3 ++ []
def dkwX3_meets_2 : List UInt8 := [160, 0, 21, 42, 3, 181, 0, 98, 42, 42, 180, 0, 48, 27, 46, 133, 182, 0, 248, 29, 172, 42, 42]
abbrev dktX3_meets_2 : List UInt8 := dkwX3_meets_2 ++ dktX3_meets_3
def dkwX3_meets_1 : List UInt8 := [3, 184, 0, 230, 3, 62, 29, 16, 99, 163, 0, 50, 42, 180, 0, 48, 27, 46, 42, 180, 0, 48, 28, 46]
abbrev dktX3_meets_1 : List UInt8 := dkwX3_meets_1 ++ dktX3_meets_2
def dkwX3_meets_0 : List UInt8 := [42, 3, 181, 0, 95, 42, 27, 28, 182, 1, 34, 154, 0, 5, 2, 172, 42, 180, 0, 9, 42, 180, 0, 48]
abbrev dktX3_meets_0 : List UInt8 := dkwX3_meets_0 ++ dktX3_meets_1
theorem dksX3_meets_0 : cX3_meets.data.toList.drop 0 = dktX3_meets_0 := by decide +kernel
theorem dksX3_meets_1 : cX3_meets.data.toList.drop 24 = dktX3_meets_1 := dk_seg dksX3_meets_0 24 rfl rfl
theorem dksX3_meets_2 : cX3_meets.data.toList.drop 48 = dktX3_meets_2 := dk_seg dksX3_meets_1 24 rfl rfl
theorem dksX3_meets_3 : cX3_meets.data.toList.drop 71 = dktX3_meets_3 := dk_seg dksX3_meets_2 23 rfl rfl
theorem dX3_meets_0 : decode cX3_meets 0 = .ok (.aload_n 0, 1) := dk_42 (dk_at dksX3_meets_0 0 rfl rfl)
theorem dX3_meets_1 : decode cX3_meets 1 = .ok (.iconst 0, 1) := dk_3 (dk_at dksX3_meets_0 1 rfl rfl)
theorem dX3_meets_2 : decode cX3_meets 2 = .ok (.putfield 95, 3) := dk_181 0 95 (dk_at dksX3_meets_0 2 rfl rfl)
theorem dX3_meets_5 : decode cX3_meets 5 = .ok (.aload_n 0, 1) := dk_42 (dk_at dksX3_meets_0 5 rfl rfl)
theorem dX3_meets_6 : decode cX3_meets 6 = .ok (.iload_n 1, 1) := dk_27 (dk_at dksX3_meets_0 6 rfl rfl)
theorem dX3_meets_7 : decode cX3_meets 7 = .ok (.iload_n 2, 1) := dk_28 (dk_at dksX3_meets_0 7 rfl rfl)
theorem dX3_meets_8 : decode cX3_meets 8 = .ok (.invokevirtual 290, 3) := dk_182 1 34 (dk_at dksX3_meets_0 8 rfl rfl)
theorem dX3_meets_11 : decode cX3_meets 11 = .ok (.ifCond .ne 5, 3) := dk_154 0 5 (dk_at dksX3_meets_0 11 rfl rfl)
theorem dX3_meets_14 : decode cX3_meets 14 = .ok (.iconst (-1), 1) := dk_2 (dk_at dksX3_meets_0 14 rfl rfl)
theorem dX3_meets_15 : decode cX3_meets 15 = .ok (.ireturn, 1) := dk_172 (dk_at dksX3_meets_0 15 rfl rfl)
theorem dX3_meets_16 : decode cX3_meets 16 = .ok (.aload_n 0, 1) := dk_42 (dk_at dksX3_meets_0 16 rfl rfl)
theorem dX3_meets_17 : decode cX3_meets 17 = .ok (.getfield 9, 3) := dk_180 0 9 (dk_at dksX3_meets_0 17 rfl rfl)
theorem dX3_meets_20 : decode cX3_meets 20 = .ok (.aload_n 0, 1) := dk_42 (dk_at dksX3_meets_0 20 rfl rfl)
theorem dX3_meets_21 : decode cX3_meets 21 = .ok (.getfield 48, 3) := dk_180 0 48 (dk_at dksX3_meets_0 21 rfl rfl)
theorem dX3_meets_24 : decode cX3_meets 24 = .ok (.iconst 0, 1) := dk_3 (dk_at dksX3_meets_1 0 rfl rfl)
theorem dX3_meets_25 : decode cX3_meets 25 = .ok (.invokestatic 230, 3) := dk_184 0 230 (dk_at dksX3_meets_1 1 rfl rfl)
theorem dX3_meets_28 : decode cX3_meets 28 = .ok (.iconst 0, 1) := dk_3 (dk_at dksX3_meets_1 4 rfl rfl)
theorem dX3_meets_29 : decode cX3_meets 29 = .ok (.istore_n 3, 1) := dk_62 (dk_at dksX3_meets_1 5 rfl rfl)
theorem dX3_meets_30 : decode cX3_meets 30 = .ok (.iload_n 3, 1) := dk_29 (dk_at dksX3_meets_1 6 rfl rfl)
theorem dX3_meets_31 : decode cX3_meets 31 = .ok (.bipush 99, 2) := dk_16 99 (dk_at dksX3_meets_1 7 rfl rfl)
theorem dX3_meets_33 : decode cX3_meets 33 = .ok (.if_icmp .gt 50, 3) := dk_163 0 50 (dk_at dksX3_meets_1 9 rfl rfl)
theorem dX3_meets_36 : decode cX3_meets 36 = .ok (.aload_n 0, 1) := dk_42 (dk_at dksX3_meets_1 12 rfl rfl)
theorem dX3_meets_37 : decode cX3_meets 37 = .ok (.getfield 48, 3) := dk_180 0 48 (dk_at dksX3_meets_1 13 rfl rfl)
theorem dX3_meets_40 : decode cX3_meets 40 = .ok (.iload_n 1, 1) := dk_27 (dk_at dksX3_meets_1 16 rfl rfl)
theorem dX3_meets_41 : decode cX3_meets 41 = .ok (.iaload, 1) := dk_46 (dk_at dksX3_meets_1 17 rfl rfl)
theorem dX3_meets_42 : decode cX3_meets 42 = .ok (.aload_n 0, 1) := dk_42 (dk_at dksX3_meets_1 18 rfl rfl)
theorem dX3_meets_43 : decode cX3_meets 43 = .ok (.getfield 48, 3) := dk_180 0 48 (dk_at dksX3_meets_1 19 rfl rfl)
theorem dX3_meets_46 : decode cX3_meets 46 = .ok (.iload_n 2, 1) := dk_28 (dk_at dksX3_meets_1 22 rfl rfl)
theorem dX3_meets_47 : decode cX3_meets 47 = .ok (.iaload, 1) := dk_46 (dk_at dksX3_meets_1 23 rfl rfl)
theorem dX3_meets_48 : decode cX3_meets 48 = .ok (.if_icmp .ne 21, 3) := dk_160 0 21 (dk_at dksX3_meets_2 0 rfl rfl)
theorem dX3_meets_51 : decode cX3_meets 51 = .ok (.aload_n 0, 1) := dk_42 (dk_at dksX3_meets_2 3 rfl rfl)
theorem dX3_meets_52 : decode cX3_meets 52 = .ok (.iconst 0, 1) := dk_3 (dk_at dksX3_meets_2 4 rfl rfl)
theorem dX3_meets_53 : decode cX3_meets 53 = .ok (.putfield 98, 3) := dk_181 0 98 (dk_at dksX3_meets_2 5 rfl rfl)
theorem dX3_meets_56 : decode cX3_meets 56 = .ok (.aload_n 0, 1) := dk_42 (dk_at dksX3_meets_2 8 rfl rfl)
theorem dX3_meets_57 : decode cX3_meets 57 = .ok (.aload_n 0, 1) := dk_42 (dk_at dksX3_meets_2 9 rfl rfl)
theorem dX3_meets_58 : decode cX3_meets 58 = .ok (.getfield 48, 3) := dk_180 0 48 (dk_at dksX3_meets_2 10 rfl rfl)
theorem dX3_meets_61 : decode cX3_meets 61 = .ok (.iload_n 1, 1) := dk_27 (dk_at dksX3_meets_2 13 rfl rfl)
theorem dX3_meets_62 : decode cX3_meets 62 = .ok (.iaload, 1) := dk_46 (dk_at dksX3_meets_2 14 rfl rfl)
theorem dX3_meets_63 : decode cX3_meets 63 = .ok (.i2l, 1) := dk_133 (dk_at dksX3_meets_2 15 rfl rfl)
theorem dX3_meets_64 : decode cX3_meets 64 = .ok (.invokevirtual 248, 3) := dk_182 0 248 (dk_at dksX3_meets_2 16 rfl rfl)
theorem dX3_meets_67 : decode cX3_meets 67 = .ok (.iload_n 3, 1) := dk_29 (dk_at dksX3_meets_2 19 rfl rfl)
theorem dX3_meets_68 : decode cX3_meets 68 = .ok (.ireturn, 1) := dk_172 (dk_at dksX3_meets_2 20 rfl rfl)
theorem dX3_meets_69 : decode cX3_meets 69 = .ok (.aload_n 0, 1) := dk_42 (dk_at dksX3_meets_2 21 rfl rfl)
theorem dX3_meets_70 : decode cX3_meets 70 = .ok (.aload_n 0, 1) := dk_42 (dk_at dksX3_meets_2 22 rfl rfl)
theorem dX3_meets_71 : decode cX3_meets 71 = .ok (.getfield 48, 3) := dk_180 0 48 (dk_at dksX3_meets_3 0 rfl rfl)
theorem dX3_meets_74 : decode cX3_meets 74 = .ok (.invokevirtual 237, 3) := dk_182 0 237 (dk_at dksX3_meets_3 3 rfl rfl)
theorem dX3_meets_77 : decode cX3_meets 77 = .ok (.iinc 3 1, 3) := dk_132 3 1 (dk_at dksX3_meets_3 6 rfl rfl)
theorem dX3_meets_80 : decode cX3_meets 80 = .ok (.goto (-50), 3) := dk_167 255 206 (dk_at dksX3_meets_3 9 rfl rfl)
theorem dX3_meets_83 : decode cX3_meets 83 = .ok (.bipush (-2), 2) := dk_16 254 (dk_at dksX3_meets_3 12 rfl rfl)
theorem dX3_meets_85 : decode cX3_meets 85 = .ok (.ireturn, 1) := dk_172 (dk_at dksX3_meets_3 14 rfl rfl)
abbrev cX3_areTwo : ByteArray := prog_9_method_8_code
def yX3_areTwo : MethodName := ⟨RX3, "areTwo", "(II)Z"⟩
def dkwX3_areTwo_1 : List UInt8 := [167, 0, 4, 3, 172]
abbrev dktX3_areTwo_1 : List UInt8 := dkwX3_areTwo_1 ++ []
def dkwX3_areTwo_0 : List UInt8 := [42, 27, 182, 0, 108, 153, 0, 20, 42, 28, 182, 0, 108, 153, 0, 12, 27, 28, 159, 0, 7, 4]
abbrev dktX3_areTwo_0 : List UInt8 := dkwX3_areTwo_0 ++ dktX3_areTwo_1
theorem dksX3_areTwo_0 : cX3_areTwo.data.toList.drop 0 = dktX3_areTwo_0 := by decide +kernel
theorem dksX3_areTwo_1 : cX3_areTwo.data.toList.drop 22 = dktX3_areTwo_1 := dk_seg dksX3_areTwo_0 22 rfl rfl
theorem dX3_areTwo_0 : decode cX3_areTwo 0 = .ok (.aload_n 0, 1) := dk_42 (dk_at dksX3_areTwo_0 0 rfl rfl)
theorem dX3_areTwo_1 : decode cX3_areTwo 1 = .ok (.iload_n 1, 1) := dk_27 (dk_at dksX3_areTwo_0 1 rfl rfl)
theorem dX3_areTwo_2 : decode cX3_areTwo 2 = .ok (.invokevirtual 108, 3) := dk_182 0 108 (dk_at dksX3_areTwo_0 2 rfl rfl)
theorem dX3_areTwo_5 : decode cX3_areTwo 5 = .ok (.ifCond .eq 20, 3) := dk_153 0 20 (dk_at dksX3_areTwo_0 5 rfl rfl)
theorem dX3_areTwo_8 : decode cX3_areTwo 8 = .ok (.aload_n 0, 1) := dk_42 (dk_at dksX3_areTwo_0 8 rfl rfl)
theorem dX3_areTwo_9 : decode cX3_areTwo 9 = .ok (.iload_n 2, 1) := dk_28 (dk_at dksX3_areTwo_0 9 rfl rfl)
theorem dX3_areTwo_10 : decode cX3_areTwo 10 = .ok (.invokevirtual 108, 3) := dk_182 0 108 (dk_at dksX3_areTwo_0 10 rfl rfl)
theorem dX3_areTwo_13 : decode cX3_areTwo 13 = .ok (.ifCond .eq 12, 3) := dk_153 0 12 (dk_at dksX3_areTwo_0 13 rfl rfl)
theorem dX3_areTwo_16 : decode cX3_areTwo 16 = .ok (.iload_n 1, 1) := dk_27 (dk_at dksX3_areTwo_0 16 rfl rfl)
theorem dX3_areTwo_17 : decode cX3_areTwo 17 = .ok (.iload_n 2, 1) := dk_28 (dk_at dksX3_areTwo_0 17 rfl rfl)
theorem dX3_areTwo_18 : decode cX3_areTwo 18 = .ok (.if_icmp .eq 7, 3) := dk_159 0 7 (dk_at dksX3_areTwo_0 18 rfl rfl)
theorem dX3_areTwo_21 : decode cX3_areTwo 21 = .ok (.iconst 1, 1) := dk_4 (dk_at dksX3_areTwo_0 21 rfl rfl)
theorem dX3_areTwo_22 : decode cX3_areTwo 22 = .ok (.goto 4, 3) := dk_167 0 4 (dk_at dksX3_areTwo_1 0 rfl rfl)
theorem dX3_areTwo_25 : decode cX3_areTwo 25 = .ok (.iconst 0, 1) := dk_3 (dk_at dksX3_areTwo_1 3 rfl rfl)
theorem dX3_areTwo_26 : decode cX3_areTwo 26 = .ok (.ireturn, 1) := dk_172 (dk_at dksX3_areTwo_1 4 rfl rfl)
abbrev cX3_richest : ByteArray := prog_9_method_68_code
def yX3_richest : MethodName := ⟨RX3, "richest", "(I)I"⟩
def dkwX3_richest_5 : List UInt8 := [182, 0, 227, 29, 100, 133, 182, 0, 248, 28, 172]
abbrev dktX3_richest_5 : List UInt8 := dkwX3_richest_5 ++ []
def dkwX3_richest_4 : List UInt8 := [182, 1, 31, 62, 42, 3, 181, 0, 98, 42, 29, 133, 182, 0, 248, 42, 42, 42, 180, 0, 48, 3]
abbrev dktX3_richest_4 : List UInt8 := dkwX3_richest_4 ++ dktX3_richest_5
def dkwX3_richest_3 : List UInt8 := [28, 61, 132, 3, 1, 167, 255, 205, 42, 42, 180, 0, 48, 42, 42, 180, 0, 48, 28, 182, 1, 28]
abbrev dktX3_richest_3 : List UInt8 := dkwX3_richest_3 ++ dktX3_richest_4
def dkwX3_richest_2 : List UInt8 := [42, 42, 180, 0, 48, 42, 42, 180, 0, 48, 28, 182, 1, 28, 182, 1, 31, 164, 0, 7, 29, 167, 0, 4]
abbrev dktX3_richest_2 : List UInt8 := dkwX3_richest_2 ++ dktX3_richest_3
def dkwX3_richest_1 : List UInt8 := [4, 62, 29, 7, 162, 0, 52, 42, 42, 180, 0, 48, 42, 42, 180, 0, 48, 29, 182, 1, 28, 182, 1, 31]
abbrev dktX3_richest_1 : List UInt8 := dkwX3_richest_1 ++ dktX3_richest_2
def dkwX3_richest_0 : List UInt8 := [42, 3, 181, 0, 95, 27, 3, 16, 99, 184, 0, 104, 154, 0, 5, 2, 172, 42, 27, 182, 1, 18, 3, 61]
abbrev dktX3_richest_0 : List UInt8 := dkwX3_richest_0 ++ dktX3_richest_1
theorem dksX3_richest_0 : cX3_richest.data.toList.drop 0 = dktX3_richest_0 := by decide +kernel
theorem dksX3_richest_1 : cX3_richest.data.toList.drop 24 = dktX3_richest_1 := dk_seg dksX3_richest_0 24 rfl rfl
theorem dksX3_richest_2 : cX3_richest.data.toList.drop 48 = dktX3_richest_2 := dk_seg dksX3_richest_1 24 rfl rfl
theorem dksX3_richest_3 : cX3_richest.data.toList.drop 72 = dktX3_richest_3 := dk_seg dksX3_richest_2 24 rfl rfl
theorem dksX3_richest_4 : cX3_richest.data.toList.drop 94 = dktX3_richest_4 := dk_seg dksX3_richest_3 22 rfl rfl
theorem dksX3_richest_5 : cX3_richest.data.toList.drop 116 = dktX3_richest_5 := dk_seg dksX3_richest_4 22 rfl rfl
theorem dX3_richest_0 : decode cX3_richest 0 = .ok (.aload_n 0, 1) := dk_42 (dk_at dksX3_richest_0 0 rfl rfl)
theorem dX3_richest_1 : decode cX3_richest 1 = .ok (.iconst 0, 1) := dk_3 (dk_at dksX3_richest_0 1 rfl rfl)
theorem dX3_richest_2 : decode cX3_richest 2 = .ok (.putfield 95, 3) := dk_181 0 95 (dk_at dksX3_richest_0 2 rfl rfl)
theorem dX3_richest_5 : decode cX3_richest 5 = .ok (.iload_n 1, 1) := dk_27 (dk_at dksX3_richest_0 5 rfl rfl)
theorem dX3_richest_6 : decode cX3_richest 6 = .ok (.iconst 0, 1) := dk_3 (dk_at dksX3_richest_0 6 rfl rfl)
theorem dX3_richest_7 : decode cX3_richest 7 = .ok (.bipush 99, 2) := dk_16 99 (dk_at dksX3_richest_0 7 rfl rfl)
theorem dX3_richest_9 : decode cX3_richest 9 = .ok (.invokestatic 104, 3) := dk_184 0 104 (dk_at dksX3_richest_0 9 rfl rfl)
theorem dX3_richest_12 : decode cX3_richest 12 = .ok (.ifCond .ne 5, 3) := dk_154 0 5 (dk_at dksX3_richest_0 12 rfl rfl)
theorem dX3_richest_15 : decode cX3_richest 15 = .ok (.iconst (-1), 1) := dk_2 (dk_at dksX3_richest_0 15 rfl rfl)
theorem dX3_richest_16 : decode cX3_richest 16 = .ok (.ireturn, 1) := dk_172 (dk_at dksX3_richest_0 16 rfl rfl)
theorem dX3_richest_17 : decode cX3_richest 17 = .ok (.aload_n 0, 1) := dk_42 (dk_at dksX3_richest_0 17 rfl rfl)
theorem dX3_richest_18 : decode cX3_richest 18 = .ok (.iload_n 1, 1) := dk_27 (dk_at dksX3_richest_0 18 rfl rfl)
theorem dX3_richest_19 : decode cX3_richest 19 = .ok (.invokevirtual 274, 3) := dk_182 1 18 (dk_at dksX3_richest_0 19 rfl rfl)
theorem dX3_richest_22 : decode cX3_richest 22 = .ok (.iconst 0, 1) := dk_3 (dk_at dksX3_richest_0 22 rfl rfl)
theorem dX3_richest_23 : decode cX3_richest 23 = .ok (.istore_n 2, 1) := dk_61 (dk_at dksX3_richest_0 23 rfl rfl)
theorem dX3_richest_24 : decode cX3_richest 24 = .ok (.iconst 1, 1) := dk_4 (dk_at dksX3_richest_1 0 rfl rfl)
theorem dX3_richest_25 : decode cX3_richest 25 = .ok (.istore_n 3, 1) := dk_62 (dk_at dksX3_richest_1 1 rfl rfl)
theorem dX3_richest_26 : decode cX3_richest 26 = .ok (.iload_n 3, 1) := dk_29 (dk_at dksX3_richest_1 2 rfl rfl)
theorem dX3_richest_27 : decode cX3_richest 27 = .ok (.iconst 4, 1) := dk_7 (dk_at dksX3_richest_1 3 rfl rfl)
theorem dX3_richest_28 : decode cX3_richest 28 = .ok (.if_icmp .ge 52, 3) := dk_162 0 52 (dk_at dksX3_richest_1 4 rfl rfl)
theorem dX3_richest_31 : decode cX3_richest 31 = .ok (.aload_n 0, 1) := dk_42 (dk_at dksX3_richest_1 7 rfl rfl)
theorem dX3_richest_32 : decode cX3_richest 32 = .ok (.aload_n 0, 1) := dk_42 (dk_at dksX3_richest_1 8 rfl rfl)
theorem dX3_richest_33 : decode cX3_richest 33 = .ok (.getfield 48, 3) := dk_180 0 48 (dk_at dksX3_richest_1 9 rfl rfl)
theorem dX3_richest_36 : decode cX3_richest 36 = .ok (.aload_n 0, 1) := dk_42 (dk_at dksX3_richest_1 12 rfl rfl)
theorem dX3_richest_37 : decode cX3_richest 37 = .ok (.aload_n 0, 1) := dk_42 (dk_at dksX3_richest_1 13 rfl rfl)
theorem dX3_richest_38 : decode cX3_richest 38 = .ok (.getfield 48, 3) := dk_180 0 48 (dk_at dksX3_richest_1 14 rfl rfl)
theorem dX3_richest_41 : decode cX3_richest 41 = .ok (.iload_n 3, 1) := dk_29 (dk_at dksX3_richest_1 17 rfl rfl)
theorem dX3_richest_42 : decode cX3_richest 42 = .ok (.invokevirtual 284, 3) := dk_182 1 28 (dk_at dksX3_richest_1 18 rfl rfl)
theorem dX3_richest_45 : decode cX3_richest 45 = .ok (.invokevirtual 287, 3) := dk_182 1 31 (dk_at dksX3_richest_1 21 rfl rfl)
theorem dX3_richest_48 : decode cX3_richest 48 = .ok (.aload_n 0, 1) := dk_42 (dk_at dksX3_richest_2 0 rfl rfl)
theorem dX3_richest_49 : decode cX3_richest 49 = .ok (.aload_n 0, 1) := dk_42 (dk_at dksX3_richest_2 1 rfl rfl)
theorem dX3_richest_50 : decode cX3_richest 50 = .ok (.getfield 48, 3) := dk_180 0 48 (dk_at dksX3_richest_2 2 rfl rfl)
theorem dX3_richest_53 : decode cX3_richest 53 = .ok (.aload_n 0, 1) := dk_42 (dk_at dksX3_richest_2 5 rfl rfl)
theorem dX3_richest_54 : decode cX3_richest 54 = .ok (.aload_n 0, 1) := dk_42 (dk_at dksX3_richest_2 6 rfl rfl)
theorem dX3_richest_55 : decode cX3_richest 55 = .ok (.getfield 48, 3) := dk_180 0 48 (dk_at dksX3_richest_2 7 rfl rfl)
theorem dX3_richest_58 : decode cX3_richest 58 = .ok (.iload_n 2, 1) := dk_28 (dk_at dksX3_richest_2 10 rfl rfl)
theorem dX3_richest_59 : decode cX3_richest 59 = .ok (.invokevirtual 284, 3) := dk_182 1 28 (dk_at dksX3_richest_2 11 rfl rfl)
theorem dX3_richest_62 : decode cX3_richest 62 = .ok (.invokevirtual 287, 3) := dk_182 1 31 (dk_at dksX3_richest_2 14 rfl rfl)
theorem dX3_richest_65 : decode cX3_richest 65 = .ok (.if_icmp .le 7, 3) := dk_164 0 7 (dk_at dksX3_richest_2 17 rfl rfl)
theorem dX3_richest_68 : decode cX3_richest 68 = .ok (.iload_n 3, 1) := dk_29 (dk_at dksX3_richest_2 20 rfl rfl)
theorem dX3_richest_69 : decode cX3_richest 69 = .ok (.goto 4, 3) := dk_167 0 4 (dk_at dksX3_richest_2 21 rfl rfl)
theorem dX3_richest_72 : decode cX3_richest 72 = .ok (.iload_n 2, 1) := dk_28 (dk_at dksX3_richest_3 0 rfl rfl)
theorem dX3_richest_73 : decode cX3_richest 73 = .ok (.istore_n 2, 1) := dk_61 (dk_at dksX3_richest_3 1 rfl rfl)
theorem dX3_richest_74 : decode cX3_richest 74 = .ok (.iinc 3 1, 3) := dk_132 3 1 (dk_at dksX3_richest_3 2 rfl rfl)
theorem dX3_richest_77 : decode cX3_richest 77 = .ok (.goto (-51), 3) := dk_167 255 205 (dk_at dksX3_richest_3 5 rfl rfl)
theorem dX3_richest_80 : decode cX3_richest 80 = .ok (.aload_n 0, 1) := dk_42 (dk_at dksX3_richest_3 8 rfl rfl)
theorem dX3_richest_81 : decode cX3_richest 81 = .ok (.aload_n 0, 1) := dk_42 (dk_at dksX3_richest_3 9 rfl rfl)
theorem dX3_richest_82 : decode cX3_richest 82 = .ok (.getfield 48, 3) := dk_180 0 48 (dk_at dksX3_richest_3 10 rfl rfl)
theorem dX3_richest_85 : decode cX3_richest 85 = .ok (.aload_n 0, 1) := dk_42 (dk_at dksX3_richest_3 13 rfl rfl)
theorem dX3_richest_86 : decode cX3_richest 86 = .ok (.aload_n 0, 1) := dk_42 (dk_at dksX3_richest_3 14 rfl rfl)
theorem dX3_richest_87 : decode cX3_richest 87 = .ok (.getfield 48, 3) := dk_180 0 48 (dk_at dksX3_richest_3 15 rfl rfl)
theorem dX3_richest_90 : decode cX3_richest 90 = .ok (.iload_n 2, 1) := dk_28 (dk_at dksX3_richest_3 18 rfl rfl)
theorem dX3_richest_91 : decode cX3_richest 91 = .ok (.invokevirtual 284, 3) := dk_182 1 28 (dk_at dksX3_richest_3 19 rfl rfl)
theorem dX3_richest_94 : decode cX3_richest 94 = .ok (.invokevirtual 287, 3) := dk_182 1 31 (dk_at dksX3_richest_4 0 rfl rfl)
theorem dX3_richest_97 : decode cX3_richest 97 = .ok (.istore_n 3, 1) := dk_62 (dk_at dksX3_richest_4 3 rfl rfl)
theorem dX3_richest_98 : decode cX3_richest 98 = .ok (.aload_n 0, 1) := dk_42 (dk_at dksX3_richest_4 4 rfl rfl)
theorem dX3_richest_99 : decode cX3_richest 99 = .ok (.iconst 0, 1) := dk_3 (dk_at dksX3_richest_4 5 rfl rfl)
theorem dX3_richest_100 : decode cX3_richest 100 = .ok (.putfield 98, 3) := dk_181 0 98 (dk_at dksX3_richest_4 6 rfl rfl)
theorem dX3_richest_103 : decode cX3_richest 103 = .ok (.aload_n 0, 1) := dk_42 (dk_at dksX3_richest_4 9 rfl rfl)
theorem dX3_richest_104 : decode cX3_richest 104 = .ok (.iload_n 3, 1) := dk_29 (dk_at dksX3_richest_4 10 rfl rfl)
theorem dX3_richest_105 : decode cX3_richest 105 = .ok (.i2l, 1) := dk_133 (dk_at dksX3_richest_4 11 rfl rfl)
theorem dX3_richest_106 : decode cX3_richest 106 = .ok (.invokevirtual 248, 3) := dk_182 0 248 (dk_at dksX3_richest_4 12 rfl rfl)
theorem dX3_richest_109 : decode cX3_richest 109 = .ok (.aload_n 0, 1) := dk_42 (dk_at dksX3_richest_4 15 rfl rfl)
theorem dX3_richest_110 : decode cX3_richest 110 = .ok (.aload_n 0, 1) := dk_42 (dk_at dksX3_richest_4 16 rfl rfl)
theorem dX3_richest_111 : decode cX3_richest 111 = .ok (.aload_n 0, 1) := dk_42 (dk_at dksX3_richest_4 17 rfl rfl)
theorem dX3_richest_112 : decode cX3_richest 112 = .ok (.getfield 48, 3) := dk_180 0 48 (dk_at dksX3_richest_4 18 rfl rfl)
theorem dX3_richest_115 : decode cX3_richest 115 = .ok (.iconst 0, 1) := dk_3 (dk_at dksX3_richest_4 21 rfl rfl)
theorem dX3_richest_116 : decode cX3_richest 116 = .ok (.invokevirtual 227, 3) := dk_182 0 227 (dk_at dksX3_richest_5 0 rfl rfl)
theorem dX3_richest_119 : decode cX3_richest 119 = .ok (.iload_n 3, 1) := dk_29 (dk_at dksX3_richest_5 3 rfl rfl)
theorem dX3_richest_120 : decode cX3_richest 120 = .ok (.isub, 1) := dk_100 (dk_at dksX3_richest_5 4 rfl rfl)
theorem dX3_richest_121 : decode cX3_richest 121 = .ok (.i2l, 1) := dk_133 (dk_at dksX3_richest_5 5 rfl rfl)
theorem dX3_richest_122 : decode cX3_richest 122 = .ok (.invokevirtual 248, 3) := dk_182 0 248 (dk_at dksX3_richest_5 6 rfl rfl)
theorem dX3_richest_125 : decode cX3_richest 125 = .ok (.iload_n 2, 1) := dk_28 (dk_at dksX3_richest_5 9 rfl rfl)
theorem dX3_richest_126 : decode cX3_richest 126 = .ok (.ireturn, 1) := dk_172 (dk_at dksX3_richest_5 10 rfl rfl)
abbrev cX3_swims : ByteArray := prog_9_method_69_code
def yX3_swims : MethodName := ⟨RX3, "swims", "(III)I"⟩
def dkwX3_swims_6 : List UInt8 := [21, 7, 133, 182, 0, 248, 42, 21, 5, 133, 182, 0, 248, 21, 4, 172]
abbrev dktX3_swims_6 : List UInt8 := dkwX3_swims_6 ++ []
def dkwX3_swims_5 : List UInt8 := [21, 8, 167, 0, 5, 21, 5, 54, 5, 132, 4, 1, 132, 8, 1, 167, 255, 185, 42, 3, 181, 0, 98, 42]
abbrev dktX3_swims_5 : List UInt8 := dkwX3_swims_5 ++ dktX3_swims_6
def dkwX3_swims_4 : List UInt8 := [54, 6, 21, 7, 21, 6, 184, 0, 217, 54, 7, 21, 6, 154, 0, 6, 167, 0, 20, 21, 5, 154, 0, 8]
abbrev dktX3_swims_4 : List UInt8 := dkwX3_swims_4 ++ dktX3_swims_5
def dkwX3_swims_3 : List UInt8 := [180, 0, 48, 182, 0, 237, 42, 180, 0, 48, 27, 46, 28, 161, 0, 10, 21, 6, 4, 96, 167, 0, 4, 3]
abbrev dktX3_swims_3 : List UInt8 := dkwX3_swims_3 ++ dktX3_swims_4
def dkwX3_swims_2 : List UInt8 := [54, 4, 3, 54, 5, 3, 54, 6, 3, 54, 7, 4, 54, 8, 21, 8, 29, 163, 0, 71, 42, 42]
abbrev dktX3_swims_2 : List UInt8 := dkwX3_swims_2 ++ dktX3_swims_3
def dkwX3_swims_1 : List UInt8 := [4, 16, 99, 184, 0, 104, 154, 0, 5, 2, 172, 42, 180, 0, 9, 42, 180, 0, 48, 3, 184, 0, 230, 3]
abbrev dktX3_swims_1 : List UInt8 := dkwX3_swims_1 ++ dktX3_swims_2
def dkwX3_swims_0 : List UInt8 := [42, 3, 181, 0, 95, 42, 27, 182, 0, 108, 153, 0, 23, 28, 3, 16, 99, 184, 0, 104, 153, 0, 13, 29]
abbrev dktX3_swims_0 : List UInt8 := dkwX3_swims_0 ++ dktX3_swims_1
theorem dksX3_swims_0 : cX3_swims.data.toList.drop 0 = dktX3_swims_0 := by decide +kernel
theorem dksX3_swims_1 : cX3_swims.data.toList.drop 24 = dktX3_swims_1 := dk_seg dksX3_swims_0 24 rfl rfl
theorem dksX3_swims_2 : cX3_swims.data.toList.drop 48 = dktX3_swims_2 := dk_seg dksX3_swims_1 24 rfl rfl
theorem dksX3_swims_3 : cX3_swims.data.toList.drop 70 = dktX3_swims_3 := dk_seg dksX3_swims_2 22 rfl rfl
theorem dksX3_swims_4 : cX3_swims.data.toList.drop 94 = dktX3_swims_4 := dk_seg dksX3_swims_3 24 rfl rfl
theorem dksX3_swims_5 : cX3_swims.data.toList.drop 118 = dktX3_swims_5 := dk_seg dksX3_swims_4 24 rfl rfl
theorem dksX3_swims_6 : cX3_swims.data.toList.drop 142 = dktX3_swims_6 := dk_seg dksX3_swims_5 24 rfl rfl
theorem dX3_swims_0 : decode cX3_swims 0 = .ok (.aload_n 0, 1) := dk_42 (dk_at dksX3_swims_0 0 rfl rfl)
theorem dX3_swims_1 : decode cX3_swims 1 = .ok (.iconst 0, 1) := dk_3 (dk_at dksX3_swims_0 1 rfl rfl)
theorem dX3_swims_2 : decode cX3_swims 2 = .ok (.putfield 95, 3) := dk_181 0 95 (dk_at dksX3_swims_0 2 rfl rfl)
theorem dX3_swims_5 : decode cX3_swims 5 = .ok (.aload_n 0, 1) := dk_42 (dk_at dksX3_swims_0 5 rfl rfl)
theorem dX3_swims_6 : decode cX3_swims 6 = .ok (.iload_n 1, 1) := dk_27 (dk_at dksX3_swims_0 6 rfl rfl)
theorem dX3_swims_7 : decode cX3_swims 7 = .ok (.invokevirtual 108, 3) := dk_182 0 108 (dk_at dksX3_swims_0 7 rfl rfl)
theorem dX3_swims_10 : decode cX3_swims 10 = .ok (.ifCond .eq 23, 3) := dk_153 0 23 (dk_at dksX3_swims_0 10 rfl rfl)
theorem dX3_swims_13 : decode cX3_swims 13 = .ok (.iload_n 2, 1) := dk_28 (dk_at dksX3_swims_0 13 rfl rfl)
theorem dX3_swims_14 : decode cX3_swims 14 = .ok (.iconst 0, 1) := dk_3 (dk_at dksX3_swims_0 14 rfl rfl)
theorem dX3_swims_15 : decode cX3_swims 15 = .ok (.bipush 99, 2) := dk_16 99 (dk_at dksX3_swims_0 15 rfl rfl)
theorem dX3_swims_17 : decode cX3_swims 17 = .ok (.invokestatic 104, 3) := dk_184 0 104 (dk_at dksX3_swims_0 17 rfl rfl)
theorem dX3_swims_20 : decode cX3_swims 20 = .ok (.ifCond .eq 13, 3) := dk_153 0 13 (dk_at dksX3_swims_0 20 rfl rfl)
theorem dX3_swims_23 : decode cX3_swims 23 = .ok (.iload_n 3, 1) := dk_29 (dk_at dksX3_swims_0 23 rfl rfl)
theorem dX3_swims_24 : decode cX3_swims 24 = .ok (.iconst 1, 1) := dk_4 (dk_at dksX3_swims_1 0 rfl rfl)
theorem dX3_swims_25 : decode cX3_swims 25 = .ok (.bipush 99, 2) := dk_16 99 (dk_at dksX3_swims_1 1 rfl rfl)
theorem dX3_swims_27 : decode cX3_swims 27 = .ok (.invokestatic 104, 3) := dk_184 0 104 (dk_at dksX3_swims_1 3 rfl rfl)
theorem dX3_swims_30 : decode cX3_swims 30 = .ok (.ifCond .ne 5, 3) := dk_154 0 5 (dk_at dksX3_swims_1 6 rfl rfl)
theorem dX3_swims_33 : decode cX3_swims 33 = .ok (.iconst (-1), 1) := dk_2 (dk_at dksX3_swims_1 9 rfl rfl)
theorem dX3_swims_34 : decode cX3_swims 34 = .ok (.ireturn, 1) := dk_172 (dk_at dksX3_swims_1 10 rfl rfl)
theorem dX3_swims_35 : decode cX3_swims 35 = .ok (.aload_n 0, 1) := dk_42 (dk_at dksX3_swims_1 11 rfl rfl)
theorem dX3_swims_36 : decode cX3_swims 36 = .ok (.getfield 9, 3) := dk_180 0 9 (dk_at dksX3_swims_1 12 rfl rfl)
theorem dX3_swims_39 : decode cX3_swims 39 = .ok (.aload_n 0, 1) := dk_42 (dk_at dksX3_swims_1 15 rfl rfl)
theorem dX3_swims_40 : decode cX3_swims 40 = .ok (.getfield 48, 3) := dk_180 0 48 (dk_at dksX3_swims_1 16 rfl rfl)
theorem dX3_swims_43 : decode cX3_swims 43 = .ok (.iconst 0, 1) := dk_3 (dk_at dksX3_swims_1 19 rfl rfl)
theorem dX3_swims_44 : decode cX3_swims 44 = .ok (.invokestatic 230, 3) := dk_184 0 230 (dk_at dksX3_swims_1 20 rfl rfl)
theorem dX3_swims_47 : decode cX3_swims 47 = .ok (.iconst 0, 1) := dk_3 (dk_at dksX3_swims_1 23 rfl rfl)
theorem dX3_swims_48 : decode cX3_swims 48 = .ok (.istore 4, 2) := dk_54 4 (dk_at dksX3_swims_2 0 rfl rfl)
theorem dX3_swims_50 : decode cX3_swims 50 = .ok (.iconst 0, 1) := dk_3 (dk_at dksX3_swims_2 2 rfl rfl)
theorem dX3_swims_51 : decode cX3_swims 51 = .ok (.istore 5, 2) := dk_54 5 (dk_at dksX3_swims_2 3 rfl rfl)
theorem dX3_swims_53 : decode cX3_swims 53 = .ok (.iconst 0, 1) := dk_3 (dk_at dksX3_swims_2 5 rfl rfl)
theorem dX3_swims_54 : decode cX3_swims 54 = .ok (.istore 6, 2) := dk_54 6 (dk_at dksX3_swims_2 6 rfl rfl)
theorem dX3_swims_56 : decode cX3_swims 56 = .ok (.iconst 0, 1) := dk_3 (dk_at dksX3_swims_2 8 rfl rfl)
theorem dX3_swims_57 : decode cX3_swims 57 = .ok (.istore 7, 2) := dk_54 7 (dk_at dksX3_swims_2 9 rfl rfl)
theorem dX3_swims_59 : decode cX3_swims 59 = .ok (.iconst 1, 1) := dk_4 (dk_at dksX3_swims_2 11 rfl rfl)
theorem dX3_swims_60 : decode cX3_swims 60 = .ok (.istore 8, 2) := dk_54 8 (dk_at dksX3_swims_2 12 rfl rfl)
theorem dX3_swims_62 : decode cX3_swims 62 = .ok (.iload 8, 2) := dk_21 8 (dk_at dksX3_swims_2 14 rfl rfl)
theorem dX3_swims_64 : decode cX3_swims 64 = .ok (.iload_n 3, 1) := dk_29 (dk_at dksX3_swims_2 16 rfl rfl)
theorem dX3_swims_65 : decode cX3_swims 65 = .ok (.if_icmp .gt 71, 3) := dk_163 0 71 (dk_at dksX3_swims_2 17 rfl rfl)
theorem dX3_swims_68 : decode cX3_swims 68 = .ok (.aload_n 0, 1) := dk_42 (dk_at dksX3_swims_2 20 rfl rfl)
theorem dX3_swims_69 : decode cX3_swims 69 = .ok (.aload_n 0, 1) := dk_42 (dk_at dksX3_swims_2 21 rfl rfl)
theorem dX3_swims_70 : decode cX3_swims 70 = .ok (.getfield 48, 3) := dk_180 0 48 (dk_at dksX3_swims_3 0 rfl rfl)
theorem dX3_swims_73 : decode cX3_swims 73 = .ok (.invokevirtual 237, 3) := dk_182 0 237 (dk_at dksX3_swims_3 3 rfl rfl)
theorem dX3_swims_76 : decode cX3_swims 76 = .ok (.aload_n 0, 1) := dk_42 (dk_at dksX3_swims_3 6 rfl rfl)
theorem dX3_swims_77 : decode cX3_swims 77 = .ok (.getfield 48, 3) := dk_180 0 48 (dk_at dksX3_swims_3 7 rfl rfl)
theorem dX3_swims_80 : decode cX3_swims 80 = .ok (.iload_n 1, 1) := dk_27 (dk_at dksX3_swims_3 10 rfl rfl)
theorem dX3_swims_81 : decode cX3_swims 81 = .ok (.iaload, 1) := dk_46 (dk_at dksX3_swims_3 11 rfl rfl)
theorem dX3_swims_82 : decode cX3_swims 82 = .ok (.iload_n 2, 1) := dk_28 (dk_at dksX3_swims_3 12 rfl rfl)
theorem dX3_swims_83 : decode cX3_swims 83 = .ok (.if_icmp .lt 10, 3) := dk_161 0 10 (dk_at dksX3_swims_3 13 rfl rfl)
theorem dX3_swims_86 : decode cX3_swims 86 = .ok (.iload 6, 2) := dk_21 6 (dk_at dksX3_swims_3 16 rfl rfl)
theorem dX3_swims_88 : decode cX3_swims 88 = .ok (.iconst 1, 1) := dk_4 (dk_at dksX3_swims_3 18 rfl rfl)
theorem dX3_swims_89 : decode cX3_swims 89 = .ok (.iadd, 1) := dk_96 (dk_at dksX3_swims_3 19 rfl rfl)
theorem dX3_swims_90 : decode cX3_swims 90 = .ok (.goto 4, 3) := dk_167 0 4 (dk_at dksX3_swims_3 20 rfl rfl)
theorem dX3_swims_93 : decode cX3_swims 93 = .ok (.iconst 0, 1) := dk_3 (dk_at dksX3_swims_3 23 rfl rfl)
theorem dX3_swims_94 : decode cX3_swims 94 = .ok (.istore 6, 2) := dk_54 6 (dk_at dksX3_swims_4 0 rfl rfl)
theorem dX3_swims_96 : decode cX3_swims 96 = .ok (.iload 7, 2) := dk_21 7 (dk_at dksX3_swims_4 2 rfl rfl)
theorem dX3_swims_98 : decode cX3_swims 98 = .ok (.iload 6, 2) := dk_21 6 (dk_at dksX3_swims_4 4 rfl rfl)
theorem dX3_swims_100 : decode cX3_swims 100 = .ok (.invokestatic 217, 3) := dk_184 0 217 (dk_at dksX3_swims_4 6 rfl rfl)
theorem dX3_swims_103 : decode cX3_swims 103 = .ok (.istore 7, 2) := dk_54 7 (dk_at dksX3_swims_4 9 rfl rfl)
theorem dX3_swims_105 : decode cX3_swims 105 = .ok (.iload 6, 2) := dk_21 6 (dk_at dksX3_swims_4 11 rfl rfl)
theorem dX3_swims_107 : decode cX3_swims 107 = .ok (.ifCond .ne 6, 3) := dk_154 0 6 (dk_at dksX3_swims_4 13 rfl rfl)
theorem dX3_swims_110 : decode cX3_swims 110 = .ok (.goto 20, 3) := dk_167 0 20 (dk_at dksX3_swims_4 16 rfl rfl)
theorem dX3_swims_113 : decode cX3_swims 113 = .ok (.iload 5, 2) := dk_21 5 (dk_at dksX3_swims_4 19 rfl rfl)
theorem dX3_swims_115 : decode cX3_swims 115 = .ok (.ifCond .ne 8, 3) := dk_154 0 8 (dk_at dksX3_swims_4 21 rfl rfl)
theorem dX3_swims_118 : decode cX3_swims 118 = .ok (.iload 8, 2) := dk_21 8 (dk_at dksX3_swims_5 0 rfl rfl)
theorem dX3_swims_120 : decode cX3_swims 120 = .ok (.goto 5, 3) := dk_167 0 5 (dk_at dksX3_swims_5 2 rfl rfl)
theorem dX3_swims_123 : decode cX3_swims 123 = .ok (.iload 5, 2) := dk_21 5 (dk_at dksX3_swims_5 5 rfl rfl)
theorem dX3_swims_125 : decode cX3_swims 125 = .ok (.istore 5, 2) := dk_54 5 (dk_at dksX3_swims_5 7 rfl rfl)
theorem dX3_swims_127 : decode cX3_swims 127 = .ok (.iinc 4 1, 3) := dk_132 4 1 (dk_at dksX3_swims_5 9 rfl rfl)
theorem dX3_swims_130 : decode cX3_swims 130 = .ok (.iinc 8 1, 3) := dk_132 8 1 (dk_at dksX3_swims_5 12 rfl rfl)
theorem dX3_swims_133 : decode cX3_swims 133 = .ok (.goto (-71), 3) := dk_167 255 185 (dk_at dksX3_swims_5 15 rfl rfl)
theorem dX3_swims_136 : decode cX3_swims 136 = .ok (.aload_n 0, 1) := dk_42 (dk_at dksX3_swims_5 18 rfl rfl)
theorem dX3_swims_137 : decode cX3_swims 137 = .ok (.iconst 0, 1) := dk_3 (dk_at dksX3_swims_5 19 rfl rfl)
theorem dX3_swims_138 : decode cX3_swims 138 = .ok (.putfield 98, 3) := dk_181 0 98 (dk_at dksX3_swims_5 20 rfl rfl)
theorem dX3_swims_141 : decode cX3_swims 141 = .ok (.aload_n 0, 1) := dk_42 (dk_at dksX3_swims_5 23 rfl rfl)
theorem dX3_swims_142 : decode cX3_swims 142 = .ok (.iload 7, 2) := dk_21 7 (dk_at dksX3_swims_6 0 rfl rfl)
theorem dX3_swims_144 : decode cX3_swims 144 = .ok (.i2l, 1) := dk_133 (dk_at dksX3_swims_6 2 rfl rfl)
theorem dX3_swims_145 : decode cX3_swims 145 = .ok (.invokevirtual 248, 3) := dk_182 0 248 (dk_at dksX3_swims_6 3 rfl rfl)
theorem dX3_swims_148 : decode cX3_swims 148 = .ok (.aload_n 0, 1) := dk_42 (dk_at dksX3_swims_6 6 rfl rfl)
theorem dX3_swims_149 : decode cX3_swims 149 = .ok (.iload 5, 2) := dk_21 5 (dk_at dksX3_swims_6 7 rfl rfl)
theorem dX3_swims_151 : decode cX3_swims 151 = .ok (.i2l, 1) := dk_133 (dk_at dksX3_swims_6 9 rfl rfl)
theorem dX3_swims_152 : decode cX3_swims 152 = .ok (.invokevirtual 248, 3) := dk_182 0 248 (dk_at dksX3_swims_6 10 rfl rfl)
theorem dX3_swims_155 : decode cX3_swims 155 = .ok (.iload 4, 2) := dk_21 4 (dk_at dksX3_swims_6 13 rfl rfl)
theorem dX3_swims_157 : decode cX3_swims 157 = .ok (.ireturn, 1) := dk_172 (dk_at dksX3_swims_6 15 rfl rfl)
abbrev cX3_lets : ByteArray := prog_9_method_73_code
def yX3_lets : MethodName := ⟨RX3, "lets", "(II)I"⟩
def dkwX3_lets_1 : List UInt8 := [4, 27, 120, 4, 27, 120, 28, 182, 1, 47, 167, 0, 4, 2, 172]
abbrev dktX3_lets_1 : List UInt8 := dkwX3_lets_1 ++ []
def dkwX3_lets_0 : List UInt8 := [42, 3, 181, 0, 95, 42, 27, 182, 0, 108, 153, 0, 27, 28, 3, 16, 40, 184, 0, 104, 153, 0, 17, 42]
abbrev dktX3_lets_0 : List UInt8 := dkwX3_lets_0 ++ dktX3_lets_1
theorem dksX3_lets_0 : cX3_lets.data.toList.drop 0 = dktX3_lets_0 := by decide +kernel
theorem dksX3_lets_1 : cX3_lets.data.toList.drop 24 = dktX3_lets_1 := dk_seg dksX3_lets_0 24 rfl rfl
theorem dX3_lets_0 : decode cX3_lets 0 = .ok (.aload_n 0, 1) := dk_42 (dk_at dksX3_lets_0 0 rfl rfl)
theorem dX3_lets_1 : decode cX3_lets 1 = .ok (.iconst 0, 1) := dk_3 (dk_at dksX3_lets_0 1 rfl rfl)
theorem dX3_lets_2 : decode cX3_lets 2 = .ok (.putfield 95, 3) := dk_181 0 95 (dk_at dksX3_lets_0 2 rfl rfl)
theorem dX3_lets_5 : decode cX3_lets 5 = .ok (.aload_n 0, 1) := dk_42 (dk_at dksX3_lets_0 5 rfl rfl)
theorem dX3_lets_6 : decode cX3_lets 6 = .ok (.iload_n 1, 1) := dk_27 (dk_at dksX3_lets_0 6 rfl rfl)
theorem dX3_lets_7 : decode cX3_lets 7 = .ok (.invokevirtual 108, 3) := dk_182 0 108 (dk_at dksX3_lets_0 7 rfl rfl)
theorem dX3_lets_10 : decode cX3_lets 10 = .ok (.ifCond .eq 27, 3) := dk_153 0 27 (dk_at dksX3_lets_0 10 rfl rfl)
theorem dX3_lets_13 : decode cX3_lets 13 = .ok (.iload_n 2, 1) := dk_28 (dk_at dksX3_lets_0 13 rfl rfl)
theorem dX3_lets_14 : decode cX3_lets 14 = .ok (.iconst 0, 1) := dk_3 (dk_at dksX3_lets_0 14 rfl rfl)
theorem dX3_lets_15 : decode cX3_lets 15 = .ok (.bipush 40, 2) := dk_16 40 (dk_at dksX3_lets_0 15 rfl rfl)
theorem dX3_lets_17 : decode cX3_lets 17 = .ok (.invokestatic 104, 3) := dk_184 0 104 (dk_at dksX3_lets_0 17 rfl rfl)
theorem dX3_lets_20 : decode cX3_lets 20 = .ok (.ifCond .eq 17, 3) := dk_153 0 17 (dk_at dksX3_lets_0 20 rfl rfl)
theorem dX3_lets_23 : decode cX3_lets 23 = .ok (.aload_n 0, 1) := dk_42 (dk_at dksX3_lets_0 23 rfl rfl)
theorem dX3_lets_24 : decode cX3_lets 24 = .ok (.iconst 1, 1) := dk_4 (dk_at dksX3_lets_1 0 rfl rfl)
theorem dX3_lets_25 : decode cX3_lets 25 = .ok (.iload_n 1, 1) := dk_27 (dk_at dksX3_lets_1 1 rfl rfl)
theorem dX3_lets_26 : decode cX3_lets 26 = .ok (.ishl, 1) := dk_120 (dk_at dksX3_lets_1 2 rfl rfl)
theorem dX3_lets_27 : decode cX3_lets 27 = .ok (.iconst 1, 1) := dk_4 (dk_at dksX3_lets_1 3 rfl rfl)
theorem dX3_lets_28 : decode cX3_lets 28 = .ok (.iload_n 1, 1) := dk_27 (dk_at dksX3_lets_1 4 rfl rfl)
theorem dX3_lets_29 : decode cX3_lets 29 = .ok (.ishl, 1) := dk_120 (dk_at dksX3_lets_1 5 rfl rfl)
theorem dX3_lets_30 : decode cX3_lets 30 = .ok (.iload_n 2, 1) := dk_28 (dk_at dksX3_lets_1 6 rfl rfl)
theorem dX3_lets_31 : decode cX3_lets 31 = .ok (.invokevirtual 303, 3) := dk_182 1 47 (dk_at dksX3_lets_1 7 rfl rfl)
theorem dX3_lets_34 : decode cX3_lets 34 = .ok (.goto 4, 3) := dk_167 0 4 (dk_at dksX3_lets_1 10 rfl rfl)
theorem dX3_lets_37 : decode cX3_lets 37 = .ok (.iconst (-1), 1) := dk_2 (dk_at dksX3_lets_1 13 rfl rfl)
theorem dX3_lets_38 : decode cX3_lets 38 = .ok (.ireturn, 1) := dk_172 (dk_at dksX3_lets_1 14 rfl rfl)
abbrev cX3_fewest : ByteArray := prog_9_method_72_code
def yX3_fewest : MethodName := ⟨RX3, "fewest", "(III)I"⟩
def dkwX3_fewest_4 : List UInt8 := [172]
abbrev dktX3_fewest_4 : List UInt8 := dkwX3_fewest_4 ++ []
def dkwX3_fewest_3 : List UInt8 := [2, 160, 0, 6, 16, 254, 172, 42, 3, 181, 0, 98, 42, 21, 4, 133, 182, 0, 248, 21, 4, 184, 0, 206]
abbrev dktX3_fewest_3 : List UInt8 := dkwX3_fewest_3 ++ dktX3_fewest_4
def dkwX3_fewest_2 : List UInt8 := [180, 0, 48, 182, 1, 44, 27, 126, 28, 160, 0, 7, 21, 5, 54, 4, 132, 5, 1, 167, 255, 197, 21, 4]
abbrev dktX3_fewest_2 : List UInt8 := dkwX3_fewest_2 ++ dktX3_fewest_3
def dkwX3_fewest_1 : List UInt8 := [184, 0, 206, 21, 4, 184, 0, 206, 161, 0, 6, 167, 0, 28, 42, 21, 5, 29, 182, 1, 40, 42, 42]
abbrev dktX3_fewest_1 : List UInt8 := dkwX3_fewest_1 ++ dktX3_fewest_2
def dkwX3_fewest_0 : List UInt8 := [2, 54, 4, 3, 54, 5, 21, 5, 42, 182, 1, 37, 163, 0, 56, 21, 4, 2, 159, 0, 19, 21, 5]
abbrev dktX3_fewest_0 : List UInt8 := dkwX3_fewest_0 ++ dktX3_fewest_1
theorem dksX3_fewest_0 : cX3_fewest.data.toList.drop 0 = dktX3_fewest_0 := by decide +kernel
theorem dksX3_fewest_1 : cX3_fewest.data.toList.drop 23 = dktX3_fewest_1 := dk_seg dksX3_fewest_0 23 rfl rfl
theorem dksX3_fewest_2 : cX3_fewest.data.toList.drop 46 = dktX3_fewest_2 := dk_seg dksX3_fewest_1 23 rfl rfl
theorem dksX3_fewest_3 : cX3_fewest.data.toList.drop 70 = dktX3_fewest_3 := dk_seg dksX3_fewest_2 24 rfl rfl
theorem dksX3_fewest_4 : cX3_fewest.data.toList.drop 94 = dktX3_fewest_4 := dk_seg dksX3_fewest_3 24 rfl rfl
theorem dX3_fewest_0 : decode cX3_fewest 0 = .ok (.iconst (-1), 1) := dk_2 (dk_at dksX3_fewest_0 0 rfl rfl)
theorem dX3_fewest_1 : decode cX3_fewest 1 = .ok (.istore 4, 2) := dk_54 4 (dk_at dksX3_fewest_0 1 rfl rfl)
theorem dX3_fewest_3 : decode cX3_fewest 3 = .ok (.iconst 0, 1) := dk_3 (dk_at dksX3_fewest_0 3 rfl rfl)
theorem dX3_fewest_4 : decode cX3_fewest 4 = .ok (.istore 5, 2) := dk_54 5 (dk_at dksX3_fewest_0 4 rfl rfl)
theorem dX3_fewest_6 : decode cX3_fewest 6 = .ok (.iload 5, 2) := dk_21 5 (dk_at dksX3_fewest_0 6 rfl rfl)
theorem dX3_fewest_8 : decode cX3_fewest 8 = .ok (.aload_n 0, 1) := dk_42 (dk_at dksX3_fewest_0 8 rfl rfl)
theorem dX3_fewest_9 : decode cX3_fewest 9 = .ok (.invokevirtual 293, 3) := dk_182 1 37 (dk_at dksX3_fewest_0 9 rfl rfl)
theorem dX3_fewest_12 : decode cX3_fewest 12 = .ok (.if_icmp .gt 56, 3) := dk_163 0 56 (dk_at dksX3_fewest_0 12 rfl rfl)
theorem dX3_fewest_15 : decode cX3_fewest 15 = .ok (.iload 4, 2) := dk_21 4 (dk_at dksX3_fewest_0 15 rfl rfl)
theorem dX3_fewest_17 : decode cX3_fewest 17 = .ok (.iconst (-1), 1) := dk_2 (dk_at dksX3_fewest_0 17 rfl rfl)
theorem dX3_fewest_18 : decode cX3_fewest 18 = .ok (.if_icmp .eq 19, 3) := dk_159 0 19 (dk_at dksX3_fewest_0 18 rfl rfl)
theorem dX3_fewest_21 : decode cX3_fewest 21 = .ok (.iload 5, 2) := dk_21 5 (dk_at dksX3_fewest_0 21 rfl rfl)
theorem dX3_fewest_23 : decode cX3_fewest 23 = .ok (.invokestatic 206, 3) := dk_184 0 206 (dk_at dksX3_fewest_1 0 rfl rfl)
theorem dX3_fewest_26 : decode cX3_fewest 26 = .ok (.iload 4, 2) := dk_21 4 (dk_at dksX3_fewest_1 3 rfl rfl)
theorem dX3_fewest_28 : decode cX3_fewest 28 = .ok (.invokestatic 206, 3) := dk_184 0 206 (dk_at dksX3_fewest_1 5 rfl rfl)
theorem dX3_fewest_31 : decode cX3_fewest 31 = .ok (.if_icmp .lt 6, 3) := dk_161 0 6 (dk_at dksX3_fewest_1 8 rfl rfl)
theorem dX3_fewest_34 : decode cX3_fewest 34 = .ok (.goto 28, 3) := dk_167 0 28 (dk_at dksX3_fewest_1 11 rfl rfl)
theorem dX3_fewest_37 : decode cX3_fewest 37 = .ok (.aload_n 0, 1) := dk_42 (dk_at dksX3_fewest_1 14 rfl rfl)
theorem dX3_fewest_38 : decode cX3_fewest 38 = .ok (.iload 5, 2) := dk_21 5 (dk_at dksX3_fewest_1 15 rfl rfl)
theorem dX3_fewest_40 : decode cX3_fewest 40 = .ok (.iload_n 3, 1) := dk_29 (dk_at dksX3_fewest_1 17 rfl rfl)
theorem dX3_fewest_41 : decode cX3_fewest 41 = .ok (.invokevirtual 296, 3) := dk_182 1 40 (dk_at dksX3_fewest_1 18 rfl rfl)
theorem dX3_fewest_44 : decode cX3_fewest 44 = .ok (.aload_n 0, 1) := dk_42 (dk_at dksX3_fewest_1 21 rfl rfl)
theorem dX3_fewest_45 : decode cX3_fewest 45 = .ok (.aload_n 0, 1) := dk_42 (dk_at dksX3_fewest_1 22 rfl rfl)
theorem dX3_fewest_46 : decode cX3_fewest 46 = .ok (.getfield 48, 3) := dk_180 0 48 (dk_at dksX3_fewest_2 0 rfl rfl)
theorem dX3_fewest_49 : decode cX3_fewest 49 = .ok (.invokevirtual 300, 3) := dk_182 1 44 (dk_at dksX3_fewest_2 3 rfl rfl)
theorem dX3_fewest_52 : decode cX3_fewest 52 = .ok (.iload_n 1, 1) := dk_27 (dk_at dksX3_fewest_2 6 rfl rfl)
theorem dX3_fewest_53 : decode cX3_fewest 53 = .ok (.iand, 1) := dk_126 (dk_at dksX3_fewest_2 7 rfl rfl)
theorem dX3_fewest_54 : decode cX3_fewest 54 = .ok (.iload_n 2, 1) := dk_28 (dk_at dksX3_fewest_2 8 rfl rfl)
theorem dX3_fewest_55 : decode cX3_fewest 55 = .ok (.if_icmp .ne 7, 3) := dk_160 0 7 (dk_at dksX3_fewest_2 9 rfl rfl)
theorem dX3_fewest_58 : decode cX3_fewest 58 = .ok (.iload 5, 2) := dk_21 5 (dk_at dksX3_fewest_2 12 rfl rfl)
theorem dX3_fewest_60 : decode cX3_fewest 60 = .ok (.istore 4, 2) := dk_54 4 (dk_at dksX3_fewest_2 14 rfl rfl)
theorem dX3_fewest_62 : decode cX3_fewest 62 = .ok (.iinc 5 1, 3) := dk_132 5 1 (dk_at dksX3_fewest_2 16 rfl rfl)
theorem dX3_fewest_65 : decode cX3_fewest 65 = .ok (.goto (-59), 3) := dk_167 255 197 (dk_at dksX3_fewest_2 19 rfl rfl)
theorem dX3_fewest_68 : decode cX3_fewest 68 = .ok (.iload 4, 2) := dk_21 4 (dk_at dksX3_fewest_2 22 rfl rfl)
theorem dX3_fewest_70 : decode cX3_fewest 70 = .ok (.iconst (-1), 1) := dk_2 (dk_at dksX3_fewest_3 0 rfl rfl)
theorem dX3_fewest_71 : decode cX3_fewest 71 = .ok (.if_icmp .ne 6, 3) := dk_160 0 6 (dk_at dksX3_fewest_3 1 rfl rfl)
theorem dX3_fewest_74 : decode cX3_fewest 74 = .ok (.bipush (-2), 2) := dk_16 254 (dk_at dksX3_fewest_3 4 rfl rfl)
theorem dX3_fewest_76 : decode cX3_fewest 76 = .ok (.ireturn, 1) := dk_172 (dk_at dksX3_fewest_3 6 rfl rfl)
theorem dX3_fewest_77 : decode cX3_fewest 77 = .ok (.aload_n 0, 1) := dk_42 (dk_at dksX3_fewest_3 7 rfl rfl)
theorem dX3_fewest_78 : decode cX3_fewest 78 = .ok (.iconst 0, 1) := dk_3 (dk_at dksX3_fewest_3 8 rfl rfl)
theorem dX3_fewest_79 : decode cX3_fewest 79 = .ok (.putfield 98, 3) := dk_181 0 98 (dk_at dksX3_fewest_3 9 rfl rfl)
theorem dX3_fewest_82 : decode cX3_fewest 82 = .ok (.aload_n 0, 1) := dk_42 (dk_at dksX3_fewest_3 12 rfl rfl)
theorem dX3_fewest_83 : decode cX3_fewest 83 = .ok (.iload 4, 2) := dk_21 4 (dk_at dksX3_fewest_3 13 rfl rfl)
theorem dX3_fewest_85 : decode cX3_fewest 85 = .ok (.i2l, 1) := dk_133 (dk_at dksX3_fewest_3 15 rfl rfl)
theorem dX3_fewest_86 : decode cX3_fewest 86 = .ok (.invokevirtual 248, 3) := dk_182 0 248 (dk_at dksX3_fewest_3 16 rfl rfl)
theorem dX3_fewest_89 : decode cX3_fewest 89 = .ok (.iload 4, 2) := dk_21 4 (dk_at dksX3_fewest_3 19 rfl rfl)
theorem dX3_fewest_91 : decode cX3_fewest 91 = .ok (.invokestatic 206, 3) := dk_184 0 206 (dk_at dksX3_fewest_3 21 rfl rfl)
theorem dX3_fewest_94 : decode cX3_fewest 94 = .ok (.ireturn, 1) := dk_172 (dk_at dksX3_fewest_4 0 rfl rfl)
abbrev cX3_all : ByteArray := prog_9_method_10_code
def yX3_all : MethodName := ⟨RX3, "all", "()I"⟩
def dkwX3_all_0 : List UInt8 := [4, 42, 180, 0, 101, 120, 4, 100, 172]
abbrev dktX3_all_0 : List UInt8 := dkwX3_all_0 ++ []
theorem dksX3_all_0 : cX3_all.data.toList.drop 0 = dktX3_all_0 := by decide +kernel
theorem dX3_all_0 : decode cX3_all 0 = .ok (.iconst 1, 1) := dk_4 (dk_at dksX3_all_0 0 rfl rfl)
theorem dX3_all_1 : decode cX3_all 1 = .ok (.aload_n 0, 1) := dk_42 (dk_at dksX3_all_0 1 rfl rfl)
theorem dX3_all_2 : decode cX3_all 2 = .ok (.getfield 101, 3) := dk_180 0 101 (dk_at dksX3_all_0 2 rfl rfl)
theorem dX3_all_5 : decode cX3_all 5 = .ok (.ishl, 1) := dk_120 (dk_at dksX3_all_0 5 rfl rfl)
theorem dX3_all_6 : decode cX3_all 6 = .ok (.iconst 1, 1) := dk_4 (dk_at dksX3_all_0 6 rfl rfl)
theorem dX3_all_7 : decode cX3_all 7 = .ok (.isub, 1) := dk_100 (dk_at dksX3_all_0 7 rfl rfl)
theorem dX3_all_8 : decode cX3_all 8 = .ok (.ireturn, 1) := dk_172 (dk_at dksX3_all_0 8 rfl rfl)
abbrev cX3_goTouched : ByteArray := prog_9_method_71_code
def yX3_goTouched : MethodName := ⟨RX3, "goTouched", "(II)V"⟩
def dkwX3_goTouched_2 : List UInt8 := [100, 79, 132, 3, 1, 167, 255, 217, 42, 42, 180, 0, 48, 28, 182, 0, 244, 177]
abbrev dktX3_goTouched_2 : List UInt8 := dkwX3_goTouched_2 ++ []
def dkwX3_goTouched_1 : List UInt8 := [184, 1, 21, 153, 0, 23, 42, 180, 0, 48, 16, 6, 29, 96, 4, 42, 180, 0, 48, 16, 6, 29, 96, 46]
abbrev dktX3_goTouched_1 : List UInt8 := dkwX3_goTouched_1 ++ dktX3_goTouched_2
def dkwX3_goTouched_0 : List UInt8 := [42, 180, 0, 9, 42, 180, 0, 48, 3, 184, 0, 230, 3, 62, 29, 42, 180, 0, 101, 162, 0, 37, 27, 29]
abbrev dktX3_goTouched_0 : List UInt8 := dkwX3_goTouched_0 ++ dktX3_goTouched_1
theorem dksX3_goTouched_0 : cX3_goTouched.data.toList.drop 0 = dktX3_goTouched_0 := by decide +kernel
theorem dksX3_goTouched_1 : cX3_goTouched.data.toList.drop 24 = dktX3_goTouched_1 := dk_seg dksX3_goTouched_0 24 rfl rfl
theorem dksX3_goTouched_2 : cX3_goTouched.data.toList.drop 48 = dktX3_goTouched_2 := dk_seg dksX3_goTouched_1 24 rfl rfl
theorem dX3_goTouched_0 : decode cX3_goTouched 0 = .ok (.aload_n 0, 1) := dk_42 (dk_at dksX3_goTouched_0 0 rfl rfl)
theorem dX3_goTouched_1 : decode cX3_goTouched 1 = .ok (.getfield 9, 3) := dk_180 0 9 (dk_at dksX3_goTouched_0 1 rfl rfl)
theorem dX3_goTouched_4 : decode cX3_goTouched 4 = .ok (.aload_n 0, 1) := dk_42 (dk_at dksX3_goTouched_0 4 rfl rfl)
theorem dX3_goTouched_5 : decode cX3_goTouched 5 = .ok (.getfield 48, 3) := dk_180 0 48 (dk_at dksX3_goTouched_0 5 rfl rfl)
theorem dX3_goTouched_8 : decode cX3_goTouched 8 = .ok (.iconst 0, 1) := dk_3 (dk_at dksX3_goTouched_0 8 rfl rfl)
theorem dX3_goTouched_9 : decode cX3_goTouched 9 = .ok (.invokestatic 230, 3) := dk_184 0 230 (dk_at dksX3_goTouched_0 9 rfl rfl)
theorem dX3_goTouched_12 : decode cX3_goTouched 12 = .ok (.iconst 0, 1) := dk_3 (dk_at dksX3_goTouched_0 12 rfl rfl)
theorem dX3_goTouched_13 : decode cX3_goTouched 13 = .ok (.istore_n 3, 1) := dk_62 (dk_at dksX3_goTouched_0 13 rfl rfl)
theorem dX3_goTouched_14 : decode cX3_goTouched 14 = .ok (.iload_n 3, 1) := dk_29 (dk_at dksX3_goTouched_0 14 rfl rfl)
theorem dX3_goTouched_15 : decode cX3_goTouched 15 = .ok (.aload_n 0, 1) := dk_42 (dk_at dksX3_goTouched_0 15 rfl rfl)
theorem dX3_goTouched_16 : decode cX3_goTouched 16 = .ok (.getfield 101, 3) := dk_180 0 101 (dk_at dksX3_goTouched_0 16 rfl rfl)
theorem dX3_goTouched_19 : decode cX3_goTouched 19 = .ok (.if_icmp .ge 37, 3) := dk_162 0 37 (dk_at dksX3_goTouched_0 19 rfl rfl)
theorem dX3_goTouched_22 : decode cX3_goTouched 22 = .ok (.iload_n 1, 1) := dk_27 (dk_at dksX3_goTouched_0 22 rfl rfl)
theorem dX3_goTouched_23 : decode cX3_goTouched 23 = .ok (.iload_n 3, 1) := dk_29 (dk_at dksX3_goTouched_0 23 rfl rfl)
theorem dX3_goTouched_24 : decode cX3_goTouched 24 = .ok (.invokestatic 277, 3) := dk_184 1 21 (dk_at dksX3_goTouched_1 0 rfl rfl)
theorem dX3_goTouched_27 : decode cX3_goTouched 27 = .ok (.ifCond .eq 23, 3) := dk_153 0 23 (dk_at dksX3_goTouched_1 3 rfl rfl)
theorem dX3_goTouched_30 : decode cX3_goTouched 30 = .ok (.aload_n 0, 1) := dk_42 (dk_at dksX3_goTouched_1 6 rfl rfl)
theorem dX3_goTouched_31 : decode cX3_goTouched 31 = .ok (.getfield 48, 3) := dk_180 0 48 (dk_at dksX3_goTouched_1 7 rfl rfl)
theorem dX3_goTouched_34 : decode cX3_goTouched 34 = .ok (.bipush 6, 2) := dk_16 6 (dk_at dksX3_goTouched_1 10 rfl rfl)
theorem dX3_goTouched_36 : decode cX3_goTouched 36 = .ok (.iload_n 3, 1) := dk_29 (dk_at dksX3_goTouched_1 12 rfl rfl)
theorem dX3_goTouched_37 : decode cX3_goTouched 37 = .ok (.iadd, 1) := dk_96 (dk_at dksX3_goTouched_1 13 rfl rfl)
theorem dX3_goTouched_38 : decode cX3_goTouched 38 = .ok (.iconst 1, 1) := dk_4 (dk_at dksX3_goTouched_1 14 rfl rfl)
theorem dX3_goTouched_39 : decode cX3_goTouched 39 = .ok (.aload_n 0, 1) := dk_42 (dk_at dksX3_goTouched_1 15 rfl rfl)
theorem dX3_goTouched_40 : decode cX3_goTouched 40 = .ok (.getfield 48, 3) := dk_180 0 48 (dk_at dksX3_goTouched_1 16 rfl rfl)
theorem dX3_goTouched_43 : decode cX3_goTouched 43 = .ok (.bipush 6, 2) := dk_16 6 (dk_at dksX3_goTouched_1 19 rfl rfl)
theorem dX3_goTouched_45 : decode cX3_goTouched 45 = .ok (.iload_n 3, 1) := dk_29 (dk_at dksX3_goTouched_1 21 rfl rfl)
theorem dX3_goTouched_46 : decode cX3_goTouched 46 = .ok (.iadd, 1) := dk_96 (dk_at dksX3_goTouched_1 22 rfl rfl)
theorem dX3_goTouched_47 : decode cX3_goTouched 47 = .ok (.iaload, 1) := dk_46 (dk_at dksX3_goTouched_1 23 rfl rfl)
theorem dX3_goTouched_48 : decode cX3_goTouched 48 = .ok (.isub, 1) := dk_100 (dk_at dksX3_goTouched_2 0 rfl rfl)
theorem dX3_goTouched_49 : decode cX3_goTouched 49 = .ok (.iastore, 1) := dk_79 (dk_at dksX3_goTouched_2 1 rfl rfl)
theorem dX3_goTouched_50 : decode cX3_goTouched 50 = .ok (.iinc 3 1, 3) := dk_132 3 1 (dk_at dksX3_goTouched_2 2 rfl rfl)
theorem dX3_goTouched_53 : decode cX3_goTouched 53 = .ok (.goto (-39), 3) := dk_167 255 217 (dk_at dksX3_goTouched_2 5 rfl rfl)
theorem dX3_goTouched_56 : decode cX3_goTouched 56 = .ok (.aload_n 0, 1) := dk_42 (dk_at dksX3_goTouched_2 8 rfl rfl)
theorem dX3_goTouched_57 : decode cX3_goTouched 57 = .ok (.aload_n 0, 1) := dk_42 (dk_at dksX3_goTouched_2 9 rfl rfl)
theorem dX3_goTouched_58 : decode cX3_goTouched 58 = .ok (.getfield 48, 3) := dk_180 0 48 (dk_at dksX3_goTouched_2 10 rfl rfl)
theorem dX3_goTouched_61 : decode cX3_goTouched 61 = .ok (.iload_n 2, 1) := dk_28 (dk_at dksX3_goTouched_2 13 rfl rfl)
theorem dX3_goTouched_62 : decode cX3_goTouched 62 = .ok (.invokevirtual 244, 3) := dk_182 0 244 (dk_at dksX3_goTouched_2 14 rfl rfl)
theorem dX3_goTouched_65 : decode cX3_goTouched 65 = .ok (.return_, 1) := dk_177 (dk_at dksX3_goTouched_2 17 rfl rfl)
abbrev cX3_dryOnes : ByteArray := prog_9_method_70_code
def yX3_dryOnes : MethodName := ⟨RX3, "dryOnes", "([I)I"⟩
def dkwX3_dryOnes_1 : List UInt8 := [167, 0, 4, 3, 128, 61, 132, 3, 1, 167, 255, 229, 28, 172]
abbrev dktX3_dryOnes_1 : List UInt8 := dkwX3_dryOnes_1 ++ []
def dkwX3_dryOnes_0 : List UInt8 := [3, 61, 3, 62, 29, 42, 180, 0, 101, 162, 0, 25, 28, 43, 29, 46, 154, 0, 9, 4, 29, 120]
abbrev dktX3_dryOnes_0 : List UInt8 := dkwX3_dryOnes_0 ++ dktX3_dryOnes_1
theorem dksX3_dryOnes_0 : cX3_dryOnes.data.toList.drop 0 = dktX3_dryOnes_0 := by decide +kernel
theorem dksX3_dryOnes_1 : cX3_dryOnes.data.toList.drop 22 = dktX3_dryOnes_1 := dk_seg dksX3_dryOnes_0 22 rfl rfl
theorem dX3_dryOnes_0 : decode cX3_dryOnes 0 = .ok (.iconst 0, 1) := dk_3 (dk_at dksX3_dryOnes_0 0 rfl rfl)
theorem dX3_dryOnes_1 : decode cX3_dryOnes 1 = .ok (.istore_n 2, 1) := dk_61 (dk_at dksX3_dryOnes_0 1 rfl rfl)
theorem dX3_dryOnes_2 : decode cX3_dryOnes 2 = .ok (.iconst 0, 1) := dk_3 (dk_at dksX3_dryOnes_0 2 rfl rfl)
theorem dX3_dryOnes_3 : decode cX3_dryOnes 3 = .ok (.istore_n 3, 1) := dk_62 (dk_at dksX3_dryOnes_0 3 rfl rfl)
theorem dX3_dryOnes_4 : decode cX3_dryOnes 4 = .ok (.iload_n 3, 1) := dk_29 (dk_at dksX3_dryOnes_0 4 rfl rfl)
theorem dX3_dryOnes_5 : decode cX3_dryOnes 5 = .ok (.aload_n 0, 1) := dk_42 (dk_at dksX3_dryOnes_0 5 rfl rfl)
theorem dX3_dryOnes_6 : decode cX3_dryOnes 6 = .ok (.getfield 101, 3) := dk_180 0 101 (dk_at dksX3_dryOnes_0 6 rfl rfl)
theorem dX3_dryOnes_9 : decode cX3_dryOnes 9 = .ok (.if_icmp .ge 25, 3) := dk_162 0 25 (dk_at dksX3_dryOnes_0 9 rfl rfl)
theorem dX3_dryOnes_12 : decode cX3_dryOnes 12 = .ok (.iload_n 2, 1) := dk_28 (dk_at dksX3_dryOnes_0 12 rfl rfl)
theorem dX3_dryOnes_13 : decode cX3_dryOnes 13 = .ok (.aload_n 1, 1) := dk_43 (dk_at dksX3_dryOnes_0 13 rfl rfl)
theorem dX3_dryOnes_14 : decode cX3_dryOnes 14 = .ok (.iload_n 3, 1) := dk_29 (dk_at dksX3_dryOnes_0 14 rfl rfl)
theorem dX3_dryOnes_15 : decode cX3_dryOnes 15 = .ok (.iaload, 1) := dk_46 (dk_at dksX3_dryOnes_0 15 rfl rfl)
theorem dX3_dryOnes_16 : decode cX3_dryOnes 16 = .ok (.ifCond .ne 9, 3) := dk_154 0 9 (dk_at dksX3_dryOnes_0 16 rfl rfl)
theorem dX3_dryOnes_19 : decode cX3_dryOnes 19 = .ok (.iconst 1, 1) := dk_4 (dk_at dksX3_dryOnes_0 19 rfl rfl)
theorem dX3_dryOnes_20 : decode cX3_dryOnes 20 = .ok (.iload_n 3, 1) := dk_29 (dk_at dksX3_dryOnes_0 20 rfl rfl)
theorem dX3_dryOnes_21 : decode cX3_dryOnes 21 = .ok (.ishl, 1) := dk_120 (dk_at dksX3_dryOnes_0 21 rfl rfl)
theorem dX3_dryOnes_22 : decode cX3_dryOnes 22 = .ok (.goto 4, 3) := dk_167 0 4 (dk_at dksX3_dryOnes_1 0 rfl rfl)
theorem dX3_dryOnes_25 : decode cX3_dryOnes 25 = .ok (.iconst 0, 1) := dk_3 (dk_at dksX3_dryOnes_1 3 rfl rfl)
theorem dX3_dryOnes_26 : decode cX3_dryOnes 26 = .ok (.ior, 1) := dk_128 (dk_at dksX3_dryOnes_1 4 rfl rfl)
theorem dX3_dryOnes_27 : decode cX3_dryOnes 27 = .ok (.istore_n 2, 1) := dk_61 (dk_at dksX3_dryOnes_1 5 rfl rfl)
theorem dX3_dryOnes_28 : decode cX3_dryOnes 28 = .ok (.iinc 3 1, 3) := dk_132 3 1 (dk_at dksX3_dryOnes_1 6 rfl rfl)
theorem dX3_dryOnes_31 : decode cX3_dryOnes 31 = .ok (.goto (-27), 3) := dk_167 255 229 (dk_at dksX3_dryOnes_1 9 rfl rfl)
theorem dX3_dryOnes_34 : decode cX3_dryOnes 34 = .ok (.iload_n 2, 1) := dk_28 (dk_at dksX3_dryOnes_1 12 rfl rfl)
theorem dX3_dryOnes_35 : decode cX3_dryOnes 35 = .ok (.ireturn, 1) := dk_172 (dk_at dksX3_dryOnes_1 13 rfl rfl)
abbrev cX3_just : ByteArray := prog_9_method_74_code
def yX3_just : MethodName := ⟨RX3, "just", "(II)I"⟩
def dkwX3_just_1 : List UInt8 := [153, 0, 16, 42, 42, 182, 1, 37, 27, 28, 182, 1, 47, 167, 0, 4, 2, 172]
abbrev dktX3_just_1 : List UInt8 := dkwX3_just_1 ++ []
def dkwX3_just_0 : List UInt8 := [42, 3, 181, 0, 95, 27, 3, 42, 182, 1, 37, 184, 0, 104, 153, 0, 26, 28, 3, 16, 40, 184, 0, 104]
abbrev dktX3_just_0 : List UInt8 := dkwX3_just_0 ++ dktX3_just_1
theorem dksX3_just_0 : cX3_just.data.toList.drop 0 = dktX3_just_0 := by decide +kernel
theorem dksX3_just_1 : cX3_just.data.toList.drop 24 = dktX3_just_1 := dk_seg dksX3_just_0 24 rfl rfl
theorem dX3_just_0 : decode cX3_just 0 = .ok (.aload_n 0, 1) := dk_42 (dk_at dksX3_just_0 0 rfl rfl)
theorem dX3_just_1 : decode cX3_just 1 = .ok (.iconst 0, 1) := dk_3 (dk_at dksX3_just_0 1 rfl rfl)
theorem dX3_just_2 : decode cX3_just 2 = .ok (.putfield 95, 3) := dk_181 0 95 (dk_at dksX3_just_0 2 rfl rfl)
theorem dX3_just_5 : decode cX3_just 5 = .ok (.iload_n 1, 1) := dk_27 (dk_at dksX3_just_0 5 rfl rfl)
theorem dX3_just_6 : decode cX3_just 6 = .ok (.iconst 0, 1) := dk_3 (dk_at dksX3_just_0 6 rfl rfl)
theorem dX3_just_7 : decode cX3_just 7 = .ok (.aload_n 0, 1) := dk_42 (dk_at dksX3_just_0 7 rfl rfl)
theorem dX3_just_8 : decode cX3_just 8 = .ok (.invokevirtual 293, 3) := dk_182 1 37 (dk_at dksX3_just_0 8 rfl rfl)
theorem dX3_just_11 : decode cX3_just 11 = .ok (.invokestatic 104, 3) := dk_184 0 104 (dk_at dksX3_just_0 11 rfl rfl)
theorem dX3_just_14 : decode cX3_just 14 = .ok (.ifCond .eq 26, 3) := dk_153 0 26 (dk_at dksX3_just_0 14 rfl rfl)
theorem dX3_just_17 : decode cX3_just 17 = .ok (.iload_n 2, 1) := dk_28 (dk_at dksX3_just_0 17 rfl rfl)
theorem dX3_just_18 : decode cX3_just 18 = .ok (.iconst 0, 1) := dk_3 (dk_at dksX3_just_0 18 rfl rfl)
theorem dX3_just_19 : decode cX3_just 19 = .ok (.bipush 40, 2) := dk_16 40 (dk_at dksX3_just_0 19 rfl rfl)
theorem dX3_just_21 : decode cX3_just 21 = .ok (.invokestatic 104, 3) := dk_184 0 104 (dk_at dksX3_just_0 21 rfl rfl)
theorem dX3_just_24 : decode cX3_just 24 = .ok (.ifCond .eq 16, 3) := dk_153 0 16 (dk_at dksX3_just_1 0 rfl rfl)
theorem dX3_just_27 : decode cX3_just 27 = .ok (.aload_n 0, 1) := dk_42 (dk_at dksX3_just_1 3 rfl rfl)
theorem dX3_just_28 : decode cX3_just 28 = .ok (.aload_n 0, 1) := dk_42 (dk_at dksX3_just_1 4 rfl rfl)
theorem dX3_just_29 : decode cX3_just 29 = .ok (.invokevirtual 293, 3) := dk_182 1 37 (dk_at dksX3_just_1 5 rfl rfl)
theorem dX3_just_32 : decode cX3_just 32 = .ok (.iload_n 1, 1) := dk_27 (dk_at dksX3_just_1 8 rfl rfl)
theorem dX3_just_33 : decode cX3_just 33 = .ok (.iload_n 2, 1) := dk_28 (dk_at dksX3_just_1 9 rfl rfl)
theorem dX3_just_34 : decode cX3_just 34 = .ok (.invokevirtual 303, 3) := dk_182 1 47 (dk_at dksX3_just_1 10 rfl rfl)
theorem dX3_just_37 : decode cX3_just 37 = .ok (.goto 4, 3) := dk_167 0 4 (dk_at dksX3_just_1 13 rfl rfl)
theorem dX3_just_40 : decode cX3_just 40 = .ok (.iconst (-1), 1) := dk_2 (dk_at dksX3_just_1 16 rfl rfl)
theorem dX3_just_41 : decode cX3_just 41 = .ok (.ireturn, 1) := dk_172 (dk_at dksX3_just_1 17 rfl rfl)
abbrev cX3_fills : ByteArray := prog_9_method_75_code
def yX3_fills : MethodName := ⟨RX3, "fills", "(II)I"⟩
def dkwX3_fills_5 : List UInt8 := [42, 3, 181, 0, 98, 42, 29, 133, 182, 0, 248, 21, 4, 172]
abbrev dktX3_fills_5 : List UInt8 := dkwX3_fills_5 ++ []
def dkwX3_fills_4 : List UInt8 := [42, 180, 0, 48, 3, 182, 0, 227, 54, 4, 132, 5, 1, 167, 255, 185, 29, 2, 160, 0, 6, 16, 254, 172]
abbrev dktX3_fills_4 : List UInt8 := dkwX3_fills_4 ++ dktX3_fills_5
def dkwX3_fills_3 : List UInt8 := [182, 1, 40, 42, 42, 180, 0, 48, 3, 182, 0, 227, 21, 4, 163, 0, 6, 167, 0, 17, 21, 5, 62, 42]
abbrev dktX3_fills_3 : List UInt8 := dkwX3_fills_3 ++ dktX3_fills_4
def dkwX3_fills_2 : List UInt8 := [184, 0, 206, 27, 159, 0, 6, 167, 0, 50, 42, 21, 5, 42, 42, 180, 0, 9, 182, 0, 202, 130, 28]
abbrev dktX3_fills_2 : List UInt8 := dkwX3_fills_2 ++ dktX3_fills_3
def dkwX3_fills_1 : List UInt8 := [154, 0, 5, 2, 172, 2, 62, 2, 54, 4, 3, 54, 5, 21, 5, 42, 182, 1, 37, 163, 0, 68, 21, 5]
abbrev dktX3_fills_1 : List UInt8 := dkwX3_fills_1 ++ dktX3_fills_2
def dkwX3_fills_0 : List UInt8 := [42, 3, 181, 0, 95, 27, 3, 16, 6, 184, 0, 104, 153, 0, 13, 28, 3, 16, 40, 184, 0, 104]
abbrev dktX3_fills_0 : List UInt8 := dkwX3_fills_0 ++ dktX3_fills_1
theorem dksX3_fills_0 : cX3_fills.data.toList.drop 0 = dktX3_fills_0 := by decide +kernel
theorem dksX3_fills_1 : cX3_fills.data.toList.drop 22 = dktX3_fills_1 := dk_seg dksX3_fills_0 22 rfl rfl
theorem dksX3_fills_2 : cX3_fills.data.toList.drop 46 = dktX3_fills_2 := dk_seg dksX3_fills_1 24 rfl rfl
theorem dksX3_fills_3 : cX3_fills.data.toList.drop 69 = dktX3_fills_3 := dk_seg dksX3_fills_2 23 rfl rfl
theorem dksX3_fills_4 : cX3_fills.data.toList.drop 93 = dktX3_fills_4 := dk_seg dksX3_fills_3 24 rfl rfl
theorem dksX3_fills_5 : cX3_fills.data.toList.drop 117 = dktX3_fills_5 := dk_seg dksX3_fills_4 24 rfl rfl
theorem dX3_fills_0 : decode cX3_fills 0 = .ok (.aload_n 0, 1) := dk_42 (dk_at dksX3_fills_0 0 rfl rfl)
theorem dX3_fills_1 : decode cX3_fills 1 = .ok (.iconst 0, 1) := dk_3 (dk_at dksX3_fills_0 1 rfl rfl)
theorem dX3_fills_2 : decode cX3_fills 2 = .ok (.putfield 95, 3) := dk_181 0 95 (dk_at dksX3_fills_0 2 rfl rfl)
theorem dX3_fills_5 : decode cX3_fills 5 = .ok (.iload_n 1, 1) := dk_27 (dk_at dksX3_fills_0 5 rfl rfl)
theorem dX3_fills_6 : decode cX3_fills 6 = .ok (.iconst 0, 1) := dk_3 (dk_at dksX3_fills_0 6 rfl rfl)
theorem dX3_fills_7 : decode cX3_fills 7 = .ok (.bipush 6, 2) := dk_16 6 (dk_at dksX3_fills_0 7 rfl rfl)
theorem dX3_fills_9 : decode cX3_fills 9 = .ok (.invokestatic 104, 3) := dk_184 0 104 (dk_at dksX3_fills_0 9 rfl rfl)
theorem dX3_fills_12 : decode cX3_fills 12 = .ok (.ifCond .eq 13, 3) := dk_153 0 13 (dk_at dksX3_fills_0 12 rfl rfl)
theorem dX3_fills_15 : decode cX3_fills 15 = .ok (.iload_n 2, 1) := dk_28 (dk_at dksX3_fills_0 15 rfl rfl)
theorem dX3_fills_16 : decode cX3_fills 16 = .ok (.iconst 0, 1) := dk_3 (dk_at dksX3_fills_0 16 rfl rfl)
theorem dX3_fills_17 : decode cX3_fills 17 = .ok (.bipush 40, 2) := dk_16 40 (dk_at dksX3_fills_0 17 rfl rfl)
theorem dX3_fills_19 : decode cX3_fills 19 = .ok (.invokestatic 104, 3) := dk_184 0 104 (dk_at dksX3_fills_0 19 rfl rfl)
theorem dX3_fills_22 : decode cX3_fills 22 = .ok (.ifCond .ne 5, 3) := dk_154 0 5 (dk_at dksX3_fills_1 0 rfl rfl)
theorem dX3_fills_25 : decode cX3_fills 25 = .ok (.iconst (-1), 1) := dk_2 (dk_at dksX3_fills_1 3 rfl rfl)
theorem dX3_fills_26 : decode cX3_fills 26 = .ok (.ireturn, 1) := dk_172 (dk_at dksX3_fills_1 4 rfl rfl)
theorem dX3_fills_27 : decode cX3_fills 27 = .ok (.iconst (-1), 1) := dk_2 (dk_at dksX3_fills_1 5 rfl rfl)
theorem dX3_fills_28 : decode cX3_fills 28 = .ok (.istore_n 3, 1) := dk_62 (dk_at dksX3_fills_1 6 rfl rfl)
theorem dX3_fills_29 : decode cX3_fills 29 = .ok (.iconst (-1), 1) := dk_2 (dk_at dksX3_fills_1 7 rfl rfl)
theorem dX3_fills_30 : decode cX3_fills 30 = .ok (.istore 4, 2) := dk_54 4 (dk_at dksX3_fills_1 8 rfl rfl)
theorem dX3_fills_32 : decode cX3_fills 32 = .ok (.iconst 0, 1) := dk_3 (dk_at dksX3_fills_1 10 rfl rfl)
theorem dX3_fills_33 : decode cX3_fills 33 = .ok (.istore 5, 2) := dk_54 5 (dk_at dksX3_fills_1 11 rfl rfl)
theorem dX3_fills_35 : decode cX3_fills 35 = .ok (.iload 5, 2) := dk_21 5 (dk_at dksX3_fills_1 13 rfl rfl)
theorem dX3_fills_37 : decode cX3_fills 37 = .ok (.aload_n 0, 1) := dk_42 (dk_at dksX3_fills_1 15 rfl rfl)
theorem dX3_fills_38 : decode cX3_fills 38 = .ok (.invokevirtual 293, 3) := dk_182 1 37 (dk_at dksX3_fills_1 16 rfl rfl)
theorem dX3_fills_41 : decode cX3_fills 41 = .ok (.if_icmp .gt 68, 3) := dk_163 0 68 (dk_at dksX3_fills_1 19 rfl rfl)
theorem dX3_fills_44 : decode cX3_fills 44 = .ok (.iload 5, 2) := dk_21 5 (dk_at dksX3_fills_1 22 rfl rfl)
theorem dX3_fills_46 : decode cX3_fills 46 = .ok (.invokestatic 206, 3) := dk_184 0 206 (dk_at dksX3_fills_2 0 rfl rfl)
theorem dX3_fills_49 : decode cX3_fills 49 = .ok (.iload_n 1, 1) := dk_27 (dk_at dksX3_fills_2 3 rfl rfl)
theorem dX3_fills_50 : decode cX3_fills 50 = .ok (.if_icmp .eq 6, 3) := dk_159 0 6 (dk_at dksX3_fills_2 4 rfl rfl)
theorem dX3_fills_53 : decode cX3_fills 53 = .ok (.goto 50, 3) := dk_167 0 50 (dk_at dksX3_fills_2 7 rfl rfl)
theorem dX3_fills_56 : decode cX3_fills 56 = .ok (.aload_n 0, 1) := dk_42 (dk_at dksX3_fills_2 10 rfl rfl)
theorem dX3_fills_57 : decode cX3_fills 57 = .ok (.iload 5, 2) := dk_21 5 (dk_at dksX3_fills_2 11 rfl rfl)
theorem dX3_fills_59 : decode cX3_fills 59 = .ok (.aload_n 0, 1) := dk_42 (dk_at dksX3_fills_2 13 rfl rfl)
theorem dX3_fills_60 : decode cX3_fills 60 = .ok (.aload_n 0, 1) := dk_42 (dk_at dksX3_fills_2 14 rfl rfl)
theorem dX3_fills_61 : decode cX3_fills 61 = .ok (.getfield 9, 3) := dk_180 0 9 (dk_at dksX3_fills_2 15 rfl rfl)
theorem dX3_fills_64 : decode cX3_fills 64 = .ok (.invokevirtual 202, 3) := dk_182 0 202 (dk_at dksX3_fills_2 18 rfl rfl)
theorem dX3_fills_67 : decode cX3_fills 67 = .ok (.ixor, 1) := dk_130 (dk_at dksX3_fills_2 21 rfl rfl)
theorem dX3_fills_68 : decode cX3_fills 68 = .ok (.iload_n 2, 1) := dk_28 (dk_at dksX3_fills_2 22 rfl rfl)
theorem dX3_fills_69 : decode cX3_fills 69 = .ok (.invokevirtual 296, 3) := dk_182 1 40 (dk_at dksX3_fills_3 0 rfl rfl)
theorem dX3_fills_72 : decode cX3_fills 72 = .ok (.aload_n 0, 1) := dk_42 (dk_at dksX3_fills_3 3 rfl rfl)
theorem dX3_fills_73 : decode cX3_fills 73 = .ok (.aload_n 0, 1) := dk_42 (dk_at dksX3_fills_3 4 rfl rfl)
theorem dX3_fills_74 : decode cX3_fills 74 = .ok (.getfield 48, 3) := dk_180 0 48 (dk_at dksX3_fills_3 5 rfl rfl)
theorem dX3_fills_77 : decode cX3_fills 77 = .ok (.iconst 0, 1) := dk_3 (dk_at dksX3_fills_3 8 rfl rfl)
theorem dX3_fills_78 : decode cX3_fills 78 = .ok (.invokevirtual 227, 3) := dk_182 0 227 (dk_at dksX3_fills_3 9 rfl rfl)
theorem dX3_fills_81 : decode cX3_fills 81 = .ok (.iload 4, 2) := dk_21 4 (dk_at dksX3_fills_3 12 rfl rfl)
theorem dX3_fills_83 : decode cX3_fills 83 = .ok (.if_icmp .gt 6, 3) := dk_163 0 6 (dk_at dksX3_fills_3 14 rfl rfl)
theorem dX3_fills_86 : decode cX3_fills 86 = .ok (.goto 17, 3) := dk_167 0 17 (dk_at dksX3_fills_3 17 rfl rfl)
theorem dX3_fills_89 : decode cX3_fills 89 = .ok (.iload 5, 2) := dk_21 5 (dk_at dksX3_fills_3 20 rfl rfl)
theorem dX3_fills_91 : decode cX3_fills 91 = .ok (.istore_n 3, 1) := dk_62 (dk_at dksX3_fills_3 22 rfl rfl)
theorem dX3_fills_92 : decode cX3_fills 92 = .ok (.aload_n 0, 1) := dk_42 (dk_at dksX3_fills_3 23 rfl rfl)
theorem dX3_fills_93 : decode cX3_fills 93 = .ok (.aload_n 0, 1) := dk_42 (dk_at dksX3_fills_4 0 rfl rfl)
theorem dX3_fills_94 : decode cX3_fills 94 = .ok (.getfield 48, 3) := dk_180 0 48 (dk_at dksX3_fills_4 1 rfl rfl)
theorem dX3_fills_97 : decode cX3_fills 97 = .ok (.iconst 0, 1) := dk_3 (dk_at dksX3_fills_4 4 rfl rfl)
theorem dX3_fills_98 : decode cX3_fills 98 = .ok (.invokevirtual 227, 3) := dk_182 0 227 (dk_at dksX3_fills_4 5 rfl rfl)
theorem dX3_fills_101 : decode cX3_fills 101 = .ok (.istore 4, 2) := dk_54 4 (dk_at dksX3_fills_4 8 rfl rfl)
theorem dX3_fills_103 : decode cX3_fills 103 = .ok (.iinc 5 1, 3) := dk_132 5 1 (dk_at dksX3_fills_4 10 rfl rfl)
theorem dX3_fills_106 : decode cX3_fills 106 = .ok (.goto (-71), 3) := dk_167 255 185 (dk_at dksX3_fills_4 13 rfl rfl)
theorem dX3_fills_109 : decode cX3_fills 109 = .ok (.iload_n 3, 1) := dk_29 (dk_at dksX3_fills_4 16 rfl rfl)
theorem dX3_fills_110 : decode cX3_fills 110 = .ok (.iconst (-1), 1) := dk_2 (dk_at dksX3_fills_4 17 rfl rfl)
theorem dX3_fills_111 : decode cX3_fills 111 = .ok (.if_icmp .ne 6, 3) := dk_160 0 6 (dk_at dksX3_fills_4 18 rfl rfl)
theorem dX3_fills_114 : decode cX3_fills 114 = .ok (.bipush (-2), 2) := dk_16 254 (dk_at dksX3_fills_4 21 rfl rfl)
theorem dX3_fills_116 : decode cX3_fills 116 = .ok (.ireturn, 1) := dk_172 (dk_at dksX3_fills_4 23 rfl rfl)
theorem dX3_fills_117 : decode cX3_fills 117 = .ok (.aload_n 0, 1) := dk_42 (dk_at dksX3_fills_5 0 rfl rfl)
theorem dX3_fills_118 : decode cX3_fills 118 = .ok (.iconst 0, 1) := dk_3 (dk_at dksX3_fills_5 1 rfl rfl)
theorem dX3_fills_119 : decode cX3_fills 119 = .ok (.putfield 98, 3) := dk_181 0 98 (dk_at dksX3_fills_5 2 rfl rfl)
theorem dX3_fills_122 : decode cX3_fills 122 = .ok (.aload_n 0, 1) := dk_42 (dk_at dksX3_fills_5 5 rfl rfl)
theorem dX3_fills_123 : decode cX3_fills 123 = .ok (.iload_n 3, 1) := dk_29 (dk_at dksX3_fills_5 6 rfl rfl)
theorem dX3_fills_124 : decode cX3_fills 124 = .ok (.i2l, 1) := dk_133 (dk_at dksX3_fills_5 7 rfl rfl)
theorem dX3_fills_125 : decode cX3_fills 125 = .ok (.invokevirtual 248, 3) := dk_182 0 248 (dk_at dksX3_fills_5 8 rfl rfl)
theorem dX3_fills_128 : decode cX3_fills 128 = .ok (.iload 4, 2) := dk_21 4 (dk_at dksX3_fills_5 11 rfl rfl)
theorem dX3_fills_130 : decode cX3_fills 130 = .ok (.ireturn, 1) := dk_172 (dk_at dksX3_fills_5 13 rfl rfl)
abbrev cX3_needs : ByteArray := prog_9_method_76_code
def yX3_needs : MethodName := ⟨RX3, "needs", "(III)I"⟩
def dkwX3_needs_5 : List UInt8 := [16, 254, 172]
abbrev dktX3_needs_5 : List UInt8 := dkwX3_needs_5 ++ []
def dkwX3_needs_4 : List UInt8 := [181, 0, 98, 42, 42, 180, 0, 48, 27, 46, 133, 182, 0, 248, 21, 4, 172, 132, 4, 1, 167, 255, 182]
abbrev dktX3_needs_4 : List UInt8 := dkwX3_needs_4 ++ dktX3_needs_5
def dkwX3_needs_3 : List UInt8 := [180, 0, 48, 29, 182, 0, 244, 42, 180, 0, 48, 27, 46, 28, 162, 0, 6, 167, 0, 22, 42, 3]
abbrev dktX3_needs_3 : List UInt8 := dkwX3_needs_3 ++ dktX3_needs_4
def dkwX3_needs_2 : List UInt8 := [180, 0, 9, 42, 180, 0, 48, 3, 184, 0, 230, 42, 180, 0, 48, 16, 18, 27, 96, 21, 4, 79, 42, 42]
abbrev dktX3_needs_2 : List UInt8 := dkwX3_needs_2 ++ dktX3_needs_3
def dkwX3_needs_1 : List UInt8 := [3, 16, 60, 184, 0, 104, 154, 0, 5, 2, 172, 3, 54, 4, 21, 4, 16, 9, 163, 0, 73, 42]
abbrev dktX3_needs_1 : List UInt8 := dkwX3_needs_1 ++ dktX3_needs_2
def dkwX3_needs_0 : List UInt8 := [42, 3, 181, 0, 95, 42, 27, 182, 0, 108, 153, 0, 23, 28, 3, 16, 99, 184, 0, 104, 153, 0, 13, 29]
abbrev dktX3_needs_0 : List UInt8 := dkwX3_needs_0 ++ dktX3_needs_1
theorem dksX3_needs_0 : cX3_needs.data.toList.drop 0 = dktX3_needs_0 := by decide +kernel
theorem dksX3_needs_1 : cX3_needs.data.toList.drop 24 = dktX3_needs_1 := dk_seg dksX3_needs_0 24 rfl rfl
theorem dksX3_needs_2 : cX3_needs.data.toList.drop 46 = dktX3_needs_2 := dk_seg dksX3_needs_1 22 rfl rfl
theorem dksX3_needs_3 : cX3_needs.data.toList.drop 70 = dktX3_needs_3 := dk_seg dksX3_needs_2 24 rfl rfl
theorem dksX3_needs_4 : cX3_needs.data.toList.drop 92 = dktX3_needs_4 := dk_seg dksX3_needs_3 22 rfl rfl
theorem dksX3_needs_5 : cX3_needs.data.toList.drop 115 = dktX3_needs_5 := dk_seg dksX3_needs_4 23 rfl rfl
theorem dX3_needs_0 : decode cX3_needs 0 = .ok (.aload_n 0, 1) := dk_42 (dk_at dksX3_needs_0 0 rfl rfl)
theorem dX3_needs_1 : decode cX3_needs 1 = .ok (.iconst 0, 1) := dk_3 (dk_at dksX3_needs_0 1 rfl rfl)
theorem dX3_needs_2 : decode cX3_needs 2 = .ok (.putfield 95, 3) := dk_181 0 95 (dk_at dksX3_needs_0 2 rfl rfl)
theorem dX3_needs_5 : decode cX3_needs 5 = .ok (.aload_n 0, 1) := dk_42 (dk_at dksX3_needs_0 5 rfl rfl)
theorem dX3_needs_6 : decode cX3_needs 6 = .ok (.iload_n 1, 1) := dk_27 (dk_at dksX3_needs_0 6 rfl rfl)
theorem dX3_needs_7 : decode cX3_needs 7 = .ok (.invokevirtual 108, 3) := dk_182 0 108 (dk_at dksX3_needs_0 7 rfl rfl)
theorem dX3_needs_10 : decode cX3_needs 10 = .ok (.ifCond .eq 23, 3) := dk_153 0 23 (dk_at dksX3_needs_0 10 rfl rfl)
theorem dX3_needs_13 : decode cX3_needs 13 = .ok (.iload_n 2, 1) := dk_28 (dk_at dksX3_needs_0 13 rfl rfl)
theorem dX3_needs_14 : decode cX3_needs 14 = .ok (.iconst 0, 1) := dk_3 (dk_at dksX3_needs_0 14 rfl rfl)
theorem dX3_needs_15 : decode cX3_needs 15 = .ok (.bipush 99, 2) := dk_16 99 (dk_at dksX3_needs_0 15 rfl rfl)
theorem dX3_needs_17 : decode cX3_needs 17 = .ok (.invokestatic 104, 3) := dk_184 0 104 (dk_at dksX3_needs_0 17 rfl rfl)
theorem dX3_needs_20 : decode cX3_needs 20 = .ok (.ifCond .eq 13, 3) := dk_153 0 13 (dk_at dksX3_needs_0 20 rfl rfl)
theorem dX3_needs_23 : decode cX3_needs 23 = .ok (.iload_n 3, 1) := dk_29 (dk_at dksX3_needs_0 23 rfl rfl)
theorem dX3_needs_24 : decode cX3_needs 24 = .ok (.iconst 0, 1) := dk_3 (dk_at dksX3_needs_1 0 rfl rfl)
theorem dX3_needs_25 : decode cX3_needs 25 = .ok (.bipush 60, 2) := dk_16 60 (dk_at dksX3_needs_1 1 rfl rfl)
theorem dX3_needs_27 : decode cX3_needs 27 = .ok (.invokestatic 104, 3) := dk_184 0 104 (dk_at dksX3_needs_1 3 rfl rfl)
theorem dX3_needs_30 : decode cX3_needs 30 = .ok (.ifCond .ne 5, 3) := dk_154 0 5 (dk_at dksX3_needs_1 6 rfl rfl)
theorem dX3_needs_33 : decode cX3_needs 33 = .ok (.iconst (-1), 1) := dk_2 (dk_at dksX3_needs_1 9 rfl rfl)
theorem dX3_needs_34 : decode cX3_needs 34 = .ok (.ireturn, 1) := dk_172 (dk_at dksX3_needs_1 10 rfl rfl)
theorem dX3_needs_35 : decode cX3_needs 35 = .ok (.iconst 0, 1) := dk_3 (dk_at dksX3_needs_1 11 rfl rfl)
theorem dX3_needs_36 : decode cX3_needs 36 = .ok (.istore 4, 2) := dk_54 4 (dk_at dksX3_needs_1 12 rfl rfl)
theorem dX3_needs_38 : decode cX3_needs 38 = .ok (.iload 4, 2) := dk_21 4 (dk_at dksX3_needs_1 14 rfl rfl)
theorem dX3_needs_40 : decode cX3_needs 40 = .ok (.bipush 9, 2) := dk_16 9 (dk_at dksX3_needs_1 16 rfl rfl)
theorem dX3_needs_42 : decode cX3_needs 42 = .ok (.if_icmp .gt 73, 3) := dk_163 0 73 (dk_at dksX3_needs_1 18 rfl rfl)
theorem dX3_needs_45 : decode cX3_needs 45 = .ok (.aload_n 0, 1) := dk_42 (dk_at dksX3_needs_1 21 rfl rfl)
theorem dX3_needs_46 : decode cX3_needs 46 = .ok (.getfield 9, 3) := dk_180 0 9 (dk_at dksX3_needs_2 0 rfl rfl)
theorem dX3_needs_49 : decode cX3_needs 49 = .ok (.aload_n 0, 1) := dk_42 (dk_at dksX3_needs_2 3 rfl rfl)
theorem dX3_needs_50 : decode cX3_needs 50 = .ok (.getfield 48, 3) := dk_180 0 48 (dk_at dksX3_needs_2 4 rfl rfl)
theorem dX3_needs_53 : decode cX3_needs 53 = .ok (.iconst 0, 1) := dk_3 (dk_at dksX3_needs_2 7 rfl rfl)
theorem dX3_needs_54 : decode cX3_needs 54 = .ok (.invokestatic 230, 3) := dk_184 0 230 (dk_at dksX3_needs_2 8 rfl rfl)
theorem dX3_needs_57 : decode cX3_needs 57 = .ok (.aload_n 0, 1) := dk_42 (dk_at dksX3_needs_2 11 rfl rfl)
theorem dX3_needs_58 : decode cX3_needs 58 = .ok (.getfield 48, 3) := dk_180 0 48 (dk_at dksX3_needs_2 12 rfl rfl)
theorem dX3_needs_61 : decode cX3_needs 61 = .ok (.bipush 18, 2) := dk_16 18 (dk_at dksX3_needs_2 15 rfl rfl)
theorem dX3_needs_63 : decode cX3_needs 63 = .ok (.iload_n 1, 1) := dk_27 (dk_at dksX3_needs_2 17 rfl rfl)
theorem dX3_needs_64 : decode cX3_needs 64 = .ok (.iadd, 1) := dk_96 (dk_at dksX3_needs_2 18 rfl rfl)
theorem dX3_needs_65 : decode cX3_needs 65 = .ok (.iload 4, 2) := dk_21 4 (dk_at dksX3_needs_2 19 rfl rfl)
theorem dX3_needs_67 : decode cX3_needs 67 = .ok (.iastore, 1) := dk_79 (dk_at dksX3_needs_2 21 rfl rfl)
theorem dX3_needs_68 : decode cX3_needs 68 = .ok (.aload_n 0, 1) := dk_42 (dk_at dksX3_needs_2 22 rfl rfl)
theorem dX3_needs_69 : decode cX3_needs 69 = .ok (.aload_n 0, 1) := dk_42 (dk_at dksX3_needs_2 23 rfl rfl)
theorem dX3_needs_70 : decode cX3_needs 70 = .ok (.getfield 48, 3) := dk_180 0 48 (dk_at dksX3_needs_3 0 rfl rfl)
theorem dX3_needs_73 : decode cX3_needs 73 = .ok (.iload_n 3, 1) := dk_29 (dk_at dksX3_needs_3 3 rfl rfl)
theorem dX3_needs_74 : decode cX3_needs 74 = .ok (.invokevirtual 244, 3) := dk_182 0 244 (dk_at dksX3_needs_3 4 rfl rfl)
theorem dX3_needs_77 : decode cX3_needs 77 = .ok (.aload_n 0, 1) := dk_42 (dk_at dksX3_needs_3 7 rfl rfl)
theorem dX3_needs_78 : decode cX3_needs 78 = .ok (.getfield 48, 3) := dk_180 0 48 (dk_at dksX3_needs_3 8 rfl rfl)
theorem dX3_needs_81 : decode cX3_needs 81 = .ok (.iload_n 1, 1) := dk_27 (dk_at dksX3_needs_3 11 rfl rfl)
theorem dX3_needs_82 : decode cX3_needs 82 = .ok (.iaload, 1) := dk_46 (dk_at dksX3_needs_3 12 rfl rfl)
theorem dX3_needs_83 : decode cX3_needs 83 = .ok (.iload_n 2, 1) := dk_28 (dk_at dksX3_needs_3 13 rfl rfl)
theorem dX3_needs_84 : decode cX3_needs 84 = .ok (.if_icmp .ge 6, 3) := dk_162 0 6 (dk_at dksX3_needs_3 14 rfl rfl)
theorem dX3_needs_87 : decode cX3_needs 87 = .ok (.goto 22, 3) := dk_167 0 22 (dk_at dksX3_needs_3 17 rfl rfl)
theorem dX3_needs_90 : decode cX3_needs 90 = .ok (.aload_n 0, 1) := dk_42 (dk_at dksX3_needs_3 20 rfl rfl)
theorem dX3_needs_91 : decode cX3_needs 91 = .ok (.iconst 0, 1) := dk_3 (dk_at dksX3_needs_3 21 rfl rfl)
theorem dX3_needs_92 : decode cX3_needs 92 = .ok (.putfield 98, 3) := dk_181 0 98 (dk_at dksX3_needs_4 0 rfl rfl)
theorem dX3_needs_95 : decode cX3_needs 95 = .ok (.aload_n 0, 1) := dk_42 (dk_at dksX3_needs_4 3 rfl rfl)
theorem dX3_needs_96 : decode cX3_needs 96 = .ok (.aload_n 0, 1) := dk_42 (dk_at dksX3_needs_4 4 rfl rfl)
theorem dX3_needs_97 : decode cX3_needs 97 = .ok (.getfield 48, 3) := dk_180 0 48 (dk_at dksX3_needs_4 5 rfl rfl)
theorem dX3_needs_100 : decode cX3_needs 100 = .ok (.iload_n 1, 1) := dk_27 (dk_at dksX3_needs_4 8 rfl rfl)
theorem dX3_needs_101 : decode cX3_needs 101 = .ok (.iaload, 1) := dk_46 (dk_at dksX3_needs_4 9 rfl rfl)
theorem dX3_needs_102 : decode cX3_needs 102 = .ok (.i2l, 1) := dk_133 (dk_at dksX3_needs_4 10 rfl rfl)
theorem dX3_needs_103 : decode cX3_needs 103 = .ok (.invokevirtual 248, 3) := dk_182 0 248 (dk_at dksX3_needs_4 11 rfl rfl)
theorem dX3_needs_106 : decode cX3_needs 106 = .ok (.iload 4, 2) := dk_21 4 (dk_at dksX3_needs_4 14 rfl rfl)
theorem dX3_needs_108 : decode cX3_needs 108 = .ok (.ireturn, 1) := dk_172 (dk_at dksX3_needs_4 16 rfl rfl)
theorem dX3_needs_109 : decode cX3_needs 109 = .ok (.iinc 4 1, 3) := dk_132 4 1 (dk_at dksX3_needs_4 17 rfl rfl)
theorem dX3_needs_112 : decode cX3_needs 112 = .ok (.goto (-74), 3) := dk_167 255 182 (dk_at dksX3_needs_4 20 rfl rfl)
theorem dX3_needs_115 : decode cX3_needs 115 = .ok (.bipush (-2), 2) := dk_16 254 (dk_at dksX3_needs_5 0 rfl rfl)
theorem dX3_needs_117 : decode cX3_needs 117 = .ok (.ireturn, 1) := dk_172 (dk_at dksX3_needs_5 2 rfl rfl)
abbrev cX3_crosses : ByteArray := prog_9_method_77_code
def yX3_crosses : MethodName := ⟨RX3, "crosses", "(I)I"⟩
def dkwX3_crosses_7 : List UInt8 := [133, 182, 0, 248, 28, 172]
abbrev dktX3_crosses_7 : List UInt8 := dkwX3_crosses_7 ++ []
def dkwX3_crosses_6 : List UInt8 := [182, 1, 18, 42, 3, 181, 0, 98, 42, 17, 3, 232, 42, 42, 180, 0, 48, 3, 182, 0, 227, 96, 29, 100]
abbrev dktX3_crosses_6 : List UInt8 := dkwX3_crosses_6 ++ dktX3_crosses_7
def dkwX3_crosses_5 : List UInt8 := [167, 0, 16, 21, 4, 61, 42, 42, 180, 0, 48, 3, 182, 0, 227, 62, 132, 4, 1, 167, 255, 156, 42, 27]
abbrev dktX3_crosses_5 : List UInt8 := dkwX3_crosses_5 ++ dktX3_crosses_6
def dkwX3_crosses_4 : List UInt8 := [79, 42, 42, 180, 0, 48, 27, 182, 0, 244, 42, 42, 180, 0, 48, 3, 182, 0, 227, 29, 161, 0, 6]
abbrev dktX3_crosses_4 : List UInt8 := dkwX3_crosses_4 ++ dktX3_crosses_5
def dkwX3_crosses_3 : List UInt8 := [42, 180, 0, 48, 16, 6, 21, 4, 96, 4, 79, 167, 0, 14, 42, 180, 0, 48, 16, 12, 21, 4, 96, 3]
abbrev dktX3_crosses_3 : List UInt8 := dkwX3_crosses_3 ++ dktX3_crosses_4
def dkwX3_crosses_2 : List UInt8 := [180, 0, 9, 42, 180, 0, 48, 3, 184, 0, 230, 42, 180, 0, 48, 16, 6, 21, 4, 96, 46, 154, 0, 17]
abbrev dktX3_crosses_2 : List UInt8 := dkwX3_crosses_2 ++ dktX3_crosses_3
def dkwX3_crosses_1 : List UInt8 := [16, 254, 172, 2, 61, 19, 1, 51, 62, 3, 54, 4, 21, 4, 42, 180, 0, 101, 162, 0, 97, 42]
abbrev dktX3_crosses_1 : List UInt8 := dkwX3_crosses_1 ++ dktX3_crosses_2
def dkwX3_crosses_0 : List UInt8 := [42, 3, 181, 0, 95, 27, 4, 16, 40, 184, 0, 104, 154, 0, 5, 2, 172, 42, 180, 0, 101, 154, 0, 6]
abbrev dktX3_crosses_0 : List UInt8 := dkwX3_crosses_0 ++ dktX3_crosses_1
theorem dksX3_crosses_0 : cX3_crosses.data.toList.drop 0 = dktX3_crosses_0 := by decide +kernel
theorem dksX3_crosses_1 : cX3_crosses.data.toList.drop 24 = dktX3_crosses_1 := dk_seg dksX3_crosses_0 24 rfl rfl
theorem dksX3_crosses_2 : cX3_crosses.data.toList.drop 46 = dktX3_crosses_2 := dk_seg dksX3_crosses_1 22 rfl rfl
theorem dksX3_crosses_3 : cX3_crosses.data.toList.drop 70 = dktX3_crosses_3 := dk_seg dksX3_crosses_2 24 rfl rfl
theorem dksX3_crosses_4 : cX3_crosses.data.toList.drop 94 = dktX3_crosses_4 := dk_seg dksX3_crosses_3 24 rfl rfl
theorem dksX3_crosses_5 : cX3_crosses.data.toList.drop 117 = dktX3_crosses_5 := dk_seg dksX3_crosses_4 23 rfl rfl
theorem dksX3_crosses_6 : cX3_crosses.data.toList.drop 141 = dktX3_crosses_6 := dk_seg dksX3_crosses_5 24 rfl rfl
theorem dksX3_crosses_7 : cX3_crosses.data.toList.drop 165 = dktX3_crosses_7 := dk_seg dksX3_crosses_6 24 rfl rfl
theorem dX3_crosses_0 : decode cX3_crosses 0 = .ok (.aload_n 0, 1) := dk_42 (dk_at dksX3_crosses_0 0 rfl rfl)
theorem dX3_crosses_1 : decode cX3_crosses 1 = .ok (.iconst 0, 1) := dk_3 (dk_at dksX3_crosses_0 1 rfl rfl)
theorem dX3_crosses_2 : decode cX3_crosses 2 = .ok (.putfield 95, 3) := dk_181 0 95 (dk_at dksX3_crosses_0 2 rfl rfl)
theorem dX3_crosses_5 : decode cX3_crosses 5 = .ok (.iload_n 1, 1) := dk_27 (dk_at dksX3_crosses_0 5 rfl rfl)
theorem dX3_crosses_6 : decode cX3_crosses 6 = .ok (.iconst 1, 1) := dk_4 (dk_at dksX3_crosses_0 6 rfl rfl)
theorem dX3_crosses_7 : decode cX3_crosses 7 = .ok (.bipush 40, 2) := dk_16 40 (dk_at dksX3_crosses_0 7 rfl rfl)
theorem dX3_crosses_9 : decode cX3_crosses 9 = .ok (.invokestatic 104, 3) := dk_184 0 104 (dk_at dksX3_crosses_0 9 rfl rfl)
theorem dX3_crosses_12 : decode cX3_crosses 12 = .ok (.ifCond .ne 5, 3) := dk_154 0 5 (dk_at dksX3_crosses_0 12 rfl rfl)
theorem dX3_crosses_15 : decode cX3_crosses 15 = .ok (.iconst (-1), 1) := dk_2 (dk_at dksX3_crosses_0 15 rfl rfl)
theorem dX3_crosses_16 : decode cX3_crosses 16 = .ok (.ireturn, 1) := dk_172 (dk_at dksX3_crosses_0 16 rfl rfl)
theorem dX3_crosses_17 : decode cX3_crosses 17 = .ok (.aload_n 0, 1) := dk_42 (dk_at dksX3_crosses_0 17 rfl rfl)
theorem dX3_crosses_18 : decode cX3_crosses 18 = .ok (.getfield 101, 3) := dk_180 0 101 (dk_at dksX3_crosses_0 18 rfl rfl)
theorem dX3_crosses_21 : decode cX3_crosses 21 = .ok (.ifCond .ne 6, 3) := dk_154 0 6 (dk_at dksX3_crosses_0 21 rfl rfl)
theorem dX3_crosses_24 : decode cX3_crosses 24 = .ok (.bipush (-2), 2) := dk_16 254 (dk_at dksX3_crosses_1 0 rfl rfl)
theorem dX3_crosses_26 : decode cX3_crosses 26 = .ok (.ireturn, 1) := dk_172 (dk_at dksX3_crosses_1 2 rfl rfl)
theorem dX3_crosses_27 : decode cX3_crosses 27 = .ok (.iconst (-1), 1) := dk_2 (dk_at dksX3_crosses_1 3 rfl rfl)
theorem dX3_crosses_28 : decode cX3_crosses 28 = .ok (.istore_n 2, 1) := dk_61 (dk_at dksX3_crosses_1 4 rfl rfl)
theorem dX3_crosses_29 : decode cX3_crosses 29 = .ok (.ldc_w 307, 3) := dk_19 1 51 (dk_at dksX3_crosses_1 5 rfl rfl)
theorem dX3_crosses_32 : decode cX3_crosses 32 = .ok (.istore_n 3, 1) := dk_62 (dk_at dksX3_crosses_1 8 rfl rfl)
theorem dX3_crosses_33 : decode cX3_crosses 33 = .ok (.iconst 0, 1) := dk_3 (dk_at dksX3_crosses_1 9 rfl rfl)
theorem dX3_crosses_34 : decode cX3_crosses 34 = .ok (.istore 4, 2) := dk_54 4 (dk_at dksX3_crosses_1 10 rfl rfl)
theorem dX3_crosses_36 : decode cX3_crosses 36 = .ok (.iload 4, 2) := dk_21 4 (dk_at dksX3_crosses_1 12 rfl rfl)
theorem dX3_crosses_38 : decode cX3_crosses 38 = .ok (.aload_n 0, 1) := dk_42 (dk_at dksX3_crosses_1 14 rfl rfl)
theorem dX3_crosses_39 : decode cX3_crosses 39 = .ok (.getfield 101, 3) := dk_180 0 101 (dk_at dksX3_crosses_1 15 rfl rfl)
theorem dX3_crosses_42 : decode cX3_crosses 42 = .ok (.if_icmp .ge 97, 3) := dk_162 0 97 (dk_at dksX3_crosses_1 18 rfl rfl)
theorem dX3_crosses_45 : decode cX3_crosses 45 = .ok (.aload_n 0, 1) := dk_42 (dk_at dksX3_crosses_1 21 rfl rfl)
theorem dX3_crosses_46 : decode cX3_crosses 46 = .ok (.getfield 9, 3) := dk_180 0 9 (dk_at dksX3_crosses_2 0 rfl rfl)
theorem dX3_crosses_49 : decode cX3_crosses 49 = .ok (.aload_n 0, 1) := dk_42 (dk_at dksX3_crosses_2 3 rfl rfl)
theorem dX3_crosses_50 : decode cX3_crosses 50 = .ok (.getfield 48, 3) := dk_180 0 48 (dk_at dksX3_crosses_2 4 rfl rfl)
theorem dX3_crosses_53 : decode cX3_crosses 53 = .ok (.iconst 0, 1) := dk_3 (dk_at dksX3_crosses_2 7 rfl rfl)
theorem dX3_crosses_54 : decode cX3_crosses 54 = .ok (.invokestatic 230, 3) := dk_184 0 230 (dk_at dksX3_crosses_2 8 rfl rfl)
theorem dX3_crosses_57 : decode cX3_crosses 57 = .ok (.aload_n 0, 1) := dk_42 (dk_at dksX3_crosses_2 11 rfl rfl)
theorem dX3_crosses_58 : decode cX3_crosses 58 = .ok (.getfield 48, 3) := dk_180 0 48 (dk_at dksX3_crosses_2 12 rfl rfl)
theorem dX3_crosses_61 : decode cX3_crosses 61 = .ok (.bipush 6, 2) := dk_16 6 (dk_at dksX3_crosses_2 15 rfl rfl)
theorem dX3_crosses_63 : decode cX3_crosses 63 = .ok (.iload 4, 2) := dk_21 4 (dk_at dksX3_crosses_2 17 rfl rfl)
theorem dX3_crosses_65 : decode cX3_crosses 65 = .ok (.iadd, 1) := dk_96 (dk_at dksX3_crosses_2 19 rfl rfl)
theorem dX3_crosses_66 : decode cX3_crosses 66 = .ok (.iaload, 1) := dk_46 (dk_at dksX3_crosses_2 20 rfl rfl)
theorem dX3_crosses_67 : decode cX3_crosses 67 = .ok (.ifCond .ne 17, 3) := dk_154 0 17 (dk_at dksX3_crosses_2 21 rfl rfl)
theorem dX3_crosses_70 : decode cX3_crosses 70 = .ok (.aload_n 0, 1) := dk_42 (dk_at dksX3_crosses_3 0 rfl rfl)
theorem dX3_crosses_71 : decode cX3_crosses 71 = .ok (.getfield 48, 3) := dk_180 0 48 (dk_at dksX3_crosses_3 1 rfl rfl)
theorem dX3_crosses_74 : decode cX3_crosses 74 = .ok (.bipush 6, 2) := dk_16 6 (dk_at dksX3_crosses_3 4 rfl rfl)
theorem dX3_crosses_76 : decode cX3_crosses 76 = .ok (.iload 4, 2) := dk_21 4 (dk_at dksX3_crosses_3 6 rfl rfl)
theorem dX3_crosses_78 : decode cX3_crosses 78 = .ok (.iadd, 1) := dk_96 (dk_at dksX3_crosses_3 8 rfl rfl)
theorem dX3_crosses_79 : decode cX3_crosses 79 = .ok (.iconst 1, 1) := dk_4 (dk_at dksX3_crosses_3 9 rfl rfl)
theorem dX3_crosses_80 : decode cX3_crosses 80 = .ok (.iastore, 1) := dk_79 (dk_at dksX3_crosses_3 10 rfl rfl)
theorem dX3_crosses_81 : decode cX3_crosses 81 = .ok (.goto 14, 3) := dk_167 0 14 (dk_at dksX3_crosses_3 11 rfl rfl)
theorem dX3_crosses_84 : decode cX3_crosses 84 = .ok (.aload_n 0, 1) := dk_42 (dk_at dksX3_crosses_3 14 rfl rfl)
theorem dX3_crosses_85 : decode cX3_crosses 85 = .ok (.getfield 48, 3) := dk_180 0 48 (dk_at dksX3_crosses_3 15 rfl rfl)
theorem dX3_crosses_88 : decode cX3_crosses 88 = .ok (.bipush 12, 2) := dk_16 12 (dk_at dksX3_crosses_3 18 rfl rfl)
theorem dX3_crosses_90 : decode cX3_crosses 90 = .ok (.iload 4, 2) := dk_21 4 (dk_at dksX3_crosses_3 20 rfl rfl)
theorem dX3_crosses_92 : decode cX3_crosses 92 = .ok (.iadd, 1) := dk_96 (dk_at dksX3_crosses_3 22 rfl rfl)
theorem dX3_crosses_93 : decode cX3_crosses 93 = .ok (.iconst 0, 1) := dk_3 (dk_at dksX3_crosses_3 23 rfl rfl)
theorem dX3_crosses_94 : decode cX3_crosses 94 = .ok (.iastore, 1) := dk_79 (dk_at dksX3_crosses_4 0 rfl rfl)
theorem dX3_crosses_95 : decode cX3_crosses 95 = .ok (.aload_n 0, 1) := dk_42 (dk_at dksX3_crosses_4 1 rfl rfl)
theorem dX3_crosses_96 : decode cX3_crosses 96 = .ok (.aload_n 0, 1) := dk_42 (dk_at dksX3_crosses_4 2 rfl rfl)
theorem dX3_crosses_97 : decode cX3_crosses 97 = .ok (.getfield 48, 3) := dk_180 0 48 (dk_at dksX3_crosses_4 3 rfl rfl)
theorem dX3_crosses_100 : decode cX3_crosses 100 = .ok (.iload_n 1, 1) := dk_27 (dk_at dksX3_crosses_4 6 rfl rfl)
theorem dX3_crosses_101 : decode cX3_crosses 101 = .ok (.invokevirtual 244, 3) := dk_182 0 244 (dk_at dksX3_crosses_4 7 rfl rfl)
theorem dX3_crosses_104 : decode cX3_crosses 104 = .ok (.aload_n 0, 1) := dk_42 (dk_at dksX3_crosses_4 10 rfl rfl)
theorem dX3_crosses_105 : decode cX3_crosses 105 = .ok (.aload_n 0, 1) := dk_42 (dk_at dksX3_crosses_4 11 rfl rfl)
theorem dX3_crosses_106 : decode cX3_crosses 106 = .ok (.getfield 48, 3) := dk_180 0 48 (dk_at dksX3_crosses_4 12 rfl rfl)
theorem dX3_crosses_109 : decode cX3_crosses 109 = .ok (.iconst 0, 1) := dk_3 (dk_at dksX3_crosses_4 15 rfl rfl)
theorem dX3_crosses_110 : decode cX3_crosses 110 = .ok (.invokevirtual 227, 3) := dk_182 0 227 (dk_at dksX3_crosses_4 16 rfl rfl)
theorem dX3_crosses_113 : decode cX3_crosses 113 = .ok (.iload_n 3, 1) := dk_29 (dk_at dksX3_crosses_4 19 rfl rfl)
theorem dX3_crosses_114 : decode cX3_crosses 114 = .ok (.if_icmp .lt 6, 3) := dk_161 0 6 (dk_at dksX3_crosses_4 20 rfl rfl)
theorem dX3_crosses_117 : decode cX3_crosses 117 = .ok (.goto 16, 3) := dk_167 0 16 (dk_at dksX3_crosses_5 0 rfl rfl)
theorem dX3_crosses_120 : decode cX3_crosses 120 = .ok (.iload 4, 2) := dk_21 4 (dk_at dksX3_crosses_5 3 rfl rfl)
theorem dX3_crosses_122 : decode cX3_crosses 122 = .ok (.istore_n 2, 1) := dk_61 (dk_at dksX3_crosses_5 5 rfl rfl)
theorem dX3_crosses_123 : decode cX3_crosses 123 = .ok (.aload_n 0, 1) := dk_42 (dk_at dksX3_crosses_5 6 rfl rfl)
theorem dX3_crosses_124 : decode cX3_crosses 124 = .ok (.aload_n 0, 1) := dk_42 (dk_at dksX3_crosses_5 7 rfl rfl)
theorem dX3_crosses_125 : decode cX3_crosses 125 = .ok (.getfield 48, 3) := dk_180 0 48 (dk_at dksX3_crosses_5 8 rfl rfl)
theorem dX3_crosses_128 : decode cX3_crosses 128 = .ok (.iconst 0, 1) := dk_3 (dk_at dksX3_crosses_5 11 rfl rfl)
theorem dX3_crosses_129 : decode cX3_crosses 129 = .ok (.invokevirtual 227, 3) := dk_182 0 227 (dk_at dksX3_crosses_5 12 rfl rfl)
theorem dX3_crosses_132 : decode cX3_crosses 132 = .ok (.istore_n 3, 1) := dk_62 (dk_at dksX3_crosses_5 15 rfl rfl)
theorem dX3_crosses_133 : decode cX3_crosses 133 = .ok (.iinc 4 1, 3) := dk_132 4 1 (dk_at dksX3_crosses_5 16 rfl rfl)
theorem dX3_crosses_136 : decode cX3_crosses 136 = .ok (.goto (-100), 3) := dk_167 255 156 (dk_at dksX3_crosses_5 19 rfl rfl)
theorem dX3_crosses_139 : decode cX3_crosses 139 = .ok (.aload_n 0, 1) := dk_42 (dk_at dksX3_crosses_5 22 rfl rfl)
theorem dX3_crosses_140 : decode cX3_crosses 140 = .ok (.iload_n 1, 1) := dk_27 (dk_at dksX3_crosses_5 23 rfl rfl)
theorem dX3_crosses_141 : decode cX3_crosses 141 = .ok (.invokevirtual 274, 3) := dk_182 1 18 (dk_at dksX3_crosses_6 0 rfl rfl)
theorem dX3_crosses_144 : decode cX3_crosses 144 = .ok (.aload_n 0, 1) := dk_42 (dk_at dksX3_crosses_6 3 rfl rfl)
theorem dX3_crosses_145 : decode cX3_crosses 145 = .ok (.iconst 0, 1) := dk_3 (dk_at dksX3_crosses_6 4 rfl rfl)
theorem dX3_crosses_146 : decode cX3_crosses 146 = .ok (.putfield 98, 3) := dk_181 0 98 (dk_at dksX3_crosses_6 5 rfl rfl)
theorem dX3_crosses_149 : decode cX3_crosses 149 = .ok (.aload_n 0, 1) := dk_42 (dk_at dksX3_crosses_6 8 rfl rfl)
theorem dX3_crosses_150 : decode cX3_crosses 150 = .ok (.sipush 1000, 3) := dk_17 3 232 (dk_at dksX3_crosses_6 9 rfl rfl)
theorem dX3_crosses_153 : decode cX3_crosses 153 = .ok (.aload_n 0, 1) := dk_42 (dk_at dksX3_crosses_6 12 rfl rfl)
theorem dX3_crosses_154 : decode cX3_crosses 154 = .ok (.aload_n 0, 1) := dk_42 (dk_at dksX3_crosses_6 13 rfl rfl)
theorem dX3_crosses_155 : decode cX3_crosses 155 = .ok (.getfield 48, 3) := dk_180 0 48 (dk_at dksX3_crosses_6 14 rfl rfl)
theorem dX3_crosses_158 : decode cX3_crosses 158 = .ok (.iconst 0, 1) := dk_3 (dk_at dksX3_crosses_6 17 rfl rfl)
theorem dX3_crosses_159 : decode cX3_crosses 159 = .ok (.invokevirtual 227, 3) := dk_182 0 227 (dk_at dksX3_crosses_6 18 rfl rfl)
theorem dX3_crosses_162 : decode cX3_crosses 162 = .ok (.iadd, 1) := dk_96 (dk_at dksX3_crosses_6 21 rfl rfl)
theorem dX3_crosses_163 : decode cX3_crosses 163 = .ok (.iload_n 3, 1) := dk_29 (dk_at dksX3_crosses_6 22 rfl rfl)
theorem dX3_crosses_164 : decode cX3_crosses 164 = .ok (.isub, 1) := dk_100 (dk_at dksX3_crosses_6 23 rfl rfl)
theorem dX3_crosses_165 : decode cX3_crosses 165 = .ok (.i2l, 1) := dk_133 (dk_at dksX3_crosses_7 0 rfl rfl)
theorem dX3_crosses_166 : decode cX3_crosses 166 = .ok (.invokevirtual 248, 3) := dk_182 0 248 (dk_at dksX3_crosses_7 1 rfl rfl)
theorem dX3_crosses_169 : decode cX3_crosses 169 = .ok (.iload_n 2, 1) := dk_28 (dk_at dksX3_crosses_7 4 rfl rfl)
theorem dX3_crosses_170 : decode cX3_crosses 170 = .ok (.ireturn, 1) := dk_172 (dk_at dksX3_crosses_7 5 rfl rfl)
abbrev cX3_ring : ByteArray := prog_9_method_78_code
def yX3_ring : MethodName := ⟨RX3, "ring", "(III)I"⟩
def dkwX3_ring_3 : List UInt8 := [29, 79, 42, 89, 180, 1, 52, 4, 96, 181, 1, 52, 42, 180, 1, 52, 172]
abbrev dktX3_ring_3 : List UInt8 := dkwX3_ring_3 ++ []
def dkwX3_ring_2 : List UInt8 := [42, 180, 1, 52, 27, 79, 42, 180, 0, 67, 42, 180, 1, 52, 28, 79, 42, 180, 0, 70, 42, 180, 1, 52]
abbrev dktX3_ring_2 : List UInt8 := dkwX3_ring_2 ++ dktX3_ring_3
def dkwX3_ring_1 : List UInt8 := [3, 16, 99, 184, 0, 104, 153, 0, 12, 42, 180, 1, 52, 16, 10, 160, 0, 5, 2, 172, 42, 180, 0, 64]
abbrev dktX3_ring_1 : List UInt8 := dkwX3_ring_1 ++ dktX3_ring_2
def dkwX3_ring_0 : List UInt8 := [42, 3, 181, 0, 95, 42, 27, 182, 0, 108, 153, 0, 32, 28, 3, 16, 20, 184, 0, 104, 153, 0, 22, 29]
abbrev dktX3_ring_0 : List UInt8 := dkwX3_ring_0 ++ dktX3_ring_1
theorem dksX3_ring_0 : cX3_ring.data.toList.drop 0 = dktX3_ring_0 := by decide +kernel
theorem dksX3_ring_1 : cX3_ring.data.toList.drop 24 = dktX3_ring_1 := dk_seg dksX3_ring_0 24 rfl rfl
theorem dksX3_ring_2 : cX3_ring.data.toList.drop 48 = dktX3_ring_2 := dk_seg dksX3_ring_1 24 rfl rfl
theorem dksX3_ring_3 : cX3_ring.data.toList.drop 72 = dktX3_ring_3 := dk_seg dksX3_ring_2 24 rfl rfl
theorem dX3_ring_0 : decode cX3_ring 0 = .ok (.aload_n 0, 1) := dk_42 (dk_at dksX3_ring_0 0 rfl rfl)
theorem dX3_ring_1 : decode cX3_ring 1 = .ok (.iconst 0, 1) := dk_3 (dk_at dksX3_ring_0 1 rfl rfl)
theorem dX3_ring_2 : decode cX3_ring 2 = .ok (.putfield 95, 3) := dk_181 0 95 (dk_at dksX3_ring_0 2 rfl rfl)
theorem dX3_ring_5 : decode cX3_ring 5 = .ok (.aload_n 0, 1) := dk_42 (dk_at dksX3_ring_0 5 rfl rfl)
theorem dX3_ring_6 : decode cX3_ring 6 = .ok (.iload_n 1, 1) := dk_27 (dk_at dksX3_ring_0 6 rfl rfl)
theorem dX3_ring_7 : decode cX3_ring 7 = .ok (.invokevirtual 108, 3) := dk_182 0 108 (dk_at dksX3_ring_0 7 rfl rfl)
theorem dX3_ring_10 : decode cX3_ring 10 = .ok (.ifCond .eq 32, 3) := dk_153 0 32 (dk_at dksX3_ring_0 10 rfl rfl)
theorem dX3_ring_13 : decode cX3_ring 13 = .ok (.iload_n 2, 1) := dk_28 (dk_at dksX3_ring_0 13 rfl rfl)
theorem dX3_ring_14 : decode cX3_ring 14 = .ok (.iconst 0, 1) := dk_3 (dk_at dksX3_ring_0 14 rfl rfl)
theorem dX3_ring_15 : decode cX3_ring 15 = .ok (.bipush 20, 2) := dk_16 20 (dk_at dksX3_ring_0 15 rfl rfl)
theorem dX3_ring_17 : decode cX3_ring 17 = .ok (.invokestatic 104, 3) := dk_184 0 104 (dk_at dksX3_ring_0 17 rfl rfl)
theorem dX3_ring_20 : decode cX3_ring 20 = .ok (.ifCond .eq 22, 3) := dk_153 0 22 (dk_at dksX3_ring_0 20 rfl rfl)
theorem dX3_ring_23 : decode cX3_ring 23 = .ok (.iload_n 3, 1) := dk_29 (dk_at dksX3_ring_0 23 rfl rfl)
theorem dX3_ring_24 : decode cX3_ring 24 = .ok (.iconst 0, 1) := dk_3 (dk_at dksX3_ring_1 0 rfl rfl)
theorem dX3_ring_25 : decode cX3_ring 25 = .ok (.bipush 99, 2) := dk_16 99 (dk_at dksX3_ring_1 1 rfl rfl)
theorem dX3_ring_27 : decode cX3_ring 27 = .ok (.invokestatic 104, 3) := dk_184 0 104 (dk_at dksX3_ring_1 3 rfl rfl)
theorem dX3_ring_30 : decode cX3_ring 30 = .ok (.ifCond .eq 12, 3) := dk_153 0 12 (dk_at dksX3_ring_1 6 rfl rfl)
theorem dX3_ring_33 : decode cX3_ring 33 = .ok (.aload_n 0, 1) := dk_42 (dk_at dksX3_ring_1 9 rfl rfl)
theorem dX3_ring_34 : decode cX3_ring 34 = .ok (.getfield 308, 3) := dk_180 1 52 (dk_at dksX3_ring_1 10 rfl rfl)
theorem dX3_ring_37 : decode cX3_ring 37 = .ok (.bipush 10, 2) := dk_16 10 (dk_at dksX3_ring_1 13 rfl rfl)
theorem dX3_ring_39 : decode cX3_ring 39 = .ok (.if_icmp .ne 5, 3) := dk_160 0 5 (dk_at dksX3_ring_1 15 rfl rfl)
theorem dX3_ring_42 : decode cX3_ring 42 = .ok (.iconst (-1), 1) := dk_2 (dk_at dksX3_ring_1 18 rfl rfl)
theorem dX3_ring_43 : decode cX3_ring 43 = .ok (.ireturn, 1) := dk_172 (dk_at dksX3_ring_1 19 rfl rfl)
theorem dX3_ring_44 : decode cX3_ring 44 = .ok (.aload_n 0, 1) := dk_42 (dk_at dksX3_ring_1 20 rfl rfl)
theorem dX3_ring_45 : decode cX3_ring 45 = .ok (.getfield 64, 3) := dk_180 0 64 (dk_at dksX3_ring_1 21 rfl rfl)
theorem dX3_ring_48 : decode cX3_ring 48 = .ok (.aload_n 0, 1) := dk_42 (dk_at dksX3_ring_2 0 rfl rfl)
theorem dX3_ring_49 : decode cX3_ring 49 = .ok (.getfield 308, 3) := dk_180 1 52 (dk_at dksX3_ring_2 1 rfl rfl)
theorem dX3_ring_52 : decode cX3_ring 52 = .ok (.iload_n 1, 1) := dk_27 (dk_at dksX3_ring_2 4 rfl rfl)
theorem dX3_ring_53 : decode cX3_ring 53 = .ok (.iastore, 1) := dk_79 (dk_at dksX3_ring_2 5 rfl rfl)
theorem dX3_ring_54 : decode cX3_ring 54 = .ok (.aload_n 0, 1) := dk_42 (dk_at dksX3_ring_2 6 rfl rfl)
theorem dX3_ring_55 : decode cX3_ring 55 = .ok (.getfield 67, 3) := dk_180 0 67 (dk_at dksX3_ring_2 7 rfl rfl)
theorem dX3_ring_58 : decode cX3_ring 58 = .ok (.aload_n 0, 1) := dk_42 (dk_at dksX3_ring_2 10 rfl rfl)
theorem dX3_ring_59 : decode cX3_ring 59 = .ok (.getfield 308, 3) := dk_180 1 52 (dk_at dksX3_ring_2 11 rfl rfl)
theorem dX3_ring_62 : decode cX3_ring 62 = .ok (.iload_n 2, 1) := dk_28 (dk_at dksX3_ring_2 14 rfl rfl)
theorem dX3_ring_63 : decode cX3_ring 63 = .ok (.iastore, 1) := dk_79 (dk_at dksX3_ring_2 15 rfl rfl)
theorem dX3_ring_64 : decode cX3_ring 64 = .ok (.aload_n 0, 1) := dk_42 (dk_at dksX3_ring_2 16 rfl rfl)
theorem dX3_ring_65 : decode cX3_ring 65 = .ok (.getfield 70, 3) := dk_180 0 70 (dk_at dksX3_ring_2 17 rfl rfl)
theorem dX3_ring_68 : decode cX3_ring 68 = .ok (.aload_n 0, 1) := dk_42 (dk_at dksX3_ring_2 20 rfl rfl)
theorem dX3_ring_69 : decode cX3_ring 69 = .ok (.getfield 308, 3) := dk_180 1 52 (dk_at dksX3_ring_2 21 rfl rfl)
theorem dX3_ring_72 : decode cX3_ring 72 = .ok (.iload_n 3, 1) := dk_29 (dk_at dksX3_ring_3 0 rfl rfl)
theorem dX3_ring_73 : decode cX3_ring 73 = .ok (.iastore, 1) := dk_79 (dk_at dksX3_ring_3 1 rfl rfl)
theorem dX3_ring_74 : decode cX3_ring 74 = .ok (.aload_n 0, 1) := dk_42 (dk_at dksX3_ring_3 2 rfl rfl)
theorem dX3_ring_75 : decode cX3_ring 75 = .ok (.dup, 1) := dk_89 (dk_at dksX3_ring_3 3 rfl rfl)
theorem dX3_ring_76 : decode cX3_ring 76 = .ok (.getfield 308, 3) := dk_180 1 52 (dk_at dksX3_ring_3 4 rfl rfl)
theorem dX3_ring_79 : decode cX3_ring 79 = .ok (.iconst 1, 1) := dk_4 (dk_at dksX3_ring_3 7 rfl rfl)
theorem dX3_ring_80 : decode cX3_ring 80 = .ok (.iadd, 1) := dk_96 (dk_at dksX3_ring_3 8 rfl rfl)
theorem dX3_ring_81 : decode cX3_ring 81 = .ok (.putfield 308, 3) := dk_181 1 52 (dk_at dksX3_ring_3 9 rfl rfl)
theorem dX3_ring_84 : decode cX3_ring 84 = .ok (.aload_n 0, 1) := dk_42 (dk_at dksX3_ring_3 12 rfl rfl)
theorem dX3_ring_85 : decode cX3_ring 85 = .ok (.getfield 308, 3) := dk_180 1 52 (dk_at dksX3_ring_3 13 rfl rfl)
theorem dX3_ring_88 : decode cX3_ring 88 = .ok (.ireturn, 1) := dk_172 (dk_at dksX3_ring_3 16 rfl rfl)
abbrev cX3_washes : ByteArray := prog_9_method_79_code
def yX3_washes : MethodName := ⟨RX3, "washes", "()I"⟩
def dkwX3_washes_0 : List UInt8 := [42, 3, 181, 0, 95, 42, 180, 1, 52, 60, 42, 3, 181, 1, 52, 27, 172]
abbrev dktX3_washes_0 : List UInt8 := dkwX3_washes_0 ++ []
theorem dksX3_washes_0 : cX3_washes.data.toList.drop 0 = dktX3_washes_0 := by decide +kernel
theorem dX3_washes_0 : decode cX3_washes 0 = .ok (.aload_n 0, 1) := dk_42 (dk_at dksX3_washes_0 0 rfl rfl)
theorem dX3_washes_1 : decode cX3_washes 1 = .ok (.iconst 0, 1) := dk_3 (dk_at dksX3_washes_0 1 rfl rfl)
theorem dX3_washes_2 : decode cX3_washes 2 = .ok (.putfield 95, 3) := dk_181 0 95 (dk_at dksX3_washes_0 2 rfl rfl)
theorem dX3_washes_5 : decode cX3_washes 5 = .ok (.aload_n 0, 1) := dk_42 (dk_at dksX3_washes_0 5 rfl rfl)
theorem dX3_washes_6 : decode cX3_washes 6 = .ok (.getfield 308, 3) := dk_180 1 52 (dk_at dksX3_washes_0 6 rfl rfl)
theorem dX3_washes_9 : decode cX3_washes 9 = .ok (.istore_n 1, 1) := dk_60 (dk_at dksX3_washes_0 9 rfl rfl)
theorem dX3_washes_10 : decode cX3_washes 10 = .ok (.aload_n 0, 1) := dk_42 (dk_at dksX3_washes_0 10 rfl rfl)
theorem dX3_washes_11 : decode cX3_washes 11 = .ok (.iconst 0, 1) := dk_3 (dk_at dksX3_washes_0 11 rfl rfl)
theorem dX3_washes_12 : decode cX3_washes 12 = .ok (.putfield 308, 3) := dk_181 1 52 (dk_at dksX3_washes_0 12 rfl rfl)
theorem dX3_washes_15 : decode cX3_washes 15 = .ok (.iload_n 1, 1) := dk_27 (dk_at dksX3_washes_0 15 rfl rfl)
theorem dX3_washes_16 : decode cX3_washes 16 = .ok (.ireturn, 1) := dk_172 (dk_at dksX3_washes_0 16 rfl rfl)
abbrev cX3_leaks : ByteArray := prog_9_method_81_code
def yX3_leaks : MethodName := ⟨RX3, "leaks", "()I"⟩
def dkwX3_leaks_4 : List UInt8 := [27, 172]
abbrev dktX3_leaks_4 : List UInt8 := dkwX3_leaks_4 ++ []
def dkwX3_leaks_3 : List UInt8 := [182, 0, 248, 42, 29, 133, 182, 0, 248, 132, 1, 1, 132, 3, 1, 167, 255, 216, 132, 2, 1, 167, 255, 200]
abbrev dktX3_leaks_3 : List UInt8 := dkwX3_leaks_3 ++ dktX3_leaks_4
def dkwX3_leaks_2 : List UInt8 := [163, 0, 40, 42, 28, 29, 182, 1, 55, 154, 0, 6, 167, 0, 22, 27, 154, 0, 15, 42, 28, 133]
abbrev dktX3_leaks_2 : List UInt8 := dkwX3_leaks_2 ++ dktX3_leaks_3
def dkwX3_leaks_1 : List UInt8 := [167, 0, 4, 9, 182, 0, 248, 3, 61, 28, 42, 180, 0, 101, 162, 0, 54, 4, 62, 29, 16, 9]
abbrev dktX3_leaks_1 : List UInt8 := dkwX3_leaks_1 ++ dktX3_leaks_2
def dkwX3_leaks_0 : List UInt8 := [42, 3, 181, 0, 95, 3, 60, 42, 3, 181, 0, 98, 42, 42, 2, 3, 182, 1, 55, 153, 0, 7, 10]
abbrev dktX3_leaks_0 : List UInt8 := dkwX3_leaks_0 ++ dktX3_leaks_1
theorem dksX3_leaks_0 : cX3_leaks.data.toList.drop 0 = dktX3_leaks_0 := by decide +kernel
theorem dksX3_leaks_1 : cX3_leaks.data.toList.drop 23 = dktX3_leaks_1 := dk_seg dksX3_leaks_0 23 rfl rfl
theorem dksX3_leaks_2 : cX3_leaks.data.toList.drop 45 = dktX3_leaks_2 := dk_seg dksX3_leaks_1 22 rfl rfl
theorem dksX3_leaks_3 : cX3_leaks.data.toList.drop 67 = dktX3_leaks_3 := dk_seg dksX3_leaks_2 22 rfl rfl
theorem dksX3_leaks_4 : cX3_leaks.data.toList.drop 91 = dktX3_leaks_4 := dk_seg dksX3_leaks_3 24 rfl rfl
theorem dX3_leaks_0 : decode cX3_leaks 0 = .ok (.aload_n 0, 1) := dk_42 (dk_at dksX3_leaks_0 0 rfl rfl)
theorem dX3_leaks_1 : decode cX3_leaks 1 = .ok (.iconst 0, 1) := dk_3 (dk_at dksX3_leaks_0 1 rfl rfl)
theorem dX3_leaks_2 : decode cX3_leaks 2 = .ok (.putfield 95, 3) := dk_181 0 95 (dk_at dksX3_leaks_0 2 rfl rfl)
theorem dX3_leaks_5 : decode cX3_leaks 5 = .ok (.iconst 0, 1) := dk_3 (dk_at dksX3_leaks_0 5 rfl rfl)
theorem dX3_leaks_6 : decode cX3_leaks 6 = .ok (.istore_n 1, 1) := dk_60 (dk_at dksX3_leaks_0 6 rfl rfl)
theorem dX3_leaks_7 : decode cX3_leaks 7 = .ok (.aload_n 0, 1) := dk_42 (dk_at dksX3_leaks_0 7 rfl rfl)
theorem dX3_leaks_8 : decode cX3_leaks 8 = .ok (.iconst 0, 1) := dk_3 (dk_at dksX3_leaks_0 8 rfl rfl)
theorem dX3_leaks_9 : decode cX3_leaks 9 = .ok (.putfield 98, 3) := dk_181 0 98 (dk_at dksX3_leaks_0 9 rfl rfl)
theorem dX3_leaks_12 : decode cX3_leaks 12 = .ok (.aload_n 0, 1) := dk_42 (dk_at dksX3_leaks_0 12 rfl rfl)
theorem dX3_leaks_13 : decode cX3_leaks 13 = .ok (.aload_n 0, 1) := dk_42 (dk_at dksX3_leaks_0 13 rfl rfl)
theorem dX3_leaks_14 : decode cX3_leaks 14 = .ok (.iconst (-1), 1) := dk_2 (dk_at dksX3_leaks_0 14 rfl rfl)
theorem dX3_leaks_15 : decode cX3_leaks 15 = .ok (.iconst 0, 1) := dk_3 (dk_at dksX3_leaks_0 15 rfl rfl)
theorem dX3_leaks_16 : decode cX3_leaks 16 = .ok (.invokevirtual 311, 3) := dk_182 1 55 (dk_at dksX3_leaks_0 16 rfl rfl)
theorem dX3_leaks_19 : decode cX3_leaks 19 = .ok (.ifCond .eq 7, 3) := dk_153 0 7 (dk_at dksX3_leaks_0 19 rfl rfl)
theorem dX3_leaks_22 : decode cX3_leaks 22 = .ok (.lconst 1, 1) := dk_10 (dk_at dksX3_leaks_0 22 rfl rfl)
theorem dX3_leaks_23 : decode cX3_leaks 23 = .ok (.goto 4, 3) := dk_167 0 4 (dk_at dksX3_leaks_1 0 rfl rfl)
theorem dX3_leaks_26 : decode cX3_leaks 26 = .ok (.lconst 0, 1) := dk_9 (dk_at dksX3_leaks_1 3 rfl rfl)
theorem dX3_leaks_27 : decode cX3_leaks 27 = .ok (.invokevirtual 248, 3) := dk_182 0 248 (dk_at dksX3_leaks_1 4 rfl rfl)
theorem dX3_leaks_30 : decode cX3_leaks 30 = .ok (.iconst 0, 1) := dk_3 (dk_at dksX3_leaks_1 7 rfl rfl)
theorem dX3_leaks_31 : decode cX3_leaks 31 = .ok (.istore_n 2, 1) := dk_61 (dk_at dksX3_leaks_1 8 rfl rfl)
theorem dX3_leaks_32 : decode cX3_leaks 32 = .ok (.iload_n 2, 1) := dk_28 (dk_at dksX3_leaks_1 9 rfl rfl)
theorem dX3_leaks_33 : decode cX3_leaks 33 = .ok (.aload_n 0, 1) := dk_42 (dk_at dksX3_leaks_1 10 rfl rfl)
theorem dX3_leaks_34 : decode cX3_leaks 34 = .ok (.getfield 101, 3) := dk_180 0 101 (dk_at dksX3_leaks_1 11 rfl rfl)
theorem dX3_leaks_37 : decode cX3_leaks 37 = .ok (.if_icmp .ge 54, 3) := dk_162 0 54 (dk_at dksX3_leaks_1 14 rfl rfl)
theorem dX3_leaks_40 : decode cX3_leaks 40 = .ok (.iconst 1, 1) := dk_4 (dk_at dksX3_leaks_1 17 rfl rfl)
theorem dX3_leaks_41 : decode cX3_leaks 41 = .ok (.istore_n 3, 1) := dk_62 (dk_at dksX3_leaks_1 18 rfl rfl)
theorem dX3_leaks_42 : decode cX3_leaks 42 = .ok (.iload_n 3, 1) := dk_29 (dk_at dksX3_leaks_1 19 rfl rfl)
theorem dX3_leaks_43 : decode cX3_leaks 43 = .ok (.bipush 9, 2) := dk_16 9 (dk_at dksX3_leaks_1 20 rfl rfl)
theorem dX3_leaks_45 : decode cX3_leaks 45 = .ok (.if_icmp .gt 40, 3) := dk_163 0 40 (dk_at dksX3_leaks_2 0 rfl rfl)
theorem dX3_leaks_48 : decode cX3_leaks 48 = .ok (.aload_n 0, 1) := dk_42 (dk_at dksX3_leaks_2 3 rfl rfl)
theorem dX3_leaks_49 : decode cX3_leaks 49 = .ok (.iload_n 2, 1) := dk_28 (dk_at dksX3_leaks_2 4 rfl rfl)
theorem dX3_leaks_50 : decode cX3_leaks 50 = .ok (.iload_n 3, 1) := dk_29 (dk_at dksX3_leaks_2 5 rfl rfl)
theorem dX3_leaks_51 : decode cX3_leaks 51 = .ok (.invokevirtual 311, 3) := dk_182 1 55 (dk_at dksX3_leaks_2 6 rfl rfl)
theorem dX3_leaks_54 : decode cX3_leaks 54 = .ok (.ifCond .ne 6, 3) := dk_154 0 6 (dk_at dksX3_leaks_2 9 rfl rfl)
theorem dX3_leaks_57 : decode cX3_leaks 57 = .ok (.goto 22, 3) := dk_167 0 22 (dk_at dksX3_leaks_2 12 rfl rfl)
theorem dX3_leaks_60 : decode cX3_leaks 60 = .ok (.iload_n 1, 1) := dk_27 (dk_at dksX3_leaks_2 15 rfl rfl)
theorem dX3_leaks_61 : decode cX3_leaks 61 = .ok (.ifCond .ne 15, 3) := dk_154 0 15 (dk_at dksX3_leaks_2 16 rfl rfl)
theorem dX3_leaks_64 : decode cX3_leaks 64 = .ok (.aload_n 0, 1) := dk_42 (dk_at dksX3_leaks_2 19 rfl rfl)
theorem dX3_leaks_65 : decode cX3_leaks 65 = .ok (.iload_n 2, 1) := dk_28 (dk_at dksX3_leaks_2 20 rfl rfl)
theorem dX3_leaks_66 : decode cX3_leaks 66 = .ok (.i2l, 1) := dk_133 (dk_at dksX3_leaks_2 21 rfl rfl)
theorem dX3_leaks_67 : decode cX3_leaks 67 = .ok (.invokevirtual 248, 3) := dk_182 0 248 (dk_at dksX3_leaks_3 0 rfl rfl)
theorem dX3_leaks_70 : decode cX3_leaks 70 = .ok (.aload_n 0, 1) := dk_42 (dk_at dksX3_leaks_3 3 rfl rfl)
theorem dX3_leaks_71 : decode cX3_leaks 71 = .ok (.iload_n 3, 1) := dk_29 (dk_at dksX3_leaks_3 4 rfl rfl)
theorem dX3_leaks_72 : decode cX3_leaks 72 = .ok (.i2l, 1) := dk_133 (dk_at dksX3_leaks_3 5 rfl rfl)
theorem dX3_leaks_73 : decode cX3_leaks 73 = .ok (.invokevirtual 248, 3) := dk_182 0 248 (dk_at dksX3_leaks_3 6 rfl rfl)
theorem dX3_leaks_76 : decode cX3_leaks 76 = .ok (.iinc 1 1, 3) := dk_132 1 1 (dk_at dksX3_leaks_3 9 rfl rfl)
theorem dX3_leaks_79 : decode cX3_leaks 79 = .ok (.iinc 3 1, 3) := dk_132 3 1 (dk_at dksX3_leaks_3 12 rfl rfl)
theorem dX3_leaks_82 : decode cX3_leaks 82 = .ok (.goto (-40), 3) := dk_167 255 216 (dk_at dksX3_leaks_3 15 rfl rfl)
theorem dX3_leaks_85 : decode cX3_leaks 85 = .ok (.iinc 2 1, 3) := dk_132 2 1 (dk_at dksX3_leaks_3 18 rfl rfl)
theorem dX3_leaks_88 : decode cX3_leaks 88 = .ok (.goto (-56), 3) := dk_167 255 200 (dk_at dksX3_leaks_3 21 rfl rfl)
theorem dX3_leaks_91 : decode cX3_leaks 91 = .ok (.iload_n 1, 1) := dk_27 (dk_at dksX3_leaks_4 0 rfl rfl)
theorem dX3_leaks_92 : decode cX3_leaks 92 = .ok (.ireturn, 1) := dk_172 (dk_at dksX3_leaks_4 1 rfl rfl)
abbrev cX3_isRight : ByteArray := prog_9_method_80_code
def yX3_isRight : MethodName := ⟨RX3, "isRight", "(II)Z"⟩
def dkwX3_isRight_4 : List UInt8 := [167, 255, 200, 42, 42, 180, 0, 48, 182, 0, 237, 132, 4, 1, 167, 255, 176, 42, 2, 181, 0, 57, 29, 172]
abbrev dktX3_isRight_4 : List UInt8 := dkwX3_isRight_4 ++ []
def dkwX3_isRight_3 : List UInt8 := [21, 5, 46, 46, 42, 180, 0, 70, 21, 5, 46, 160, 0, 7, 4, 167, 0, 4, 3, 62, 132, 5, 1]
abbrev dktX3_isRight_3 : List UInt8 := dkwX3_isRight_3 ++ dktX3_isRight_4
def dkwX3_isRight_2 : List UInt8 := [153, 0, 41, 42, 180, 0, 67, 21, 5, 46, 21, 4, 160, 0, 25, 42, 180, 0, 48, 42, 180, 0, 64]
abbrev dktX3_isRight_2 : List UInt8 := dkwX3_isRight_2 ++ dktX3_isRight_3
def dkwX3_isRight_1 : List UInt8 := [3, 54, 4, 21, 4, 16, 20, 163, 0, 79, 3, 54, 5, 21, 5, 42, 180, 1, 52, 162, 0, 53, 29]
abbrev dktX3_isRight_1 : List UInt8 := dkwX3_isRight_1 ++ dktX3_isRight_2
def dkwX3_isRight_0 : List UInt8 := [42, 27, 181, 0, 57, 42, 28, 181, 0, 234, 42, 180, 0, 9, 42, 180, 0, 48, 3, 184, 0, 230, 4, 62]
abbrev dktX3_isRight_0 : List UInt8 := dkwX3_isRight_0 ++ dktX3_isRight_1
theorem dksX3_isRight_0 : cX3_isRight.data.toList.drop 0 = dktX3_isRight_0 := by decide +kernel
theorem dksX3_isRight_1 : cX3_isRight.data.toList.drop 24 = dktX3_isRight_1 := dk_seg dksX3_isRight_0 24 rfl rfl
theorem dksX3_isRight_2 : cX3_isRight.data.toList.drop 47 = dktX3_isRight_2 := dk_seg dksX3_isRight_1 23 rfl rfl
theorem dksX3_isRight_3 : cX3_isRight.data.toList.drop 70 = dktX3_isRight_3 := dk_seg dksX3_isRight_2 23 rfl rfl
theorem dksX3_isRight_4 : cX3_isRight.data.toList.drop 93 = dktX3_isRight_4 := dk_seg dksX3_isRight_3 23 rfl rfl
theorem dX3_isRight_0 : decode cX3_isRight 0 = .ok (.aload_n 0, 1) := dk_42 (dk_at dksX3_isRight_0 0 rfl rfl)
theorem dX3_isRight_1 : decode cX3_isRight 1 = .ok (.iload_n 1, 1) := dk_27 (dk_at dksX3_isRight_0 1 rfl rfl)
theorem dX3_isRight_2 : decode cX3_isRight 2 = .ok (.putfield 57, 3) := dk_181 0 57 (dk_at dksX3_isRight_0 2 rfl rfl)
theorem dX3_isRight_5 : decode cX3_isRight 5 = .ok (.aload_n 0, 1) := dk_42 (dk_at dksX3_isRight_0 5 rfl rfl)
theorem dX3_isRight_6 : decode cX3_isRight 6 = .ok (.iload_n 2, 1) := dk_28 (dk_at dksX3_isRight_0 6 rfl rfl)
theorem dX3_isRight_7 : decode cX3_isRight 7 = .ok (.putfield 234, 3) := dk_181 0 234 (dk_at dksX3_isRight_0 7 rfl rfl)
theorem dX3_isRight_10 : decode cX3_isRight 10 = .ok (.aload_n 0, 1) := dk_42 (dk_at dksX3_isRight_0 10 rfl rfl)
theorem dX3_isRight_11 : decode cX3_isRight 11 = .ok (.getfield 9, 3) := dk_180 0 9 (dk_at dksX3_isRight_0 11 rfl rfl)
theorem dX3_isRight_14 : decode cX3_isRight 14 = .ok (.aload_n 0, 1) := dk_42 (dk_at dksX3_isRight_0 14 rfl rfl)
theorem dX3_isRight_15 : decode cX3_isRight 15 = .ok (.getfield 48, 3) := dk_180 0 48 (dk_at dksX3_isRight_0 15 rfl rfl)
theorem dX3_isRight_18 : decode cX3_isRight 18 = .ok (.iconst 0, 1) := dk_3 (dk_at dksX3_isRight_0 18 rfl rfl)
theorem dX3_isRight_19 : decode cX3_isRight 19 = .ok (.invokestatic 230, 3) := dk_184 0 230 (dk_at dksX3_isRight_0 19 rfl rfl)
theorem dX3_isRight_22 : decode cX3_isRight 22 = .ok (.iconst 1, 1) := dk_4 (dk_at dksX3_isRight_0 22 rfl rfl)
theorem dX3_isRight_23 : decode cX3_isRight 23 = .ok (.istore_n 3, 1) := dk_62 (dk_at dksX3_isRight_0 23 rfl rfl)
theorem dX3_isRight_24 : decode cX3_isRight 24 = .ok (.iconst 0, 1) := dk_3 (dk_at dksX3_isRight_1 0 rfl rfl)
theorem dX3_isRight_25 : decode cX3_isRight 25 = .ok (.istore 4, 2) := dk_54 4 (dk_at dksX3_isRight_1 1 rfl rfl)
theorem dX3_isRight_27 : decode cX3_isRight 27 = .ok (.iload 4, 2) := dk_21 4 (dk_at dksX3_isRight_1 3 rfl rfl)
theorem dX3_isRight_29 : decode cX3_isRight 29 = .ok (.bipush 20, 2) := dk_16 20 (dk_at dksX3_isRight_1 5 rfl rfl)
theorem dX3_isRight_31 : decode cX3_isRight 31 = .ok (.if_icmp .gt 79, 3) := dk_163 0 79 (dk_at dksX3_isRight_1 7 rfl rfl)
theorem dX3_isRight_34 : decode cX3_isRight 34 = .ok (.iconst 0, 1) := dk_3 (dk_at dksX3_isRight_1 10 rfl rfl)
theorem dX3_isRight_35 : decode cX3_isRight 35 = .ok (.istore 5, 2) := dk_54 5 (dk_at dksX3_isRight_1 11 rfl rfl)
theorem dX3_isRight_37 : decode cX3_isRight 37 = .ok (.iload 5, 2) := dk_21 5 (dk_at dksX3_isRight_1 13 rfl rfl)
theorem dX3_isRight_39 : decode cX3_isRight 39 = .ok (.aload_n 0, 1) := dk_42 (dk_at dksX3_isRight_1 15 rfl rfl)
theorem dX3_isRight_40 : decode cX3_isRight 40 = .ok (.getfield 308, 3) := dk_180 1 52 (dk_at dksX3_isRight_1 16 rfl rfl)
theorem dX3_isRight_43 : decode cX3_isRight 43 = .ok (.if_icmp .ge 53, 3) := dk_162 0 53 (dk_at dksX3_isRight_1 19 rfl rfl)
theorem dX3_isRight_46 : decode cX3_isRight 46 = .ok (.iload_n 3, 1) := dk_29 (dk_at dksX3_isRight_1 22 rfl rfl)
theorem dX3_isRight_47 : decode cX3_isRight 47 = .ok (.ifCond .eq 41, 3) := dk_153 0 41 (dk_at dksX3_isRight_2 0 rfl rfl)
theorem dX3_isRight_50 : decode cX3_isRight 50 = .ok (.aload_n 0, 1) := dk_42 (dk_at dksX3_isRight_2 3 rfl rfl)
theorem dX3_isRight_51 : decode cX3_isRight 51 = .ok (.getfield 67, 3) := dk_180 0 67 (dk_at dksX3_isRight_2 4 rfl rfl)
theorem dX3_isRight_54 : decode cX3_isRight 54 = .ok (.iload 5, 2) := dk_21 5 (dk_at dksX3_isRight_2 7 rfl rfl)
theorem dX3_isRight_56 : decode cX3_isRight 56 = .ok (.iaload, 1) := dk_46 (dk_at dksX3_isRight_2 9 rfl rfl)
theorem dX3_isRight_57 : decode cX3_isRight 57 = .ok (.iload 4, 2) := dk_21 4 (dk_at dksX3_isRight_2 10 rfl rfl)
theorem dX3_isRight_59 : decode cX3_isRight 59 = .ok (.if_icmp .ne 25, 3) := dk_160 0 25 (dk_at dksX3_isRight_2 12 rfl rfl)
theorem dX3_isRight_62 : decode cX3_isRight 62 = .ok (.aload_n 0, 1) := dk_42 (dk_at dksX3_isRight_2 15 rfl rfl)
theorem dX3_isRight_63 : decode cX3_isRight 63 = .ok (.getfield 48, 3) := dk_180 0 48 (dk_at dksX3_isRight_2 16 rfl rfl)
theorem dX3_isRight_66 : decode cX3_isRight 66 = .ok (.aload_n 0, 1) := dk_42 (dk_at dksX3_isRight_2 19 rfl rfl)
theorem dX3_isRight_67 : decode cX3_isRight 67 = .ok (.getfield 64, 3) := dk_180 0 64 (dk_at dksX3_isRight_2 20 rfl rfl)
theorem dX3_isRight_70 : decode cX3_isRight 70 = .ok (.iload 5, 2) := dk_21 5 (dk_at dksX3_isRight_3 0 rfl rfl)
theorem dX3_isRight_72 : decode cX3_isRight 72 = .ok (.iaload, 1) := dk_46 (dk_at dksX3_isRight_3 2 rfl rfl)
theorem dX3_isRight_73 : decode cX3_isRight 73 = .ok (.iaload, 1) := dk_46 (dk_at dksX3_isRight_3 3 rfl rfl)
theorem dX3_isRight_74 : decode cX3_isRight 74 = .ok (.aload_n 0, 1) := dk_42 (dk_at dksX3_isRight_3 4 rfl rfl)
theorem dX3_isRight_75 : decode cX3_isRight 75 = .ok (.getfield 70, 3) := dk_180 0 70 (dk_at dksX3_isRight_3 5 rfl rfl)
theorem dX3_isRight_78 : decode cX3_isRight 78 = .ok (.iload 5, 2) := dk_21 5 (dk_at dksX3_isRight_3 8 rfl rfl)
theorem dX3_isRight_80 : decode cX3_isRight 80 = .ok (.iaload, 1) := dk_46 (dk_at dksX3_isRight_3 10 rfl rfl)
theorem dX3_isRight_81 : decode cX3_isRight 81 = .ok (.if_icmp .ne 7, 3) := dk_160 0 7 (dk_at dksX3_isRight_3 11 rfl rfl)
theorem dX3_isRight_84 : decode cX3_isRight 84 = .ok (.iconst 1, 1) := dk_4 (dk_at dksX3_isRight_3 14 rfl rfl)
theorem dX3_isRight_85 : decode cX3_isRight 85 = .ok (.goto 4, 3) := dk_167 0 4 (dk_at dksX3_isRight_3 15 rfl rfl)
theorem dX3_isRight_88 : decode cX3_isRight 88 = .ok (.iconst 0, 1) := dk_3 (dk_at dksX3_isRight_3 18 rfl rfl)
theorem dX3_isRight_89 : decode cX3_isRight 89 = .ok (.istore_n 3, 1) := dk_62 (dk_at dksX3_isRight_3 19 rfl rfl)
theorem dX3_isRight_90 : decode cX3_isRight 90 = .ok (.iinc 5 1, 3) := dk_132 5 1 (dk_at dksX3_isRight_3 20 rfl rfl)
theorem dX3_isRight_93 : decode cX3_isRight 93 = .ok (.goto (-56), 3) := dk_167 255 200 (dk_at dksX3_isRight_4 0 rfl rfl)
theorem dX3_isRight_96 : decode cX3_isRight 96 = .ok (.aload_n 0, 1) := dk_42 (dk_at dksX3_isRight_4 3 rfl rfl)
theorem dX3_isRight_97 : decode cX3_isRight 97 = .ok (.aload_n 0, 1) := dk_42 (dk_at dksX3_isRight_4 4 rfl rfl)
theorem dX3_isRight_98 : decode cX3_isRight 98 = .ok (.getfield 48, 3) := dk_180 0 48 (dk_at dksX3_isRight_4 5 rfl rfl)
theorem dX3_isRight_101 : decode cX3_isRight 101 = .ok (.invokevirtual 237, 3) := dk_182 0 237 (dk_at dksX3_isRight_4 8 rfl rfl)
theorem dX3_isRight_104 : decode cX3_isRight 104 = .ok (.iinc 4 1, 3) := dk_132 4 1 (dk_at dksX3_isRight_4 11 rfl rfl)
theorem dX3_isRight_107 : decode cX3_isRight 107 = .ok (.goto (-80), 3) := dk_167 255 176 (dk_at dksX3_isRight_4 14 rfl rfl)
theorem dX3_isRight_110 : decode cX3_isRight 110 = .ok (.aload_n 0, 1) := dk_42 (dk_at dksX3_isRight_4 17 rfl rfl)
theorem dX3_isRight_111 : decode cX3_isRight 111 = .ok (.iconst (-1), 1) := dk_2 (dk_at dksX3_isRight_4 18 rfl rfl)
theorem dX3_isRight_112 : decode cX3_isRight 112 = .ok (.putfield 57, 3) := dk_181 0 57 (dk_at dksX3_isRight_4 19 rfl rfl)
theorem dX3_isRight_115 : decode cX3_isRight 115 = .ok (.iload_n 3, 1) := dk_29 (dk_at dksX3_isRight_4 22 rfl rfl)
theorem dX3_isRight_116 : decode cX3_isRight 116 = .ok (.ireturn, 1) := dk_172 (dk_at dksX3_isRight_4 23 rfl rfl)
abbrev cX3_reads : ByteArray := prog_9_method_83_code
def yX3_reads : MethodName := ⟨RX3, "reads", "()I"⟩
def dkwX3_reads_12 : List UInt8 := [182, 0, 248, 28, 172]
abbrev dktX3_reads_12 : List UInt8 := dkwX3_reads_12 ++ []
def dkwX3_reads_11 : List UInt8 := [21, 6, 62, 132, 5, 1, 167, 255, 184, 132, 4, 1, 167, 255, 166, 42, 3, 181, 0, 98, 42, 29, 133]
abbrev dktX3_reads_11 : List UInt8 := dkwX3_reads_11 ++ dktX3_reads_12
def dkwX3_reads_10 : List UInt8 := [132, 7, 1, 167, 255, 224, 21, 6, 29, 161, 0, 6, 167, 0, 15, 16, 21, 21, 4, 104, 21, 5, 96, 61]
abbrev dktX3_reads_10 : List UInt8 := dkwX3_reads_10 ++ dktX3_reads_11
def dkwX3_reads_9 : List UInt8 := [21, 6, 42, 180, 0, 73, 21, 4, 21, 5, 184, 1, 58, 21, 7, 96, 46, 184, 0, 217, 54, 6]
abbrev dktX3_reads_9 : List UInt8 := dkwX3_reads_9 ++ dktX3_reads_10
def dkwX3_reads_8 : List UInt8 := [3, 54, 5, 21, 5, 16, 20, 163, 0, 71, 3, 54, 6, 3, 54, 7, 21, 7, 16, 99, 163, 0, 31]
abbrev dktX3_reads_8 : List UInt8 := dkwX3_reads_8 ++ dktX3_reads_9
def dkwX3_reads_7 : List UInt8 := [154, 0, 6, 16, 254, 172, 2, 61, 19, 1, 51, 62, 3, 54, 4, 21, 4, 42, 180, 0, 101, 162, 0, 87]
abbrev dktX3_reads_7 : List UInt8 := dkwX3_reads_7 ++ dktX3_reads_8
def dkwX3_reads_6 : List UInt8 := [132, 4, 1, 167, 255, 196, 42, 2, 181, 0, 57, 132, 3, 1, 167, 255, 140, 132, 2, 1, 167, 255, 124, 27]
abbrev dktX3_reads_6 : List UInt8 := dkwX3_reads_6 ++ dktX3_reads_7
def dkwX3_reads_5 : List UInt8 := [21, 5, 46, 96, 92, 46, 4, 96, 79, 132, 5, 1, 167, 255, 220, 42, 42, 180, 0, 48, 182, 0, 237]
abbrev dktX3_reads_5 : List UInt8 := dkwX3_reads_5 ++ dktX3_reads_6
def dkwX3_reads_4 : List UInt8 := [21, 5, 42, 180, 0, 101, 162, 0, 33, 42, 180, 0, 73, 21, 5, 21, 4, 184, 1, 58, 42, 180, 0, 48]
abbrev dktX3_reads_4 : List UInt8 := dkwX3_reads_4 ++ dktX3_reads_5
def dkwX3_reads_3 : List UInt8 := [180, 0, 9, 42, 180, 0, 48, 3, 184, 0, 230, 3, 54, 4, 21, 4, 16, 20, 163, 0, 59, 3, 54, 5]
abbrev dktX3_reads_3 : List UInt8 := dkwX3_reads_3 ++ dktX3_reads_4
def dkwX3_reads_2 : List UInt8 := [28, 29, 182, 1, 55, 154, 0, 6, 167, 0, 98, 4, 60, 42, 28, 181, 0, 57, 42, 29, 181, 0, 234, 42]
abbrev dktX3_reads_2 : List UInt8 := dkwX3_reads_2 ++ dktX3_reads_3
def dkwX3_reads_1 : List UInt8 := [167, 255, 239, 3, 60, 3, 61, 28, 42, 180, 0, 101, 162, 0, 130, 4, 62, 29, 16, 9, 163, 0, 116, 42]
abbrev dktX3_reads_1 : List UInt8 := dkwX3_reads_1 ++ dktX3_reads_2
def dkwX3_reads_0 : List UInt8 := [42, 3, 181, 0, 95, 3, 60, 27, 17, 49, 56, 162, 0, 16, 42, 180, 0, 73, 27, 3, 79, 132, 1, 1]
abbrev dktX3_reads_0 : List UInt8 := dkwX3_reads_0 ++ dktX3_reads_1
theorem dksX3_reads_0 : cX3_reads.data.toList.drop 0 = dktX3_reads_0 := by decide +kernel
theorem dksX3_reads_1 : cX3_reads.data.toList.drop 24 = dktX3_reads_1 := dk_seg dksX3_reads_0 24 rfl rfl
theorem dksX3_reads_2 : cX3_reads.data.toList.drop 48 = dktX3_reads_2 := dk_seg dksX3_reads_1 24 rfl rfl
theorem dksX3_reads_3 : cX3_reads.data.toList.drop 72 = dktX3_reads_3 := dk_seg dksX3_reads_2 24 rfl rfl
theorem dksX3_reads_4 : cX3_reads.data.toList.drop 96 = dktX3_reads_4 := dk_seg dksX3_reads_3 24 rfl rfl
theorem dksX3_reads_5 : cX3_reads.data.toList.drop 120 = dktX3_reads_5 := dk_seg dksX3_reads_4 24 rfl rfl
theorem dksX3_reads_6 : cX3_reads.data.toList.drop 143 = dktX3_reads_6 := dk_seg dksX3_reads_5 23 rfl rfl
theorem dksX3_reads_7 : cX3_reads.data.toList.drop 167 = dktX3_reads_7 := dk_seg dksX3_reads_6 24 rfl rfl
theorem dksX3_reads_8 : cX3_reads.data.toList.drop 191 = dktX3_reads_8 := dk_seg dksX3_reads_7 24 rfl rfl
theorem dksX3_reads_9 : cX3_reads.data.toList.drop 214 = dktX3_reads_9 := dk_seg dksX3_reads_8 23 rfl rfl
theorem dksX3_reads_10 : cX3_reads.data.toList.drop 236 = dktX3_reads_10 := dk_seg dksX3_reads_9 22 rfl rfl
theorem dksX3_reads_11 : cX3_reads.data.toList.drop 260 = dktX3_reads_11 := dk_seg dksX3_reads_10 24 rfl rfl
theorem dksX3_reads_12 : cX3_reads.data.toList.drop 283 = dktX3_reads_12 := dk_seg dksX3_reads_11 23 rfl rfl
theorem dX3_reads_0 : decode cX3_reads 0 = .ok (.aload_n 0, 1) := dk_42 (dk_at dksX3_reads_0 0 rfl rfl)
theorem dX3_reads_1 : decode cX3_reads 1 = .ok (.iconst 0, 1) := dk_3 (dk_at dksX3_reads_0 1 rfl rfl)
theorem dX3_reads_2 : decode cX3_reads 2 = .ok (.putfield 95, 3) := dk_181 0 95 (dk_at dksX3_reads_0 2 rfl rfl)
theorem dX3_reads_5 : decode cX3_reads 5 = .ok (.iconst 0, 1) := dk_3 (dk_at dksX3_reads_0 5 rfl rfl)
theorem dX3_reads_6 : decode cX3_reads 6 = .ok (.istore_n 1, 1) := dk_60 (dk_at dksX3_reads_0 6 rfl rfl)
theorem dX3_reads_7 : decode cX3_reads 7 = .ok (.iload_n 1, 1) := dk_27 (dk_at dksX3_reads_0 7 rfl rfl)
theorem dX3_reads_8 : decode cX3_reads 8 = .ok (.sipush 12600, 3) := dk_17 49 56 (dk_at dksX3_reads_0 8 rfl rfl)
theorem dX3_reads_11 : decode cX3_reads 11 = .ok (.if_icmp .ge 16, 3) := dk_162 0 16 (dk_at dksX3_reads_0 11 rfl rfl)
theorem dX3_reads_14 : decode cX3_reads 14 = .ok (.aload_n 0, 1) := dk_42 (dk_at dksX3_reads_0 14 rfl rfl)
theorem dX3_reads_15 : decode cX3_reads 15 = .ok (.getfield 73, 3) := dk_180 0 73 (dk_at dksX3_reads_0 15 rfl rfl)
theorem dX3_reads_18 : decode cX3_reads 18 = .ok (.iload_n 1, 1) := dk_27 (dk_at dksX3_reads_0 18 rfl rfl)
theorem dX3_reads_19 : decode cX3_reads 19 = .ok (.iconst 0, 1) := dk_3 (dk_at dksX3_reads_0 19 rfl rfl)
theorem dX3_reads_20 : decode cX3_reads 20 = .ok (.iastore, 1) := dk_79 (dk_at dksX3_reads_0 20 rfl rfl)
theorem dX3_reads_21 : decode cX3_reads 21 = .ok (.iinc 1 1, 3) := dk_132 1 1 (dk_at dksX3_reads_0 21 rfl rfl)
theorem dX3_reads_24 : decode cX3_reads 24 = .ok (.goto (-17), 3) := dk_167 255 239 (dk_at dksX3_reads_1 0 rfl rfl)
theorem dX3_reads_27 : decode cX3_reads 27 = .ok (.iconst 0, 1) := dk_3 (dk_at dksX3_reads_1 3 rfl rfl)
theorem dX3_reads_28 : decode cX3_reads 28 = .ok (.istore_n 1, 1) := dk_60 (dk_at dksX3_reads_1 4 rfl rfl)
theorem dX3_reads_29 : decode cX3_reads 29 = .ok (.iconst 0, 1) := dk_3 (dk_at dksX3_reads_1 5 rfl rfl)
theorem dX3_reads_30 : decode cX3_reads 30 = .ok (.istore_n 2, 1) := dk_61 (dk_at dksX3_reads_1 6 rfl rfl)
theorem dX3_reads_31 : decode cX3_reads 31 = .ok (.iload_n 2, 1) := dk_28 (dk_at dksX3_reads_1 7 rfl rfl)
theorem dX3_reads_32 : decode cX3_reads 32 = .ok (.aload_n 0, 1) := dk_42 (dk_at dksX3_reads_1 8 rfl rfl)
theorem dX3_reads_33 : decode cX3_reads 33 = .ok (.getfield 101, 3) := dk_180 0 101 (dk_at dksX3_reads_1 9 rfl rfl)
theorem dX3_reads_36 : decode cX3_reads 36 = .ok (.if_icmp .ge 130, 3) := dk_162 0 130 (dk_at dksX3_reads_1 12 rfl rfl)
theorem dX3_reads_39 : decode cX3_reads 39 = .ok (.iconst 1, 1) := dk_4 (dk_at dksX3_reads_1 15 rfl rfl)
theorem dX3_reads_40 : decode cX3_reads 40 = .ok (.istore_n 3, 1) := dk_62 (dk_at dksX3_reads_1 16 rfl rfl)
theorem dX3_reads_41 : decode cX3_reads 41 = .ok (.iload_n 3, 1) := dk_29 (dk_at dksX3_reads_1 17 rfl rfl)
theorem dX3_reads_42 : decode cX3_reads 42 = .ok (.bipush 9, 2) := dk_16 9 (dk_at dksX3_reads_1 18 rfl rfl)
theorem dX3_reads_44 : decode cX3_reads 44 = .ok (.if_icmp .gt 116, 3) := dk_163 0 116 (dk_at dksX3_reads_1 20 rfl rfl)
theorem dX3_reads_47 : decode cX3_reads 47 = .ok (.aload_n 0, 1) := dk_42 (dk_at dksX3_reads_1 23 rfl rfl)
theorem dX3_reads_48 : decode cX3_reads 48 = .ok (.iload_n 2, 1) := dk_28 (dk_at dksX3_reads_2 0 rfl rfl)
theorem dX3_reads_49 : decode cX3_reads 49 = .ok (.iload_n 3, 1) := dk_29 (dk_at dksX3_reads_2 1 rfl rfl)
theorem dX3_reads_50 : decode cX3_reads 50 = .ok (.invokevirtual 311, 3) := dk_182 1 55 (dk_at dksX3_reads_2 2 rfl rfl)
theorem dX3_reads_53 : decode cX3_reads 53 = .ok (.ifCond .ne 6, 3) := dk_154 0 6 (dk_at dksX3_reads_2 5 rfl rfl)
theorem dX3_reads_56 : decode cX3_reads 56 = .ok (.goto 98, 3) := dk_167 0 98 (dk_at dksX3_reads_2 8 rfl rfl)
theorem dX3_reads_59 : decode cX3_reads 59 = .ok (.iconst 1, 1) := dk_4 (dk_at dksX3_reads_2 11 rfl rfl)
theorem dX3_reads_60 : decode cX3_reads 60 = .ok (.istore_n 1, 1) := dk_60 (dk_at dksX3_reads_2 12 rfl rfl)
theorem dX3_reads_61 : decode cX3_reads 61 = .ok (.aload_n 0, 1) := dk_42 (dk_at dksX3_reads_2 13 rfl rfl)
theorem dX3_reads_62 : decode cX3_reads 62 = .ok (.iload_n 2, 1) := dk_28 (dk_at dksX3_reads_2 14 rfl rfl)
theorem dX3_reads_63 : decode cX3_reads 63 = .ok (.putfield 57, 3) := dk_181 0 57 (dk_at dksX3_reads_2 15 rfl rfl)
theorem dX3_reads_66 : decode cX3_reads 66 = .ok (.aload_n 0, 1) := dk_42 (dk_at dksX3_reads_2 18 rfl rfl)
theorem dX3_reads_67 : decode cX3_reads 67 = .ok (.iload_n 3, 1) := dk_29 (dk_at dksX3_reads_2 19 rfl rfl)
theorem dX3_reads_68 : decode cX3_reads 68 = .ok (.putfield 234, 3) := dk_181 0 234 (dk_at dksX3_reads_2 20 rfl rfl)
theorem dX3_reads_71 : decode cX3_reads 71 = .ok (.aload_n 0, 1) := dk_42 (dk_at dksX3_reads_2 23 rfl rfl)
theorem dX3_reads_72 : decode cX3_reads 72 = .ok (.getfield 9, 3) := dk_180 0 9 (dk_at dksX3_reads_3 0 rfl rfl)
theorem dX3_reads_75 : decode cX3_reads 75 = .ok (.aload_n 0, 1) := dk_42 (dk_at dksX3_reads_3 3 rfl rfl)
theorem dX3_reads_76 : decode cX3_reads 76 = .ok (.getfield 48, 3) := dk_180 0 48 (dk_at dksX3_reads_3 4 rfl rfl)
theorem dX3_reads_79 : decode cX3_reads 79 = .ok (.iconst 0, 1) := dk_3 (dk_at dksX3_reads_3 7 rfl rfl)
theorem dX3_reads_80 : decode cX3_reads 80 = .ok (.invokestatic 230, 3) := dk_184 0 230 (dk_at dksX3_reads_3 8 rfl rfl)
theorem dX3_reads_83 : decode cX3_reads 83 = .ok (.iconst 0, 1) := dk_3 (dk_at dksX3_reads_3 11 rfl rfl)
theorem dX3_reads_84 : decode cX3_reads 84 = .ok (.istore 4, 2) := dk_54 4 (dk_at dksX3_reads_3 12 rfl rfl)
theorem dX3_reads_86 : decode cX3_reads 86 = .ok (.iload 4, 2) := dk_21 4 (dk_at dksX3_reads_3 14 rfl rfl)
theorem dX3_reads_88 : decode cX3_reads 88 = .ok (.bipush 20, 2) := dk_16 20 (dk_at dksX3_reads_3 16 rfl rfl)
theorem dX3_reads_90 : decode cX3_reads 90 = .ok (.if_icmp .gt 59, 3) := dk_163 0 59 (dk_at dksX3_reads_3 18 rfl rfl)
theorem dX3_reads_93 : decode cX3_reads 93 = .ok (.iconst 0, 1) := dk_3 (dk_at dksX3_reads_3 21 rfl rfl)
theorem dX3_reads_94 : decode cX3_reads 94 = .ok (.istore 5, 2) := dk_54 5 (dk_at dksX3_reads_3 22 rfl rfl)
theorem dX3_reads_96 : decode cX3_reads 96 = .ok (.iload 5, 2) := dk_21 5 (dk_at dksX3_reads_4 0 rfl rfl)
theorem dX3_reads_98 : decode cX3_reads 98 = .ok (.aload_n 0, 1) := dk_42 (dk_at dksX3_reads_4 2 rfl rfl)
theorem dX3_reads_99 : decode cX3_reads 99 = .ok (.getfield 101, 3) := dk_180 0 101 (dk_at dksX3_reads_4 3 rfl rfl)
theorem dX3_reads_102 : decode cX3_reads 102 = .ok (.if_icmp .ge 33, 3) := dk_162 0 33 (dk_at dksX3_reads_4 6 rfl rfl)
theorem dX3_reads_105 : decode cX3_reads 105 = .ok (.aload_n 0, 1) := dk_42 (dk_at dksX3_reads_4 9 rfl rfl)
theorem dX3_reads_106 : decode cX3_reads 106 = .ok (.getfield 73, 3) := dk_180 0 73 (dk_at dksX3_reads_4 10 rfl rfl)
theorem dX3_reads_109 : decode cX3_reads 109 = .ok (.iload 5, 2) := dk_21 5 (dk_at dksX3_reads_4 13 rfl rfl)
theorem dX3_reads_111 : decode cX3_reads 111 = .ok (.iload 4, 2) := dk_21 4 (dk_at dksX3_reads_4 15 rfl rfl)
theorem dX3_reads_113 : decode cX3_reads 113 = .ok (.invokestatic 314, 3) := dk_184 1 58 (dk_at dksX3_reads_4 17 rfl rfl)
theorem dX3_reads_116 : decode cX3_reads 116 = .ok (.aload_n 0, 1) := dk_42 (dk_at dksX3_reads_4 20 rfl rfl)
theorem dX3_reads_117 : decode cX3_reads 117 = .ok (.getfield 48, 3) := dk_180 0 48 (dk_at dksX3_reads_4 21 rfl rfl)
theorem dX3_reads_120 : decode cX3_reads 120 = .ok (.iload 5, 2) := dk_21 5 (dk_at dksX3_reads_5 0 rfl rfl)
theorem dX3_reads_122 : decode cX3_reads 122 = .ok (.iaload, 1) := dk_46 (dk_at dksX3_reads_5 2 rfl rfl)
theorem dX3_reads_123 : decode cX3_reads 123 = .ok (.iadd, 1) := dk_96 (dk_at dksX3_reads_5 3 rfl rfl)
theorem dX3_reads_124 : decode cX3_reads 124 = .ok (.dup2, 1) := dk_92 (dk_at dksX3_reads_5 4 rfl rfl)
theorem dX3_reads_125 : decode cX3_reads 125 = .ok (.iaload, 1) := dk_46 (dk_at dksX3_reads_5 5 rfl rfl)
theorem dX3_reads_126 : decode cX3_reads 126 = .ok (.iconst 1, 1) := dk_4 (dk_at dksX3_reads_5 6 rfl rfl)
theorem dX3_reads_127 : decode cX3_reads 127 = .ok (.iadd, 1) := dk_96 (dk_at dksX3_reads_5 7 rfl rfl)
theorem dX3_reads_128 : decode cX3_reads 128 = .ok (.iastore, 1) := dk_79 (dk_at dksX3_reads_5 8 rfl rfl)
theorem dX3_reads_129 : decode cX3_reads 129 = .ok (.iinc 5 1, 3) := dk_132 5 1 (dk_at dksX3_reads_5 9 rfl rfl)
theorem dX3_reads_132 : decode cX3_reads 132 = .ok (.goto (-36), 3) := dk_167 255 220 (dk_at dksX3_reads_5 12 rfl rfl)
theorem dX3_reads_135 : decode cX3_reads 135 = .ok (.aload_n 0, 1) := dk_42 (dk_at dksX3_reads_5 15 rfl rfl)
theorem dX3_reads_136 : decode cX3_reads 136 = .ok (.aload_n 0, 1) := dk_42 (dk_at dksX3_reads_5 16 rfl rfl)
theorem dX3_reads_137 : decode cX3_reads 137 = .ok (.getfield 48, 3) := dk_180 0 48 (dk_at dksX3_reads_5 17 rfl rfl)
theorem dX3_reads_140 : decode cX3_reads 140 = .ok (.invokevirtual 237, 3) := dk_182 0 237 (dk_at dksX3_reads_5 20 rfl rfl)
theorem dX3_reads_143 : decode cX3_reads 143 = .ok (.iinc 4 1, 3) := dk_132 4 1 (dk_at dksX3_reads_6 0 rfl rfl)
theorem dX3_reads_146 : decode cX3_reads 146 = .ok (.goto (-60), 3) := dk_167 255 196 (dk_at dksX3_reads_6 3 rfl rfl)
theorem dX3_reads_149 : decode cX3_reads 149 = .ok (.aload_n 0, 1) := dk_42 (dk_at dksX3_reads_6 6 rfl rfl)
theorem dX3_reads_150 : decode cX3_reads 150 = .ok (.iconst (-1), 1) := dk_2 (dk_at dksX3_reads_6 7 rfl rfl)
theorem dX3_reads_151 : decode cX3_reads 151 = .ok (.putfield 57, 3) := dk_181 0 57 (dk_at dksX3_reads_6 8 rfl rfl)
theorem dX3_reads_154 : decode cX3_reads 154 = .ok (.iinc 3 1, 3) := dk_132 3 1 (dk_at dksX3_reads_6 11 rfl rfl)
theorem dX3_reads_157 : decode cX3_reads 157 = .ok (.goto (-116), 3) := dk_167 255 140 (dk_at dksX3_reads_6 14 rfl rfl)
theorem dX3_reads_160 : decode cX3_reads 160 = .ok (.iinc 2 1, 3) := dk_132 2 1 (dk_at dksX3_reads_6 17 rfl rfl)
theorem dX3_reads_163 : decode cX3_reads 163 = .ok (.goto (-132), 3) := dk_167 255 124 (dk_at dksX3_reads_6 20 rfl rfl)
theorem dX3_reads_166 : decode cX3_reads 166 = .ok (.iload_n 1, 1) := dk_27 (dk_at dksX3_reads_6 23 rfl rfl)
theorem dX3_reads_167 : decode cX3_reads 167 = .ok (.ifCond .ne 6, 3) := dk_154 0 6 (dk_at dksX3_reads_7 0 rfl rfl)
theorem dX3_reads_170 : decode cX3_reads 170 = .ok (.bipush (-2), 2) := dk_16 254 (dk_at dksX3_reads_7 3 rfl rfl)
theorem dX3_reads_172 : decode cX3_reads 172 = .ok (.ireturn, 1) := dk_172 (dk_at dksX3_reads_7 5 rfl rfl)
theorem dX3_reads_173 : decode cX3_reads 173 = .ok (.iconst (-1), 1) := dk_2 (dk_at dksX3_reads_7 6 rfl rfl)
theorem dX3_reads_174 : decode cX3_reads 174 = .ok (.istore_n 2, 1) := dk_61 (dk_at dksX3_reads_7 7 rfl rfl)
theorem dX3_reads_175 : decode cX3_reads 175 = .ok (.ldc_w 307, 3) := dk_19 1 51 (dk_at dksX3_reads_7 8 rfl rfl)
theorem dX3_reads_178 : decode cX3_reads 178 = .ok (.istore_n 3, 1) := dk_62 (dk_at dksX3_reads_7 11 rfl rfl)
theorem dX3_reads_179 : decode cX3_reads 179 = .ok (.iconst 0, 1) := dk_3 (dk_at dksX3_reads_7 12 rfl rfl)
theorem dX3_reads_180 : decode cX3_reads 180 = .ok (.istore 4, 2) := dk_54 4 (dk_at dksX3_reads_7 13 rfl rfl)
theorem dX3_reads_182 : decode cX3_reads 182 = .ok (.iload 4, 2) := dk_21 4 (dk_at dksX3_reads_7 15 rfl rfl)
theorem dX3_reads_184 : decode cX3_reads 184 = .ok (.aload_n 0, 1) := dk_42 (dk_at dksX3_reads_7 17 rfl rfl)
theorem dX3_reads_185 : decode cX3_reads 185 = .ok (.getfield 101, 3) := dk_180 0 101 (dk_at dksX3_reads_7 18 rfl rfl)
theorem dX3_reads_188 : decode cX3_reads 188 = .ok (.if_icmp .ge 87, 3) := dk_162 0 87 (dk_at dksX3_reads_7 21 rfl rfl)
theorem dX3_reads_191 : decode cX3_reads 191 = .ok (.iconst 0, 1) := dk_3 (dk_at dksX3_reads_8 0 rfl rfl)
theorem dX3_reads_192 : decode cX3_reads 192 = .ok (.istore 5, 2) := dk_54 5 (dk_at dksX3_reads_8 1 rfl rfl)
theorem dX3_reads_194 : decode cX3_reads 194 = .ok (.iload 5, 2) := dk_21 5 (dk_at dksX3_reads_8 3 rfl rfl)
theorem dX3_reads_196 : decode cX3_reads 196 = .ok (.bipush 20, 2) := dk_16 20 (dk_at dksX3_reads_8 5 rfl rfl)
theorem dX3_reads_198 : decode cX3_reads 198 = .ok (.if_icmp .gt 71, 3) := dk_163 0 71 (dk_at dksX3_reads_8 7 rfl rfl)
theorem dX3_reads_201 : decode cX3_reads 201 = .ok (.iconst 0, 1) := dk_3 (dk_at dksX3_reads_8 10 rfl rfl)
theorem dX3_reads_202 : decode cX3_reads 202 = .ok (.istore 6, 2) := dk_54 6 (dk_at dksX3_reads_8 11 rfl rfl)
theorem dX3_reads_204 : decode cX3_reads 204 = .ok (.iconst 0, 1) := dk_3 (dk_at dksX3_reads_8 13 rfl rfl)
theorem dX3_reads_205 : decode cX3_reads 205 = .ok (.istore 7, 2) := dk_54 7 (dk_at dksX3_reads_8 14 rfl rfl)
theorem dX3_reads_207 : decode cX3_reads 207 = .ok (.iload 7, 2) := dk_21 7 (dk_at dksX3_reads_8 16 rfl rfl)
theorem dX3_reads_209 : decode cX3_reads 209 = .ok (.bipush 99, 2) := dk_16 99 (dk_at dksX3_reads_8 18 rfl rfl)
theorem dX3_reads_211 : decode cX3_reads 211 = .ok (.if_icmp .gt 31, 3) := dk_163 0 31 (dk_at dksX3_reads_8 20 rfl rfl)
theorem dX3_reads_214 : decode cX3_reads 214 = .ok (.iload 6, 2) := dk_21 6 (dk_at dksX3_reads_9 0 rfl rfl)
theorem dX3_reads_216 : decode cX3_reads 216 = .ok (.aload_n 0, 1) := dk_42 (dk_at dksX3_reads_9 2 rfl rfl)
theorem dX3_reads_217 : decode cX3_reads 217 = .ok (.getfield 73, 3) := dk_180 0 73 (dk_at dksX3_reads_9 3 rfl rfl)
theorem dX3_reads_220 : decode cX3_reads 220 = .ok (.iload 4, 2) := dk_21 4 (dk_at dksX3_reads_9 6 rfl rfl)
theorem dX3_reads_222 : decode cX3_reads 222 = .ok (.iload 5, 2) := dk_21 5 (dk_at dksX3_reads_9 8 rfl rfl)
theorem dX3_reads_224 : decode cX3_reads 224 = .ok (.invokestatic 314, 3) := dk_184 1 58 (dk_at dksX3_reads_9 10 rfl rfl)
theorem dX3_reads_227 : decode cX3_reads 227 = .ok (.iload 7, 2) := dk_21 7 (dk_at dksX3_reads_9 13 rfl rfl)
theorem dX3_reads_229 : decode cX3_reads 229 = .ok (.iadd, 1) := dk_96 (dk_at dksX3_reads_9 15 rfl rfl)
theorem dX3_reads_230 : decode cX3_reads 230 = .ok (.iaload, 1) := dk_46 (dk_at dksX3_reads_9 16 rfl rfl)
theorem dX3_reads_231 : decode cX3_reads 231 = .ok (.invokestatic 217, 3) := dk_184 0 217 (dk_at dksX3_reads_9 17 rfl rfl)
theorem dX3_reads_234 : decode cX3_reads 234 = .ok (.istore 6, 2) := dk_54 6 (dk_at dksX3_reads_9 20 rfl rfl)
theorem dX3_reads_236 : decode cX3_reads 236 = .ok (.iinc 7 1, 3) := dk_132 7 1 (dk_at dksX3_reads_10 0 rfl rfl)
theorem dX3_reads_239 : decode cX3_reads 239 = .ok (.goto (-32), 3) := dk_167 255 224 (dk_at dksX3_reads_10 3 rfl rfl)
theorem dX3_reads_242 : decode cX3_reads 242 = .ok (.iload 6, 2) := dk_21 6 (dk_at dksX3_reads_10 6 rfl rfl)
theorem dX3_reads_244 : decode cX3_reads 244 = .ok (.iload_n 3, 1) := dk_29 (dk_at dksX3_reads_10 8 rfl rfl)
theorem dX3_reads_245 : decode cX3_reads 245 = .ok (.if_icmp .lt 6, 3) := dk_161 0 6 (dk_at dksX3_reads_10 9 rfl rfl)
theorem dX3_reads_248 : decode cX3_reads 248 = .ok (.goto 15, 3) := dk_167 0 15 (dk_at dksX3_reads_10 12 rfl rfl)
theorem dX3_reads_251 : decode cX3_reads 251 = .ok (.bipush 21, 2) := dk_16 21 (dk_at dksX3_reads_10 15 rfl rfl)
theorem dX3_reads_253 : decode cX3_reads 253 = .ok (.iload 4, 2) := dk_21 4 (dk_at dksX3_reads_10 17 rfl rfl)
theorem dX3_reads_255 : decode cX3_reads 255 = .ok (.imul, 1) := dk_104 (dk_at dksX3_reads_10 19 rfl rfl)
theorem dX3_reads_256 : decode cX3_reads 256 = .ok (.iload 5, 2) := dk_21 5 (dk_at dksX3_reads_10 20 rfl rfl)
theorem dX3_reads_258 : decode cX3_reads 258 = .ok (.iadd, 1) := dk_96 (dk_at dksX3_reads_10 22 rfl rfl)
theorem dX3_reads_259 : decode cX3_reads 259 = .ok (.istore_n 2, 1) := dk_61 (dk_at dksX3_reads_10 23 rfl rfl)
theorem dX3_reads_260 : decode cX3_reads 260 = .ok (.iload 6, 2) := dk_21 6 (dk_at dksX3_reads_11 0 rfl rfl)
theorem dX3_reads_262 : decode cX3_reads 262 = .ok (.istore_n 3, 1) := dk_62 (dk_at dksX3_reads_11 2 rfl rfl)
theorem dX3_reads_263 : decode cX3_reads 263 = .ok (.iinc 5 1, 3) := dk_132 5 1 (dk_at dksX3_reads_11 3 rfl rfl)
theorem dX3_reads_266 : decode cX3_reads 266 = .ok (.goto (-72), 3) := dk_167 255 184 (dk_at dksX3_reads_11 6 rfl rfl)
theorem dX3_reads_269 : decode cX3_reads 269 = .ok (.iinc 4 1, 3) := dk_132 4 1 (dk_at dksX3_reads_11 9 rfl rfl)
theorem dX3_reads_272 : decode cX3_reads 272 = .ok (.goto (-90), 3) := dk_167 255 166 (dk_at dksX3_reads_11 12 rfl rfl)
theorem dX3_reads_275 : decode cX3_reads 275 = .ok (.aload_n 0, 1) := dk_42 (dk_at dksX3_reads_11 15 rfl rfl)
theorem dX3_reads_276 : decode cX3_reads 276 = .ok (.iconst 0, 1) := dk_3 (dk_at dksX3_reads_11 16 rfl rfl)
theorem dX3_reads_277 : decode cX3_reads 277 = .ok (.putfield 98, 3) := dk_181 0 98 (dk_at dksX3_reads_11 17 rfl rfl)
theorem dX3_reads_280 : decode cX3_reads 280 = .ok (.aload_n 0, 1) := dk_42 (dk_at dksX3_reads_11 20 rfl rfl)
theorem dX3_reads_281 : decode cX3_reads 281 = .ok (.iload_n 3, 1) := dk_29 (dk_at dksX3_reads_11 21 rfl rfl)
theorem dX3_reads_282 : decode cX3_reads 282 = .ok (.i2l, 1) := dk_133 (dk_at dksX3_reads_11 22 rfl rfl)
theorem dX3_reads_283 : decode cX3_reads 283 = .ok (.invokevirtual 248, 3) := dk_182 0 248 (dk_at dksX3_reads_12 0 rfl rfl)
theorem dX3_reads_286 : decode cX3_reads 286 = .ok (.iload_n 2, 1) := dk_28 (dk_at dksX3_reads_12 3 rfl rfl)
theorem dX3_reads_287 : decode cX3_reads 287 = .ok (.ireturn, 1) := dk_172 (dk_at dksX3_reads_12 4 rfl rfl)
abbrev cX3_cellOf : ByteArray := prog_9_method_82_code
def yX3_cellOf : MethodName := ⟨RX3, "cellOf", "(II)I"⟩
def dkwX3_cellOf_0 : List UInt8 := [16, 21, 26, 104, 27, 96, 16, 100, 104, 172]
abbrev dktX3_cellOf_0 : List UInt8 := dkwX3_cellOf_0 ++ []
theorem dksX3_cellOf_0 : cX3_cellOf.data.toList.drop 0 = dktX3_cellOf_0 := by decide +kernel
theorem dX3_cellOf_0 : decode cX3_cellOf 0 = .ok (.bipush 21, 2) := dk_16 21 (dk_at dksX3_cellOf_0 0 rfl rfl)
theorem dX3_cellOf_2 : decode cX3_cellOf 2 = .ok (.iload_n 0, 1) := dk_26 (dk_at dksX3_cellOf_0 2 rfl rfl)
theorem dX3_cellOf_3 : decode cX3_cellOf 3 = .ok (.imul, 1) := dk_104 (dk_at dksX3_cellOf_0 3 rfl rfl)
theorem dX3_cellOf_4 : decode cX3_cellOf 4 = .ok (.iload_n 1, 1) := dk_27 (dk_at dksX3_cellOf_0 4 rfl rfl)
theorem dX3_cellOf_5 : decode cX3_cellOf 5 = .ok (.iadd, 1) := dk_96 (dk_at dksX3_cellOf_0 5 rfl rfl)
theorem dX3_cellOf_6 : decode cX3_cellOf 6 = .ok (.bipush 100, 2) := dk_16 100 (dk_at dksX3_cellOf_0 6 rfl rfl)
theorem dX3_cellOf_8 : decode cX3_cellOf 8 = .ok (.imul, 1) := dk_104 (dk_at dksX3_cellOf_0 8 rfl rfl)
theorem dX3_cellOf_9 : decode cX3_cellOf 9 = .ok (.ireturn, 1) := dk_172 (dk_at dksX3_cellOf_0 9 rfl rfl)
abbrev cX3_threat : ByteArray := prog_9_method_84_code
def yX3_threat : MethodName := ⟨RX3, "threat", "(I)I"⟩
def dkwX3_threat_5 : List UInt8 := [42, 180, 0, 9, 29, 46, 28, 130, 100, 133, 182, 0, 248, 4, 172, 132, 3, 1, 167, 255, 185, 3, 172]
abbrev dktX3_threat_5 : List UInt8 := dkwX3_threat_5 ++ []
def dkwX3_threat_4 : List UInt8 := [180, 0, 9, 29, 46, 161, 0, 6, 167, 0, 31, 42, 29, 133, 182, 0, 248, 42, 42, 180, 0, 9, 29, 46]
abbrev dktX3_threat_4 : List UInt8 := dkwX3_threat_4 ++ dktX3_threat_5
def dkwX3_threat_3 : List UInt8 := [162, 0, 69, 28, 153, 0, 65, 27, 29, 184, 1, 21, 153, 0, 51, 42, 180, 0, 9, 29, 46, 28, 130, 42]
abbrev dktX3_threat_3 : List UInt8 := dkwX3_threat_3 ++ dktX3_threat_4
def dkwX3_threat_2 : List UInt8 := [167, 0, 4, 3, 130, 61, 132, 3, 1, 167, 255, 224, 42, 3, 181, 0, 98, 3, 62, 29, 42, 180, 0, 101]
abbrev dktX3_threat_2 : List UInt8 := dkwX3_threat_2 ++ dktX3_threat_3
def dkwX3_threat_1 : List UInt8 := [42, 180, 0, 101, 162, 0, 30, 28, 27, 29, 184, 1, 21, 153, 0, 12, 42, 180, 0, 9, 29, 46]
abbrev dktX3_threat_1 : List UInt8 := dkwX3_threat_1 ++ dktX3_threat_2
def dkwX3_threat_0 : List UInt8 := [42, 3, 181, 0, 95, 27, 3, 42, 182, 1, 37, 184, 0, 104, 154, 0, 5, 2, 172, 3, 61, 3, 62, 29]
abbrev dktX3_threat_0 : List UInt8 := dkwX3_threat_0 ++ dktX3_threat_1
theorem dksX3_threat_0 : cX3_threat.data.toList.drop 0 = dktX3_threat_0 := by decide +kernel
theorem dksX3_threat_1 : cX3_threat.data.toList.drop 24 = dktX3_threat_1 := dk_seg dksX3_threat_0 24 rfl rfl
theorem dksX3_threat_2 : cX3_threat.data.toList.drop 46 = dktX3_threat_2 := dk_seg dksX3_threat_1 22 rfl rfl
theorem dksX3_threat_3 : cX3_threat.data.toList.drop 70 = dktX3_threat_3 := dk_seg dksX3_threat_2 24 rfl rfl
theorem dksX3_threat_4 : cX3_threat.data.toList.drop 94 = dktX3_threat_4 := dk_seg dksX3_threat_3 24 rfl rfl
theorem dksX3_threat_5 : cX3_threat.data.toList.drop 118 = dktX3_threat_5 := dk_seg dksX3_threat_4 24 rfl rfl
theorem dX3_threat_0 : decode cX3_threat 0 = .ok (.aload_n 0, 1) := dk_42 (dk_at dksX3_threat_0 0 rfl rfl)
theorem dX3_threat_1 : decode cX3_threat 1 = .ok (.iconst 0, 1) := dk_3 (dk_at dksX3_threat_0 1 rfl rfl)
theorem dX3_threat_2 : decode cX3_threat 2 = .ok (.putfield 95, 3) := dk_181 0 95 (dk_at dksX3_threat_0 2 rfl rfl)
theorem dX3_threat_5 : decode cX3_threat 5 = .ok (.iload_n 1, 1) := dk_27 (dk_at dksX3_threat_0 5 rfl rfl)
theorem dX3_threat_6 : decode cX3_threat 6 = .ok (.iconst 0, 1) := dk_3 (dk_at dksX3_threat_0 6 rfl rfl)
theorem dX3_threat_7 : decode cX3_threat 7 = .ok (.aload_n 0, 1) := dk_42 (dk_at dksX3_threat_0 7 rfl rfl)
theorem dX3_threat_8 : decode cX3_threat 8 = .ok (.invokevirtual 293, 3) := dk_182 1 37 (dk_at dksX3_threat_0 8 rfl rfl)
theorem dX3_threat_11 : decode cX3_threat 11 = .ok (.invokestatic 104, 3) := dk_184 0 104 (dk_at dksX3_threat_0 11 rfl rfl)
theorem dX3_threat_14 : decode cX3_threat 14 = .ok (.ifCond .ne 5, 3) := dk_154 0 5 (dk_at dksX3_threat_0 14 rfl rfl)
theorem dX3_threat_17 : decode cX3_threat 17 = .ok (.iconst (-1), 1) := dk_2 (dk_at dksX3_threat_0 17 rfl rfl)
theorem dX3_threat_18 : decode cX3_threat 18 = .ok (.ireturn, 1) := dk_172 (dk_at dksX3_threat_0 18 rfl rfl)
theorem dX3_threat_19 : decode cX3_threat 19 = .ok (.iconst 0, 1) := dk_3 (dk_at dksX3_threat_0 19 rfl rfl)
theorem dX3_threat_20 : decode cX3_threat 20 = .ok (.istore_n 2, 1) := dk_61 (dk_at dksX3_threat_0 20 rfl rfl)
theorem dX3_threat_21 : decode cX3_threat 21 = .ok (.iconst 0, 1) := dk_3 (dk_at dksX3_threat_0 21 rfl rfl)
theorem dX3_threat_22 : decode cX3_threat 22 = .ok (.istore_n 3, 1) := dk_62 (dk_at dksX3_threat_0 22 rfl rfl)
theorem dX3_threat_23 : decode cX3_threat 23 = .ok (.iload_n 3, 1) := dk_29 (dk_at dksX3_threat_0 23 rfl rfl)
theorem dX3_threat_24 : decode cX3_threat 24 = .ok (.aload_n 0, 1) := dk_42 (dk_at dksX3_threat_1 0 rfl rfl)
theorem dX3_threat_25 : decode cX3_threat 25 = .ok (.getfield 101, 3) := dk_180 0 101 (dk_at dksX3_threat_1 1 rfl rfl)
theorem dX3_threat_28 : decode cX3_threat 28 = .ok (.if_icmp .ge 30, 3) := dk_162 0 30 (dk_at dksX3_threat_1 4 rfl rfl)
theorem dX3_threat_31 : decode cX3_threat 31 = .ok (.iload_n 2, 1) := dk_28 (dk_at dksX3_threat_1 7 rfl rfl)
theorem dX3_threat_32 : decode cX3_threat 32 = .ok (.iload_n 1, 1) := dk_27 (dk_at dksX3_threat_1 8 rfl rfl)
theorem dX3_threat_33 : decode cX3_threat 33 = .ok (.iload_n 3, 1) := dk_29 (dk_at dksX3_threat_1 9 rfl rfl)
theorem dX3_threat_34 : decode cX3_threat 34 = .ok (.invokestatic 277, 3) := dk_184 1 21 (dk_at dksX3_threat_1 10 rfl rfl)
theorem dX3_threat_37 : decode cX3_threat 37 = .ok (.ifCond .eq 12, 3) := dk_153 0 12 (dk_at dksX3_threat_1 13 rfl rfl)
theorem dX3_threat_40 : decode cX3_threat 40 = .ok (.aload_n 0, 1) := dk_42 (dk_at dksX3_threat_1 16 rfl rfl)
theorem dX3_threat_41 : decode cX3_threat 41 = .ok (.getfield 9, 3) := dk_180 0 9 (dk_at dksX3_threat_1 17 rfl rfl)
theorem dX3_threat_44 : decode cX3_threat 44 = .ok (.iload_n 3, 1) := dk_29 (dk_at dksX3_threat_1 20 rfl rfl)
theorem dX3_threat_45 : decode cX3_threat 45 = .ok (.iaload, 1) := dk_46 (dk_at dksX3_threat_1 21 rfl rfl)
theorem dX3_threat_46 : decode cX3_threat 46 = .ok (.goto 4, 3) := dk_167 0 4 (dk_at dksX3_threat_2 0 rfl rfl)
theorem dX3_threat_49 : decode cX3_threat 49 = .ok (.iconst 0, 1) := dk_3 (dk_at dksX3_threat_2 3 rfl rfl)
theorem dX3_threat_50 : decode cX3_threat 50 = .ok (.ixor, 1) := dk_130 (dk_at dksX3_threat_2 4 rfl rfl)
theorem dX3_threat_51 : decode cX3_threat 51 = .ok (.istore_n 2, 1) := dk_61 (dk_at dksX3_threat_2 5 rfl rfl)
theorem dX3_threat_52 : decode cX3_threat 52 = .ok (.iinc 3 1, 3) := dk_132 3 1 (dk_at dksX3_threat_2 6 rfl rfl)
theorem dX3_threat_55 : decode cX3_threat 55 = .ok (.goto (-32), 3) := dk_167 255 224 (dk_at dksX3_threat_2 9 rfl rfl)
theorem dX3_threat_58 : decode cX3_threat 58 = .ok (.aload_n 0, 1) := dk_42 (dk_at dksX3_threat_2 12 rfl rfl)
theorem dX3_threat_59 : decode cX3_threat 59 = .ok (.iconst 0, 1) := dk_3 (dk_at dksX3_threat_2 13 rfl rfl)
theorem dX3_threat_60 : decode cX3_threat 60 = .ok (.putfield 98, 3) := dk_181 0 98 (dk_at dksX3_threat_2 14 rfl rfl)
theorem dX3_threat_63 : decode cX3_threat 63 = .ok (.iconst 0, 1) := dk_3 (dk_at dksX3_threat_2 17 rfl rfl)
theorem dX3_threat_64 : decode cX3_threat 64 = .ok (.istore_n 3, 1) := dk_62 (dk_at dksX3_threat_2 18 rfl rfl)
theorem dX3_threat_65 : decode cX3_threat 65 = .ok (.iload_n 3, 1) := dk_29 (dk_at dksX3_threat_2 19 rfl rfl)
theorem dX3_threat_66 : decode cX3_threat 66 = .ok (.aload_n 0, 1) := dk_42 (dk_at dksX3_threat_2 20 rfl rfl)
theorem dX3_threat_67 : decode cX3_threat 67 = .ok (.getfield 101, 3) := dk_180 0 101 (dk_at dksX3_threat_2 21 rfl rfl)
theorem dX3_threat_70 : decode cX3_threat 70 = .ok (.if_icmp .ge 69, 3) := dk_162 0 69 (dk_at dksX3_threat_3 0 rfl rfl)
theorem dX3_threat_73 : decode cX3_threat 73 = .ok (.iload_n 2, 1) := dk_28 (dk_at dksX3_threat_3 3 rfl rfl)
theorem dX3_threat_74 : decode cX3_threat 74 = .ok (.ifCond .eq 65, 3) := dk_153 0 65 (dk_at dksX3_threat_3 4 rfl rfl)
theorem dX3_threat_77 : decode cX3_threat 77 = .ok (.iload_n 1, 1) := dk_27 (dk_at dksX3_threat_3 7 rfl rfl)
theorem dX3_threat_78 : decode cX3_threat 78 = .ok (.iload_n 3, 1) := dk_29 (dk_at dksX3_threat_3 8 rfl rfl)
theorem dX3_threat_79 : decode cX3_threat 79 = .ok (.invokestatic 277, 3) := dk_184 1 21 (dk_at dksX3_threat_3 9 rfl rfl)
theorem dX3_threat_82 : decode cX3_threat 82 = .ok (.ifCond .eq 51, 3) := dk_153 0 51 (dk_at dksX3_threat_3 12 rfl rfl)
theorem dX3_threat_85 : decode cX3_threat 85 = .ok (.aload_n 0, 1) := dk_42 (dk_at dksX3_threat_3 15 rfl rfl)
theorem dX3_threat_86 : decode cX3_threat 86 = .ok (.getfield 9, 3) := dk_180 0 9 (dk_at dksX3_threat_3 16 rfl rfl)
theorem dX3_threat_89 : decode cX3_threat 89 = .ok (.iload_n 3, 1) := dk_29 (dk_at dksX3_threat_3 19 rfl rfl)
theorem dX3_threat_90 : decode cX3_threat 90 = .ok (.iaload, 1) := dk_46 (dk_at dksX3_threat_3 20 rfl rfl)
theorem dX3_threat_91 : decode cX3_threat 91 = .ok (.iload_n 2, 1) := dk_28 (dk_at dksX3_threat_3 21 rfl rfl)
theorem dX3_threat_92 : decode cX3_threat 92 = .ok (.ixor, 1) := dk_130 (dk_at dksX3_threat_3 22 rfl rfl)
theorem dX3_threat_93 : decode cX3_threat 93 = .ok (.aload_n 0, 1) := dk_42 (dk_at dksX3_threat_3 23 rfl rfl)
theorem dX3_threat_94 : decode cX3_threat 94 = .ok (.getfield 9, 3) := dk_180 0 9 (dk_at dksX3_threat_4 0 rfl rfl)
theorem dX3_threat_97 : decode cX3_threat 97 = .ok (.iload_n 3, 1) := dk_29 (dk_at dksX3_threat_4 3 rfl rfl)
theorem dX3_threat_98 : decode cX3_threat 98 = .ok (.iaload, 1) := dk_46 (dk_at dksX3_threat_4 4 rfl rfl)
theorem dX3_threat_99 : decode cX3_threat 99 = .ok (.if_icmp .lt 6, 3) := dk_161 0 6 (dk_at dksX3_threat_4 5 rfl rfl)
theorem dX3_threat_102 : decode cX3_threat 102 = .ok (.goto 31, 3) := dk_167 0 31 (dk_at dksX3_threat_4 8 rfl rfl)
theorem dX3_threat_105 : decode cX3_threat 105 = .ok (.aload_n 0, 1) := dk_42 (dk_at dksX3_threat_4 11 rfl rfl)
theorem dX3_threat_106 : decode cX3_threat 106 = .ok (.iload_n 3, 1) := dk_29 (dk_at dksX3_threat_4 12 rfl rfl)
theorem dX3_threat_107 : decode cX3_threat 107 = .ok (.i2l, 1) := dk_133 (dk_at dksX3_threat_4 13 rfl rfl)
theorem dX3_threat_108 : decode cX3_threat 108 = .ok (.invokevirtual 248, 3) := dk_182 0 248 (dk_at dksX3_threat_4 14 rfl rfl)
theorem dX3_threat_111 : decode cX3_threat 111 = .ok (.aload_n 0, 1) := dk_42 (dk_at dksX3_threat_4 17 rfl rfl)
theorem dX3_threat_112 : decode cX3_threat 112 = .ok (.aload_n 0, 1) := dk_42 (dk_at dksX3_threat_4 18 rfl rfl)
theorem dX3_threat_113 : decode cX3_threat 113 = .ok (.getfield 9, 3) := dk_180 0 9 (dk_at dksX3_threat_4 19 rfl rfl)
theorem dX3_threat_116 : decode cX3_threat 116 = .ok (.iload_n 3, 1) := dk_29 (dk_at dksX3_threat_4 22 rfl rfl)
theorem dX3_threat_117 : decode cX3_threat 117 = .ok (.iaload, 1) := dk_46 (dk_at dksX3_threat_4 23 rfl rfl)
theorem dX3_threat_118 : decode cX3_threat 118 = .ok (.aload_n 0, 1) := dk_42 (dk_at dksX3_threat_5 0 rfl rfl)
theorem dX3_threat_119 : decode cX3_threat 119 = .ok (.getfield 9, 3) := dk_180 0 9 (dk_at dksX3_threat_5 1 rfl rfl)
theorem dX3_threat_122 : decode cX3_threat 122 = .ok (.iload_n 3, 1) := dk_29 (dk_at dksX3_threat_5 4 rfl rfl)
theorem dX3_threat_123 : decode cX3_threat 123 = .ok (.iaload, 1) := dk_46 (dk_at dksX3_threat_5 5 rfl rfl)
theorem dX3_threat_124 : decode cX3_threat 124 = .ok (.iload_n 2, 1) := dk_28 (dk_at dksX3_threat_5 6 rfl rfl)
theorem dX3_threat_125 : decode cX3_threat 125 = .ok (.ixor, 1) := dk_130 (dk_at dksX3_threat_5 7 rfl rfl)
theorem dX3_threat_126 : decode cX3_threat 126 = .ok (.isub, 1) := dk_100 (dk_at dksX3_threat_5 8 rfl rfl)
theorem dX3_threat_127 : decode cX3_threat 127 = .ok (.i2l, 1) := dk_133 (dk_at dksX3_threat_5 9 rfl rfl)
theorem dX3_threat_128 : decode cX3_threat 128 = .ok (.invokevirtual 248, 3) := dk_182 0 248 (dk_at dksX3_threat_5 10 rfl rfl)
theorem dX3_threat_131 : decode cX3_threat 131 = .ok (.iconst 1, 1) := dk_4 (dk_at dksX3_threat_5 13 rfl rfl)
theorem dX3_threat_132 : decode cX3_threat 132 = .ok (.ireturn, 1) := dk_172 (dk_at dksX3_threat_5 14 rfl rfl)
theorem dX3_threat_133 : decode cX3_threat 133 = .ok (.iinc 3 1, 3) := dk_132 3 1 (dk_at dksX3_threat_5 15 rfl rfl)
theorem dX3_threat_136 : decode cX3_threat 136 = .ok (.goto (-71), 3) := dk_167 255 185 (dk_at dksX3_threat_5 18 rfl rfl)
theorem dX3_threat_139 : decode cX3_threat 139 = .ok (.iconst 0, 1) := dk_3 (dk_at dksX3_threat_5 21 rfl rfl)
theorem dX3_threat_140 : decode cX3_threat 140 = .ok (.ireturn, 1) := dk_172 (dk_at dksX3_threat_5 22 rfl rfl)
abbrev cX3_treaty : ByteArray := prog_9_method_86_code
def yX3_treaty : MethodName := ⟨RX3, "treaty", "(I)I"⟩
def dkwX3_treaty_6 : List UInt8 := [133, 182, 0, 248, 42, 28, 154, 0, 7, 9, 167, 0, 6, 21, 4, 133, 182, 0, 248, 28, 172]
abbrev dktX3_treaty_6 : List UInt8 := dkwX3_treaty_6 ++ []
def dkwX3_treaty_5 : List UInt8 := [21, 5, 128, 62, 21, 4, 21, 5, 126, 54, 4, 132, 5, 1, 167, 255, 152, 42, 3, 181, 0, 98, 42, 29]
abbrev dktX3_treaty_5 : List UInt8 := dkwX3_treaty_5 ++ dktX3_treaty_6
def dkwX3_treaty_4 : List UInt8 := [167, 0, 4, 3, 54, 6, 132, 7, 1, 167, 255, 208, 21, 6, 154, 0, 6, 167, 0, 18, 132, 2, 1, 29]
abbrev dktX3_treaty_4 : List UInt8 := dkwX3_treaty_4 ++ dktX3_treaty_5
def dkwX3_treaty_3 : List UInt8 := [184, 1, 21, 153, 0, 20, 42, 21, 5, 4, 21, 7, 120, 2, 130, 126, 182, 1, 61, 27, 162, 0, 7, 4]
abbrev dktX3_treaty_3 : List UInt8 := dkwX3_treaty_3 ++ dktX3_treaty_4
def dkwX3_treaty_2 : List UInt8 := [167, 0, 4, 3, 54, 6, 3, 54, 7, 21, 7, 7, 162, 0, 48, 21, 6, 153, 0, 34, 21, 5, 21, 7]
abbrev dktX3_treaty_2 : List UInt8 := dkwX3_treaty_2 ++ dktX3_treaty_3
def dkwX3_treaty_1 : List UInt8 := [54, 4, 3, 54, 5, 21, 5, 16, 16, 162, 0, 103, 42, 21, 5, 182, 1, 61, 27, 161, 0, 7, 4]
abbrev dktX3_treaty_1 : List UInt8 := dkwX3_treaty_1 ++ dktX3_treaty_2
def dkwX3_treaty_0 : List UInt8 := [42, 3, 181, 0, 95, 27, 3, 17, 3, 231, 184, 0, 104, 154, 0, 5, 2, 172, 3, 61, 3, 62, 16, 15]
abbrev dktX3_treaty_0 : List UInt8 := dkwX3_treaty_0 ++ dktX3_treaty_1
theorem dksX3_treaty_0 : cX3_treaty.data.toList.drop 0 = dktX3_treaty_0 := by decide +kernel
theorem dksX3_treaty_1 : cX3_treaty.data.toList.drop 24 = dktX3_treaty_1 := dk_seg dksX3_treaty_0 24 rfl rfl
theorem dksX3_treaty_2 : cX3_treaty.data.toList.drop 47 = dktX3_treaty_2 := dk_seg dksX3_treaty_1 23 rfl rfl
theorem dksX3_treaty_3 : cX3_treaty.data.toList.drop 71 = dktX3_treaty_3 := dk_seg dksX3_treaty_2 24 rfl rfl
theorem dksX3_treaty_4 : cX3_treaty.data.toList.drop 95 = dktX3_treaty_4 := dk_seg dksX3_treaty_3 24 rfl rfl
theorem dksX3_treaty_5 : cX3_treaty.data.toList.drop 119 = dktX3_treaty_5 := dk_seg dksX3_treaty_4 24 rfl rfl
theorem dksX3_treaty_6 : cX3_treaty.data.toList.drop 143 = dktX3_treaty_6 := dk_seg dksX3_treaty_5 24 rfl rfl
theorem dX3_treaty_0 : decode cX3_treaty 0 = .ok (.aload_n 0, 1) := dk_42 (dk_at dksX3_treaty_0 0 rfl rfl)
theorem dX3_treaty_1 : decode cX3_treaty 1 = .ok (.iconst 0, 1) := dk_3 (dk_at dksX3_treaty_0 1 rfl rfl)
theorem dX3_treaty_2 : decode cX3_treaty 2 = .ok (.putfield 95, 3) := dk_181 0 95 (dk_at dksX3_treaty_0 2 rfl rfl)
theorem dX3_treaty_5 : decode cX3_treaty 5 = .ok (.iload_n 1, 1) := dk_27 (dk_at dksX3_treaty_0 5 rfl rfl)
theorem dX3_treaty_6 : decode cX3_treaty 6 = .ok (.iconst 0, 1) := dk_3 (dk_at dksX3_treaty_0 6 rfl rfl)
theorem dX3_treaty_7 : decode cX3_treaty 7 = .ok (.sipush 999, 3) := dk_17 3 231 (dk_at dksX3_treaty_0 7 rfl rfl)
theorem dX3_treaty_10 : decode cX3_treaty 10 = .ok (.invokestatic 104, 3) := dk_184 0 104 (dk_at dksX3_treaty_0 10 rfl rfl)
theorem dX3_treaty_13 : decode cX3_treaty 13 = .ok (.ifCond .ne 5, 3) := dk_154 0 5 (dk_at dksX3_treaty_0 13 rfl rfl)
theorem dX3_treaty_16 : decode cX3_treaty 16 = .ok (.iconst (-1), 1) := dk_2 (dk_at dksX3_treaty_0 16 rfl rfl)
theorem dX3_treaty_17 : decode cX3_treaty 17 = .ok (.ireturn, 1) := dk_172 (dk_at dksX3_treaty_0 17 rfl rfl)
theorem dX3_treaty_18 : decode cX3_treaty 18 = .ok (.iconst 0, 1) := dk_3 (dk_at dksX3_treaty_0 18 rfl rfl)
theorem dX3_treaty_19 : decode cX3_treaty 19 = .ok (.istore_n 2, 1) := dk_61 (dk_at dksX3_treaty_0 19 rfl rfl)
theorem dX3_treaty_20 : decode cX3_treaty 20 = .ok (.iconst 0, 1) := dk_3 (dk_at dksX3_treaty_0 20 rfl rfl)
theorem dX3_treaty_21 : decode cX3_treaty 21 = .ok (.istore_n 3, 1) := dk_62 (dk_at dksX3_treaty_0 21 rfl rfl)
theorem dX3_treaty_22 : decode cX3_treaty 22 = .ok (.bipush 15, 2) := dk_16 15 (dk_at dksX3_treaty_0 22 rfl rfl)
theorem dX3_treaty_24 : decode cX3_treaty 24 = .ok (.istore 4, 2) := dk_54 4 (dk_at dksX3_treaty_1 0 rfl rfl)
theorem dX3_treaty_26 : decode cX3_treaty 26 = .ok (.iconst 0, 1) := dk_3 (dk_at dksX3_treaty_1 2 rfl rfl)
theorem dX3_treaty_27 : decode cX3_treaty 27 = .ok (.istore 5, 2) := dk_54 5 (dk_at dksX3_treaty_1 3 rfl rfl)
theorem dX3_treaty_29 : decode cX3_treaty 29 = .ok (.iload 5, 2) := dk_21 5 (dk_at dksX3_treaty_1 5 rfl rfl)
theorem dX3_treaty_31 : decode cX3_treaty 31 = .ok (.bipush 16, 2) := dk_16 16 (dk_at dksX3_treaty_1 7 rfl rfl)
theorem dX3_treaty_33 : decode cX3_treaty 33 = .ok (.if_icmp .ge 103, 3) := dk_162 0 103 (dk_at dksX3_treaty_1 9 rfl rfl)
theorem dX3_treaty_36 : decode cX3_treaty 36 = .ok (.aload_n 0, 1) := dk_42 (dk_at dksX3_treaty_1 12 rfl rfl)
theorem dX3_treaty_37 : decode cX3_treaty 37 = .ok (.iload 5, 2) := dk_21 5 (dk_at dksX3_treaty_1 13 rfl rfl)
theorem dX3_treaty_39 : decode cX3_treaty 39 = .ok (.invokevirtual 317, 3) := dk_182 1 61 (dk_at dksX3_treaty_1 15 rfl rfl)
theorem dX3_treaty_42 : decode cX3_treaty 42 = .ok (.iload_n 1, 1) := dk_27 (dk_at dksX3_treaty_1 18 rfl rfl)
theorem dX3_treaty_43 : decode cX3_treaty 43 = .ok (.if_icmp .lt 7, 3) := dk_161 0 7 (dk_at dksX3_treaty_1 19 rfl rfl)
theorem dX3_treaty_46 : decode cX3_treaty 46 = .ok (.iconst 1, 1) := dk_4 (dk_at dksX3_treaty_1 22 rfl rfl)
theorem dX3_treaty_47 : decode cX3_treaty 47 = .ok (.goto 4, 3) := dk_167 0 4 (dk_at dksX3_treaty_2 0 rfl rfl)
theorem dX3_treaty_50 : decode cX3_treaty 50 = .ok (.iconst 0, 1) := dk_3 (dk_at dksX3_treaty_2 3 rfl rfl)
theorem dX3_treaty_51 : decode cX3_treaty 51 = .ok (.istore 6, 2) := dk_54 6 (dk_at dksX3_treaty_2 4 rfl rfl)
theorem dX3_treaty_53 : decode cX3_treaty 53 = .ok (.iconst 0, 1) := dk_3 (dk_at dksX3_treaty_2 6 rfl rfl)
theorem dX3_treaty_54 : decode cX3_treaty 54 = .ok (.istore 7, 2) := dk_54 7 (dk_at dksX3_treaty_2 7 rfl rfl)
theorem dX3_treaty_56 : decode cX3_treaty 56 = .ok (.iload 7, 2) := dk_21 7 (dk_at dksX3_treaty_2 9 rfl rfl)
theorem dX3_treaty_58 : decode cX3_treaty 58 = .ok (.iconst 4, 1) := dk_7 (dk_at dksX3_treaty_2 11 rfl rfl)
theorem dX3_treaty_59 : decode cX3_treaty 59 = .ok (.if_icmp .ge 48, 3) := dk_162 0 48 (dk_at dksX3_treaty_2 12 rfl rfl)
theorem dX3_treaty_62 : decode cX3_treaty 62 = .ok (.iload 6, 2) := dk_21 6 (dk_at dksX3_treaty_2 15 rfl rfl)
theorem dX3_treaty_64 : decode cX3_treaty 64 = .ok (.ifCond .eq 34, 3) := dk_153 0 34 (dk_at dksX3_treaty_2 17 rfl rfl)
theorem dX3_treaty_67 : decode cX3_treaty 67 = .ok (.iload 5, 2) := dk_21 5 (dk_at dksX3_treaty_2 20 rfl rfl)
theorem dX3_treaty_69 : decode cX3_treaty 69 = .ok (.iload 7, 2) := dk_21 7 (dk_at dksX3_treaty_2 22 rfl rfl)
theorem dX3_treaty_71 : decode cX3_treaty 71 = .ok (.invokestatic 277, 3) := dk_184 1 21 (dk_at dksX3_treaty_3 0 rfl rfl)
theorem dX3_treaty_74 : decode cX3_treaty 74 = .ok (.ifCond .eq 20, 3) := dk_153 0 20 (dk_at dksX3_treaty_3 3 rfl rfl)
theorem dX3_treaty_77 : decode cX3_treaty 77 = .ok (.aload_n 0, 1) := dk_42 (dk_at dksX3_treaty_3 6 rfl rfl)
theorem dX3_treaty_78 : decode cX3_treaty 78 = .ok (.iload 5, 2) := dk_21 5 (dk_at dksX3_treaty_3 7 rfl rfl)
theorem dX3_treaty_80 : decode cX3_treaty 80 = .ok (.iconst 1, 1) := dk_4 (dk_at dksX3_treaty_3 9 rfl rfl)
theorem dX3_treaty_81 : decode cX3_treaty 81 = .ok (.iload 7, 2) := dk_21 7 (dk_at dksX3_treaty_3 10 rfl rfl)
theorem dX3_treaty_83 : decode cX3_treaty 83 = .ok (.ishl, 1) := dk_120 (dk_at dksX3_treaty_3 12 rfl rfl)
theorem dX3_treaty_84 : decode cX3_treaty 84 = .ok (.iconst (-1), 1) := dk_2 (dk_at dksX3_treaty_3 13 rfl rfl)
theorem dX3_treaty_85 : decode cX3_treaty 85 = .ok (.ixor, 1) := dk_130 (dk_at dksX3_treaty_3 14 rfl rfl)
theorem dX3_treaty_86 : decode cX3_treaty 86 = .ok (.iand, 1) := dk_126 (dk_at dksX3_treaty_3 15 rfl rfl)
theorem dX3_treaty_87 : decode cX3_treaty 87 = .ok (.invokevirtual 317, 3) := dk_182 1 61 (dk_at dksX3_treaty_3 16 rfl rfl)
theorem dX3_treaty_90 : decode cX3_treaty 90 = .ok (.iload_n 1, 1) := dk_27 (dk_at dksX3_treaty_3 19 rfl rfl)
theorem dX3_treaty_91 : decode cX3_treaty 91 = .ok (.if_icmp .ge 7, 3) := dk_162 0 7 (dk_at dksX3_treaty_3 20 rfl rfl)
theorem dX3_treaty_94 : decode cX3_treaty 94 = .ok (.iconst 1, 1) := dk_4 (dk_at dksX3_treaty_3 23 rfl rfl)
theorem dX3_treaty_95 : decode cX3_treaty 95 = .ok (.goto 4, 3) := dk_167 0 4 (dk_at dksX3_treaty_4 0 rfl rfl)
theorem dX3_treaty_98 : decode cX3_treaty 98 = .ok (.iconst 0, 1) := dk_3 (dk_at dksX3_treaty_4 3 rfl rfl)
theorem dX3_treaty_99 : decode cX3_treaty 99 = .ok (.istore 6, 2) := dk_54 6 (dk_at dksX3_treaty_4 4 rfl rfl)
theorem dX3_treaty_101 : decode cX3_treaty 101 = .ok (.iinc 7 1, 3) := dk_132 7 1 (dk_at dksX3_treaty_4 6 rfl rfl)
theorem dX3_treaty_104 : decode cX3_treaty 104 = .ok (.goto (-48), 3) := dk_167 255 208 (dk_at dksX3_treaty_4 9 rfl rfl)
theorem dX3_treaty_107 : decode cX3_treaty 107 = .ok (.iload 6, 2) := dk_21 6 (dk_at dksX3_treaty_4 12 rfl rfl)
theorem dX3_treaty_109 : decode cX3_treaty 109 = .ok (.ifCond .ne 6, 3) := dk_154 0 6 (dk_at dksX3_treaty_4 14 rfl rfl)
theorem dX3_treaty_112 : decode cX3_treaty 112 = .ok (.goto 18, 3) := dk_167 0 18 (dk_at dksX3_treaty_4 17 rfl rfl)
theorem dX3_treaty_115 : decode cX3_treaty 115 = .ok (.iinc 2 1, 3) := dk_132 2 1 (dk_at dksX3_treaty_4 20 rfl rfl)
theorem dX3_treaty_118 : decode cX3_treaty 118 = .ok (.iload_n 3, 1) := dk_29 (dk_at dksX3_treaty_4 23 rfl rfl)
theorem dX3_treaty_119 : decode cX3_treaty 119 = .ok (.iload 5, 2) := dk_21 5 (dk_at dksX3_treaty_5 0 rfl rfl)
theorem dX3_treaty_121 : decode cX3_treaty 121 = .ok (.ior, 1) := dk_128 (dk_at dksX3_treaty_5 2 rfl rfl)
theorem dX3_treaty_122 : decode cX3_treaty 122 = .ok (.istore_n 3, 1) := dk_62 (dk_at dksX3_treaty_5 3 rfl rfl)
theorem dX3_treaty_123 : decode cX3_treaty 123 = .ok (.iload 4, 2) := dk_21 4 (dk_at dksX3_treaty_5 4 rfl rfl)
theorem dX3_treaty_125 : decode cX3_treaty 125 = .ok (.iload 5, 2) := dk_21 5 (dk_at dksX3_treaty_5 6 rfl rfl)
theorem dX3_treaty_127 : decode cX3_treaty 127 = .ok (.iand, 1) := dk_126 (dk_at dksX3_treaty_5 8 rfl rfl)
theorem dX3_treaty_128 : decode cX3_treaty 128 = .ok (.istore 4, 2) := dk_54 4 (dk_at dksX3_treaty_5 9 rfl rfl)
theorem dX3_treaty_130 : decode cX3_treaty 130 = .ok (.iinc 5 1, 3) := dk_132 5 1 (dk_at dksX3_treaty_5 11 rfl rfl)
theorem dX3_treaty_133 : decode cX3_treaty 133 = .ok (.goto (-104), 3) := dk_167 255 152 (dk_at dksX3_treaty_5 14 rfl rfl)
theorem dX3_treaty_136 : decode cX3_treaty 136 = .ok (.aload_n 0, 1) := dk_42 (dk_at dksX3_treaty_5 17 rfl rfl)
theorem dX3_treaty_137 : decode cX3_treaty 137 = .ok (.iconst 0, 1) := dk_3 (dk_at dksX3_treaty_5 18 rfl rfl)
theorem dX3_treaty_138 : decode cX3_treaty 138 = .ok (.putfield 98, 3) := dk_181 0 98 (dk_at dksX3_treaty_5 19 rfl rfl)
theorem dX3_treaty_141 : decode cX3_treaty 141 = .ok (.aload_n 0, 1) := dk_42 (dk_at dksX3_treaty_5 22 rfl rfl)
theorem dX3_treaty_142 : decode cX3_treaty 142 = .ok (.iload_n 3, 1) := dk_29 (dk_at dksX3_treaty_5 23 rfl rfl)
theorem dX3_treaty_143 : decode cX3_treaty 143 = .ok (.i2l, 1) := dk_133 (dk_at dksX3_treaty_6 0 rfl rfl)
theorem dX3_treaty_144 : decode cX3_treaty 144 = .ok (.invokevirtual 248, 3) := dk_182 0 248 (dk_at dksX3_treaty_6 1 rfl rfl)
theorem dX3_treaty_147 : decode cX3_treaty 147 = .ok (.aload_n 0, 1) := dk_42 (dk_at dksX3_treaty_6 4 rfl rfl)
theorem dX3_treaty_148 : decode cX3_treaty 148 = .ok (.iload_n 2, 1) := dk_28 (dk_at dksX3_treaty_6 5 rfl rfl)
theorem dX3_treaty_149 : decode cX3_treaty 149 = .ok (.ifCond .ne 7, 3) := dk_154 0 7 (dk_at dksX3_treaty_6 6 rfl rfl)
theorem dX3_treaty_152 : decode cX3_treaty 152 = .ok (.lconst 0, 1) := dk_9 (dk_at dksX3_treaty_6 9 rfl rfl)
theorem dX3_treaty_153 : decode cX3_treaty 153 = .ok (.goto 6, 3) := dk_167 0 6 (dk_at dksX3_treaty_6 10 rfl rfl)
theorem dX3_treaty_156 : decode cX3_treaty 156 = .ok (.iload 4, 2) := dk_21 4 (dk_at dksX3_treaty_6 13 rfl rfl)
theorem dX3_treaty_158 : decode cX3_treaty 158 = .ok (.i2l, 1) := dk_133 (dk_at dksX3_treaty_6 15 rfl rfl)
theorem dX3_treaty_159 : decode cX3_treaty 159 = .ok (.invokevirtual 248, 3) := dk_182 0 248 (dk_at dksX3_treaty_6 16 rfl rfl)
theorem dX3_treaty_162 : decode cX3_treaty 162 = .ok (.iload_n 2, 1) := dk_28 (dk_at dksX3_treaty_6 19 rfl rfl)
theorem dX3_treaty_163 : decode cX3_treaty 163 = .ok (.ireturn, 1) := dk_172 (dk_at dksX3_treaty_6 20 rfl rfl)
abbrev cX3_levelOfKings : ByteArray := prog_9_method_85_code
def yX3_levelOfKings : MethodName := ⟨RX3, "levelOfKings", "(I)I"⟩
def dkwX3_levelOfKings_2 : List UInt8 := [28, 172]
abbrev dktX3_levelOfKings_2 : List UInt8 := dkwX3_levelOfKings_2 ++ []
def dkwX3_levelOfKings_1 : List UInt8 := [184, 1, 21, 153, 0, 12, 42, 180, 0, 9, 29, 46, 167, 0, 4, 3, 96, 61, 132, 3, 1, 167, 255, 216]
abbrev dktX3_levelOfKings_1 : List UInt8 := dkwX3_levelOfKings_1 ++ dktX3_levelOfKings_2
def dkwX3_levelOfKings_0 : List UInt8 := [3, 61, 3, 62, 29, 42, 180, 0, 101, 162, 0, 38, 28, 27, 42, 180, 0, 9, 16, 24, 29, 96, 46]
abbrev dktX3_levelOfKings_0 : List UInt8 := dkwX3_levelOfKings_0 ++ dktX3_levelOfKings_1
theorem dksX3_levelOfKings_0 : cX3_levelOfKings.data.toList.drop 0 = dktX3_levelOfKings_0 := by decide +kernel
theorem dksX3_levelOfKings_1 : cX3_levelOfKings.data.toList.drop 23 = dktX3_levelOfKings_1 := dk_seg dksX3_levelOfKings_0 23 rfl rfl
theorem dksX3_levelOfKings_2 : cX3_levelOfKings.data.toList.drop 47 = dktX3_levelOfKings_2 := dk_seg dksX3_levelOfKings_1 24 rfl rfl
theorem dX3_levelOfKings_0 : decode cX3_levelOfKings 0 = .ok (.iconst 0, 1) := dk_3 (dk_at dksX3_levelOfKings_0 0 rfl rfl)
theorem dX3_levelOfKings_1 : decode cX3_levelOfKings 1 = .ok (.istore_n 2, 1) := dk_61 (dk_at dksX3_levelOfKings_0 1 rfl rfl)
theorem dX3_levelOfKings_2 : decode cX3_levelOfKings 2 = .ok (.iconst 0, 1) := dk_3 (dk_at dksX3_levelOfKings_0 2 rfl rfl)
theorem dX3_levelOfKings_3 : decode cX3_levelOfKings 3 = .ok (.istore_n 3, 1) := dk_62 (dk_at dksX3_levelOfKings_0 3 rfl rfl)
theorem dX3_levelOfKings_4 : decode cX3_levelOfKings 4 = .ok (.iload_n 3, 1) := dk_29 (dk_at dksX3_levelOfKings_0 4 rfl rfl)
theorem dX3_levelOfKings_5 : decode cX3_levelOfKings 5 = .ok (.aload_n 0, 1) := dk_42 (dk_at dksX3_levelOfKings_0 5 rfl rfl)
theorem dX3_levelOfKings_6 : decode cX3_levelOfKings 6 = .ok (.getfield 101, 3) := dk_180 0 101 (dk_at dksX3_levelOfKings_0 6 rfl rfl)
theorem dX3_levelOfKings_9 : decode cX3_levelOfKings 9 = .ok (.if_icmp .ge 38, 3) := dk_162 0 38 (dk_at dksX3_levelOfKings_0 9 rfl rfl)
theorem dX3_levelOfKings_12 : decode cX3_levelOfKings 12 = .ok (.iload_n 2, 1) := dk_28 (dk_at dksX3_levelOfKings_0 12 rfl rfl)
theorem dX3_levelOfKings_13 : decode cX3_levelOfKings 13 = .ok (.iload_n 1, 1) := dk_27 (dk_at dksX3_levelOfKings_0 13 rfl rfl)
theorem dX3_levelOfKings_14 : decode cX3_levelOfKings 14 = .ok (.aload_n 0, 1) := dk_42 (dk_at dksX3_levelOfKings_0 14 rfl rfl)
theorem dX3_levelOfKings_15 : decode cX3_levelOfKings 15 = .ok (.getfield 9, 3) := dk_180 0 9 (dk_at dksX3_levelOfKings_0 15 rfl rfl)
theorem dX3_levelOfKings_18 : decode cX3_levelOfKings 18 = .ok (.bipush 24, 2) := dk_16 24 (dk_at dksX3_levelOfKings_0 18 rfl rfl)
theorem dX3_levelOfKings_20 : decode cX3_levelOfKings 20 = .ok (.iload_n 3, 1) := dk_29 (dk_at dksX3_levelOfKings_0 20 rfl rfl)
theorem dX3_levelOfKings_21 : decode cX3_levelOfKings 21 = .ok (.iadd, 1) := dk_96 (dk_at dksX3_levelOfKings_0 21 rfl rfl)
theorem dX3_levelOfKings_22 : decode cX3_levelOfKings 22 = .ok (.iaload, 1) := dk_46 (dk_at dksX3_levelOfKings_0 22 rfl rfl)
theorem dX3_levelOfKings_23 : decode cX3_levelOfKings 23 = .ok (.invokestatic 277, 3) := dk_184 1 21 (dk_at dksX3_levelOfKings_1 0 rfl rfl)
theorem dX3_levelOfKings_26 : decode cX3_levelOfKings 26 = .ok (.ifCond .eq 12, 3) := dk_153 0 12 (dk_at dksX3_levelOfKings_1 3 rfl rfl)
theorem dX3_levelOfKings_29 : decode cX3_levelOfKings 29 = .ok (.aload_n 0, 1) := dk_42 (dk_at dksX3_levelOfKings_1 6 rfl rfl)
theorem dX3_levelOfKings_30 : decode cX3_levelOfKings 30 = .ok (.getfield 9, 3) := dk_180 0 9 (dk_at dksX3_levelOfKings_1 7 rfl rfl)
theorem dX3_levelOfKings_33 : decode cX3_levelOfKings 33 = .ok (.iload_n 3, 1) := dk_29 (dk_at dksX3_levelOfKings_1 10 rfl rfl)
theorem dX3_levelOfKings_34 : decode cX3_levelOfKings 34 = .ok (.iaload, 1) := dk_46 (dk_at dksX3_levelOfKings_1 11 rfl rfl)
theorem dX3_levelOfKings_35 : decode cX3_levelOfKings 35 = .ok (.goto 4, 3) := dk_167 0 4 (dk_at dksX3_levelOfKings_1 12 rfl rfl)
theorem dX3_levelOfKings_38 : decode cX3_levelOfKings 38 = .ok (.iconst 0, 1) := dk_3 (dk_at dksX3_levelOfKings_1 15 rfl rfl)
theorem dX3_levelOfKings_39 : decode cX3_levelOfKings 39 = .ok (.iadd, 1) := dk_96 (dk_at dksX3_levelOfKings_1 16 rfl rfl)
theorem dX3_levelOfKings_40 : decode cX3_levelOfKings 40 = .ok (.istore_n 2, 1) := dk_61 (dk_at dksX3_levelOfKings_1 17 rfl rfl)
theorem dX3_levelOfKings_41 : decode cX3_levelOfKings 41 = .ok (.iinc 3 1, 3) := dk_132 3 1 (dk_at dksX3_levelOfKings_1 18 rfl rfl)
theorem dX3_levelOfKings_44 : decode cX3_levelOfKings 44 = .ok (.goto (-40), 3) := dk_167 255 216 (dk_at dksX3_levelOfKings_1 21 rfl rfl)
theorem dX3_levelOfKings_47 : decode cX3_levelOfKings 47 = .ok (.iload_n 2, 1) := dk_28 (dk_at dksX3_levelOfKings_2 0 rfl rfl)
theorem dX3_levelOfKings_48 : decode cX3_levelOfKings 48 = .ok (.ireturn, 1) := dk_172 (dk_at dksX3_levelOfKings_2 1 rfl rfl)
abbrev cX3_wants : ByteArray := prog_9_method_87_code
def yX3_wants : MethodName := ⟨RX3, "wants", "(I)I"⟩
def dkwX3_wants_5 : List UInt8 := [182, 0, 248, 29, 184, 0, 206, 172]
abbrev dktX3_wants_5 : List UInt8 := dkwX3_wants_5 ++ []
def dkwX3_wants_4 : List UInt8 := [132, 4, 1, 167, 255, 188, 29, 2, 160, 0, 6, 16, 254, 172, 42, 3, 181, 0, 98, 42, 29, 133]
abbrev dktX3_wants_4 : List UInt8 := dkwX3_wants_4 ++ dktX3_wants_5
def dkwX3_wants_3 : List UInt8 := [167, 0, 23, 29, 2, 159, 0, 15, 21, 4, 184, 0, 206, 29, 184, 0, 206, 162, 0, 6, 21, 4, 62]
abbrev dktX3_wants_3 : List UInt8 := dkwX3_wants_3 ++ dktX3_wants_4
def dkwX3_wants_2 : List UInt8 := [180, 0, 9, 28, 21, 4, 128, 182, 1, 31, 104, 42, 42, 180, 0, 9, 3, 182, 0, 227, 163, 0, 6]
abbrev dktX3_wants_2 : List UInt8 := dkwX3_wants_2 ++ dktX3_wants_3
def dkwX3_wants_1 : List UInt8 := [2, 62, 3, 54, 4, 21, 4, 42, 182, 1, 37, 163, 0, 65, 21, 4, 28, 126, 154, 0, 52, 5, 42, 42]
abbrev dktX3_wants_1 : List UInt8 := dkwX3_wants_1 ++ dktX3_wants_2
def dkwX3_wants_0 : List UInt8 := [42, 3, 181, 0, 95, 27, 184, 1, 25, 154, 0, 5, 2, 172, 42, 42, 180, 0, 9, 27, 182, 1, 28, 61]
abbrev dktX3_wants_0 : List UInt8 := dkwX3_wants_0 ++ dktX3_wants_1
theorem dksX3_wants_0 : cX3_wants.data.toList.drop 0 = dktX3_wants_0 := by decide +kernel
theorem dksX3_wants_1 : cX3_wants.data.toList.drop 24 = dktX3_wants_1 := dk_seg dksX3_wants_0 24 rfl rfl
theorem dksX3_wants_2 : cX3_wants.data.toList.drop 48 = dktX3_wants_2 := dk_seg dksX3_wants_1 24 rfl rfl
theorem dksX3_wants_3 : cX3_wants.data.toList.drop 71 = dktX3_wants_3 := dk_seg dksX3_wants_2 23 rfl rfl
theorem dksX3_wants_4 : cX3_wants.data.toList.drop 94 = dktX3_wants_4 := dk_seg dksX3_wants_3 23 rfl rfl
theorem dksX3_wants_5 : cX3_wants.data.toList.drop 116 = dktX3_wants_5 := dk_seg dksX3_wants_4 22 rfl rfl
theorem dX3_wants_0 : decode cX3_wants 0 = .ok (.aload_n 0, 1) := dk_42 (dk_at dksX3_wants_0 0 rfl rfl)
theorem dX3_wants_1 : decode cX3_wants 1 = .ok (.iconst 0, 1) := dk_3 (dk_at dksX3_wants_0 1 rfl rfl)
theorem dX3_wants_2 : decode cX3_wants 2 = .ok (.putfield 95, 3) := dk_181 0 95 (dk_at dksX3_wants_0 2 rfl rfl)
theorem dX3_wants_5 : decode cX3_wants 5 = .ok (.iload_n 1, 1) := dk_27 (dk_at dksX3_wants_0 5 rfl rfl)
theorem dX3_wants_6 : decode cX3_wants 6 = .ok (.invokestatic 281, 3) := dk_184 1 25 (dk_at dksX3_wants_0 6 rfl rfl)
theorem dX3_wants_9 : decode cX3_wants 9 = .ok (.ifCond .ne 5, 3) := dk_154 0 5 (dk_at dksX3_wants_0 9 rfl rfl)
theorem dX3_wants_12 : decode cX3_wants 12 = .ok (.iconst (-1), 1) := dk_2 (dk_at dksX3_wants_0 12 rfl rfl)
theorem dX3_wants_13 : decode cX3_wants 13 = .ok (.ireturn, 1) := dk_172 (dk_at dksX3_wants_0 13 rfl rfl)
theorem dX3_wants_14 : decode cX3_wants 14 = .ok (.aload_n 0, 1) := dk_42 (dk_at dksX3_wants_0 14 rfl rfl)
theorem dX3_wants_15 : decode cX3_wants 15 = .ok (.aload_n 0, 1) := dk_42 (dk_at dksX3_wants_0 15 rfl rfl)
theorem dX3_wants_16 : decode cX3_wants 16 = .ok (.getfield 9, 3) := dk_180 0 9 (dk_at dksX3_wants_0 16 rfl rfl)
theorem dX3_wants_19 : decode cX3_wants 19 = .ok (.iload_n 1, 1) := dk_27 (dk_at dksX3_wants_0 19 rfl rfl)
theorem dX3_wants_20 : decode cX3_wants 20 = .ok (.invokevirtual 284, 3) := dk_182 1 28 (dk_at dksX3_wants_0 20 rfl rfl)
theorem dX3_wants_23 : decode cX3_wants 23 = .ok (.istore_n 2, 1) := dk_61 (dk_at dksX3_wants_0 23 rfl rfl)
theorem dX3_wants_24 : decode cX3_wants 24 = .ok (.iconst (-1), 1) := dk_2 (dk_at dksX3_wants_1 0 rfl rfl)
theorem dX3_wants_25 : decode cX3_wants 25 = .ok (.istore_n 3, 1) := dk_62 (dk_at dksX3_wants_1 1 rfl rfl)
theorem dX3_wants_26 : decode cX3_wants 26 = .ok (.iconst 0, 1) := dk_3 (dk_at dksX3_wants_1 2 rfl rfl)
theorem dX3_wants_27 : decode cX3_wants 27 = .ok (.istore 4, 2) := dk_54 4 (dk_at dksX3_wants_1 3 rfl rfl)
theorem dX3_wants_29 : decode cX3_wants 29 = .ok (.iload 4, 2) := dk_21 4 (dk_at dksX3_wants_1 5 rfl rfl)
theorem dX3_wants_31 : decode cX3_wants 31 = .ok (.aload_n 0, 1) := dk_42 (dk_at dksX3_wants_1 7 rfl rfl)
theorem dX3_wants_32 : decode cX3_wants 32 = .ok (.invokevirtual 293, 3) := dk_182 1 37 (dk_at dksX3_wants_1 8 rfl rfl)
theorem dX3_wants_35 : decode cX3_wants 35 = .ok (.if_icmp .gt 65, 3) := dk_163 0 65 (dk_at dksX3_wants_1 11 rfl rfl)
theorem dX3_wants_38 : decode cX3_wants 38 = .ok (.iload 4, 2) := dk_21 4 (dk_at dksX3_wants_1 14 rfl rfl)
theorem dX3_wants_40 : decode cX3_wants 40 = .ok (.iload_n 2, 1) := dk_28 (dk_at dksX3_wants_1 16 rfl rfl)
theorem dX3_wants_41 : decode cX3_wants 41 = .ok (.iand, 1) := dk_126 (dk_at dksX3_wants_1 17 rfl rfl)
theorem dX3_wants_42 : decode cX3_wants 42 = .ok (.ifCond .ne 52, 3) := dk_154 0 52 (dk_at dksX3_wants_1 18 rfl rfl)
theorem dX3_wants_45 : decode cX3_wants 45 = .ok (.iconst 2, 1) := dk_5 (dk_at dksX3_wants_1 21 rfl rfl)
theorem dX3_wants_46 : decode cX3_wants 46 = .ok (.aload_n 0, 1) := dk_42 (dk_at dksX3_wants_1 22 rfl rfl)
theorem dX3_wants_47 : decode cX3_wants 47 = .ok (.aload_n 0, 1) := dk_42 (dk_at dksX3_wants_1 23 rfl rfl)
theorem dX3_wants_48 : decode cX3_wants 48 = .ok (.getfield 9, 3) := dk_180 0 9 (dk_at dksX3_wants_2 0 rfl rfl)
theorem dX3_wants_51 : decode cX3_wants 51 = .ok (.iload_n 2, 1) := dk_28 (dk_at dksX3_wants_2 3 rfl rfl)
theorem dX3_wants_52 : decode cX3_wants 52 = .ok (.iload 4, 2) := dk_21 4 (dk_at dksX3_wants_2 4 rfl rfl)
theorem dX3_wants_54 : decode cX3_wants 54 = .ok (.ior, 1) := dk_128 (dk_at dksX3_wants_2 6 rfl rfl)
theorem dX3_wants_55 : decode cX3_wants 55 = .ok (.invokevirtual 287, 3) := dk_182 1 31 (dk_at dksX3_wants_2 7 rfl rfl)
theorem dX3_wants_58 : decode cX3_wants 58 = .ok (.imul, 1) := dk_104 (dk_at dksX3_wants_2 10 rfl rfl)
theorem dX3_wants_59 : decode cX3_wants 59 = .ok (.aload_n 0, 1) := dk_42 (dk_at dksX3_wants_2 11 rfl rfl)
theorem dX3_wants_60 : decode cX3_wants 60 = .ok (.aload_n 0, 1) := dk_42 (dk_at dksX3_wants_2 12 rfl rfl)
theorem dX3_wants_61 : decode cX3_wants 61 = .ok (.getfield 9, 3) := dk_180 0 9 (dk_at dksX3_wants_2 13 rfl rfl)
theorem dX3_wants_64 : decode cX3_wants 64 = .ok (.iconst 0, 1) := dk_3 (dk_at dksX3_wants_2 16 rfl rfl)
theorem dX3_wants_65 : decode cX3_wants 65 = .ok (.invokevirtual 227, 3) := dk_182 0 227 (dk_at dksX3_wants_2 17 rfl rfl)
theorem dX3_wants_68 : decode cX3_wants 68 = .ok (.if_icmp .gt 6, 3) := dk_163 0 6 (dk_at dksX3_wants_2 20 rfl rfl)
theorem dX3_wants_71 : decode cX3_wants 71 = .ok (.goto 23, 3) := dk_167 0 23 (dk_at dksX3_wants_3 0 rfl rfl)
theorem dX3_wants_74 : decode cX3_wants 74 = .ok (.iload_n 3, 1) := dk_29 (dk_at dksX3_wants_3 3 rfl rfl)
theorem dX3_wants_75 : decode cX3_wants 75 = .ok (.iconst (-1), 1) := dk_2 (dk_at dksX3_wants_3 4 rfl rfl)
theorem dX3_wants_76 : decode cX3_wants 76 = .ok (.if_icmp .eq 15, 3) := dk_159 0 15 (dk_at dksX3_wants_3 5 rfl rfl)
theorem dX3_wants_79 : decode cX3_wants 79 = .ok (.iload 4, 2) := dk_21 4 (dk_at dksX3_wants_3 8 rfl rfl)
theorem dX3_wants_81 : decode cX3_wants 81 = .ok (.invokestatic 206, 3) := dk_184 0 206 (dk_at dksX3_wants_3 10 rfl rfl)
theorem dX3_wants_84 : decode cX3_wants 84 = .ok (.iload_n 3, 1) := dk_29 (dk_at dksX3_wants_3 13 rfl rfl)
theorem dX3_wants_85 : decode cX3_wants 85 = .ok (.invokestatic 206, 3) := dk_184 0 206 (dk_at dksX3_wants_3 14 rfl rfl)
theorem dX3_wants_88 : decode cX3_wants 88 = .ok (.if_icmp .ge 6, 3) := dk_162 0 6 (dk_at dksX3_wants_3 17 rfl rfl)
theorem dX3_wants_91 : decode cX3_wants 91 = .ok (.iload 4, 2) := dk_21 4 (dk_at dksX3_wants_3 20 rfl rfl)
theorem dX3_wants_93 : decode cX3_wants 93 = .ok (.istore_n 3, 1) := dk_62 (dk_at dksX3_wants_3 22 rfl rfl)
theorem dX3_wants_94 : decode cX3_wants 94 = .ok (.iinc 4 1, 3) := dk_132 4 1 (dk_at dksX3_wants_4 0 rfl rfl)
theorem dX3_wants_97 : decode cX3_wants 97 = .ok (.goto (-68), 3) := dk_167 255 188 (dk_at dksX3_wants_4 3 rfl rfl)
theorem dX3_wants_100 : decode cX3_wants 100 = .ok (.iload_n 3, 1) := dk_29 (dk_at dksX3_wants_4 6 rfl rfl)
theorem dX3_wants_101 : decode cX3_wants 101 = .ok (.iconst (-1), 1) := dk_2 (dk_at dksX3_wants_4 7 rfl rfl)
theorem dX3_wants_102 : decode cX3_wants 102 = .ok (.if_icmp .ne 6, 3) := dk_160 0 6 (dk_at dksX3_wants_4 8 rfl rfl)
theorem dX3_wants_105 : decode cX3_wants 105 = .ok (.bipush (-2), 2) := dk_16 254 (dk_at dksX3_wants_4 11 rfl rfl)
theorem dX3_wants_107 : decode cX3_wants 107 = .ok (.ireturn, 1) := dk_172 (dk_at dksX3_wants_4 13 rfl rfl)
theorem dX3_wants_108 : decode cX3_wants 108 = .ok (.aload_n 0, 1) := dk_42 (dk_at dksX3_wants_4 14 rfl rfl)
theorem dX3_wants_109 : decode cX3_wants 109 = .ok (.iconst 0, 1) := dk_3 (dk_at dksX3_wants_4 15 rfl rfl)
theorem dX3_wants_110 : decode cX3_wants 110 = .ok (.putfield 98, 3) := dk_181 0 98 (dk_at dksX3_wants_4 16 rfl rfl)
theorem dX3_wants_113 : decode cX3_wants 113 = .ok (.aload_n 0, 1) := dk_42 (dk_at dksX3_wants_4 19 rfl rfl)
theorem dX3_wants_114 : decode cX3_wants 114 = .ok (.iload_n 3, 1) := dk_29 (dk_at dksX3_wants_4 20 rfl rfl)
theorem dX3_wants_115 : decode cX3_wants 115 = .ok (.i2l, 1) := dk_133 (dk_at dksX3_wants_4 21 rfl rfl)
theorem dX3_wants_116 : decode cX3_wants 116 = .ok (.invokevirtual 248, 3) := dk_182 0 248 (dk_at dksX3_wants_5 0 rfl rfl)
theorem dX3_wants_119 : decode cX3_wants 119 = .ok (.iload_n 3, 1) := dk_29 (dk_at dksX3_wants_5 3 rfl rfl)
theorem dX3_wants_120 : decode cX3_wants 120 = .ok (.invokestatic 206, 3) := dk_184 0 206 (dk_at dksX3_wants_5 4 rfl rfl)
theorem dX3_wants_123 : decode cX3_wants 123 = .ok (.ireturn, 1) := dk_172 (dk_at dksX3_wants_5 7 rfl rfl)
abbrev cX3_evens : ByteArray := prog_9_method_88_code
def yX3_evens : MethodName := ⟨RX3, "evens", "()I"⟩
def dkwX3_evens_4 : List UInt8 := [184, 1, 64, 172]
abbrev dktX3_evens_4 : List UInt8 := dkwX3_evens_4 ++ []
def dkwX3_evens_3 : List UInt8 := [42, 3, 181, 0, 98, 42, 28, 133, 182, 0, 248, 5, 42, 42, 180, 0, 9, 28, 182, 1, 31, 104, 27, 100]
abbrev dktX3_evens_3 : List UInt8 := dkwX3_evens_3 ++ dktX3_evens_4
def dkwX3_evens_2 : List UInt8 := [180, 0, 9, 28, 182, 1, 31, 104, 27, 100, 184, 1, 64, 162, 0, 5, 29, 61, 132, 3, 2, 167, 255, 208]
abbrev dktX3_evens_2 : List UInt8 := dkwX3_evens_2 ++ dktX3_evens_3
def dkwX3_evens_1 : List UInt8 := [163, 0, 46, 5, 42, 42, 180, 0, 9, 29, 182, 1, 31, 104, 27, 100, 184, 1, 64, 5, 42, 42]
abbrev dktX3_evens_1 : List UInt8 := dkwX3_evens_1 ++ dktX3_evens_2
def dkwX3_evens_0 : List UInt8 := [42, 3, 181, 0, 95, 42, 42, 180, 0, 9, 3, 182, 0, 227, 60, 3, 61, 5, 62, 29, 42, 182, 1, 37]
abbrev dktX3_evens_0 : List UInt8 := dkwX3_evens_0 ++ dktX3_evens_1
theorem dksX3_evens_0 : cX3_evens.data.toList.drop 0 = dktX3_evens_0 := by decide +kernel
theorem dksX3_evens_1 : cX3_evens.data.toList.drop 24 = dktX3_evens_1 := dk_seg dksX3_evens_0 24 rfl rfl
theorem dksX3_evens_2 : cX3_evens.data.toList.drop 46 = dktX3_evens_2 := dk_seg dksX3_evens_1 22 rfl rfl
theorem dksX3_evens_3 : cX3_evens.data.toList.drop 70 = dktX3_evens_3 := dk_seg dksX3_evens_2 24 rfl rfl
theorem dksX3_evens_4 : cX3_evens.data.toList.drop 94 = dktX3_evens_4 := dk_seg dksX3_evens_3 24 rfl rfl
theorem dX3_evens_0 : decode cX3_evens 0 = .ok (.aload_n 0, 1) := dk_42 (dk_at dksX3_evens_0 0 rfl rfl)
theorem dX3_evens_1 : decode cX3_evens 1 = .ok (.iconst 0, 1) := dk_3 (dk_at dksX3_evens_0 1 rfl rfl)
theorem dX3_evens_2 : decode cX3_evens 2 = .ok (.putfield 95, 3) := dk_181 0 95 (dk_at dksX3_evens_0 2 rfl rfl)
theorem dX3_evens_5 : decode cX3_evens 5 = .ok (.aload_n 0, 1) := dk_42 (dk_at dksX3_evens_0 5 rfl rfl)
theorem dX3_evens_6 : decode cX3_evens 6 = .ok (.aload_n 0, 1) := dk_42 (dk_at dksX3_evens_0 6 rfl rfl)
theorem dX3_evens_7 : decode cX3_evens 7 = .ok (.getfield 9, 3) := dk_180 0 9 (dk_at dksX3_evens_0 7 rfl rfl)
theorem dX3_evens_10 : decode cX3_evens 10 = .ok (.iconst 0, 1) := dk_3 (dk_at dksX3_evens_0 10 rfl rfl)
theorem dX3_evens_11 : decode cX3_evens 11 = .ok (.invokevirtual 227, 3) := dk_182 0 227 (dk_at dksX3_evens_0 11 rfl rfl)
theorem dX3_evens_14 : decode cX3_evens 14 = .ok (.istore_n 1, 1) := dk_60 (dk_at dksX3_evens_0 14 rfl rfl)
theorem dX3_evens_15 : decode cX3_evens 15 = .ok (.iconst 0, 1) := dk_3 (dk_at dksX3_evens_0 15 rfl rfl)
theorem dX3_evens_16 : decode cX3_evens 16 = .ok (.istore_n 2, 1) := dk_61 (dk_at dksX3_evens_0 16 rfl rfl)
theorem dX3_evens_17 : decode cX3_evens 17 = .ok (.iconst 2, 1) := dk_5 (dk_at dksX3_evens_0 17 rfl rfl)
theorem dX3_evens_18 : decode cX3_evens 18 = .ok (.istore_n 3, 1) := dk_62 (dk_at dksX3_evens_0 18 rfl rfl)
theorem dX3_evens_19 : decode cX3_evens 19 = .ok (.iload_n 3, 1) := dk_29 (dk_at dksX3_evens_0 19 rfl rfl)
theorem dX3_evens_20 : decode cX3_evens 20 = .ok (.aload_n 0, 1) := dk_42 (dk_at dksX3_evens_0 20 rfl rfl)
theorem dX3_evens_21 : decode cX3_evens 21 = .ok (.invokevirtual 293, 3) := dk_182 1 37 (dk_at dksX3_evens_0 21 rfl rfl)
theorem dX3_evens_24 : decode cX3_evens 24 = .ok (.if_icmp .gt 46, 3) := dk_163 0 46 (dk_at dksX3_evens_1 0 rfl rfl)
theorem dX3_evens_27 : decode cX3_evens 27 = .ok (.iconst 2, 1) := dk_5 (dk_at dksX3_evens_1 3 rfl rfl)
theorem dX3_evens_28 : decode cX3_evens 28 = .ok (.aload_n 0, 1) := dk_42 (dk_at dksX3_evens_1 4 rfl rfl)
theorem dX3_evens_29 : decode cX3_evens 29 = .ok (.aload_n 0, 1) := dk_42 (dk_at dksX3_evens_1 5 rfl rfl)
theorem dX3_evens_30 : decode cX3_evens 30 = .ok (.getfield 9, 3) := dk_180 0 9 (dk_at dksX3_evens_1 6 rfl rfl)
theorem dX3_evens_33 : decode cX3_evens 33 = .ok (.iload_n 3, 1) := dk_29 (dk_at dksX3_evens_1 9 rfl rfl)
theorem dX3_evens_34 : decode cX3_evens 34 = .ok (.invokevirtual 287, 3) := dk_182 1 31 (dk_at dksX3_evens_1 10 rfl rfl)
theorem dX3_evens_37 : decode cX3_evens 37 = .ok (.imul, 1) := dk_104 (dk_at dksX3_evens_1 13 rfl rfl)
theorem dX3_evens_38 : decode cX3_evens 38 = .ok (.iload_n 1, 1) := dk_27 (dk_at dksX3_evens_1 14 rfl rfl)
theorem dX3_evens_39 : decode cX3_evens 39 = .ok (.isub, 1) := dk_100 (dk_at dksX3_evens_1 15 rfl rfl)
theorem dX3_evens_40 : decode cX3_evens 40 = .ok (.invokestatic 320, 3) := dk_184 1 64 (dk_at dksX3_evens_1 16 rfl rfl)
theorem dX3_evens_43 : decode cX3_evens 43 = .ok (.iconst 2, 1) := dk_5 (dk_at dksX3_evens_1 19 rfl rfl)
theorem dX3_evens_44 : decode cX3_evens 44 = .ok (.aload_n 0, 1) := dk_42 (dk_at dksX3_evens_1 20 rfl rfl)
theorem dX3_evens_45 : decode cX3_evens 45 = .ok (.aload_n 0, 1) := dk_42 (dk_at dksX3_evens_1 21 rfl rfl)
theorem dX3_evens_46 : decode cX3_evens 46 = .ok (.getfield 9, 3) := dk_180 0 9 (dk_at dksX3_evens_2 0 rfl rfl)
theorem dX3_evens_49 : decode cX3_evens 49 = .ok (.iload_n 2, 1) := dk_28 (dk_at dksX3_evens_2 3 rfl rfl)
theorem dX3_evens_50 : decode cX3_evens 50 = .ok (.invokevirtual 287, 3) := dk_182 1 31 (dk_at dksX3_evens_2 4 rfl rfl)
theorem dX3_evens_53 : decode cX3_evens 53 = .ok (.imul, 1) := dk_104 (dk_at dksX3_evens_2 7 rfl rfl)
theorem dX3_evens_54 : decode cX3_evens 54 = .ok (.iload_n 1, 1) := dk_27 (dk_at dksX3_evens_2 8 rfl rfl)
theorem dX3_evens_55 : decode cX3_evens 55 = .ok (.isub, 1) := dk_100 (dk_at dksX3_evens_2 9 rfl rfl)
theorem dX3_evens_56 : decode cX3_evens 56 = .ok (.invokestatic 320, 3) := dk_184 1 64 (dk_at dksX3_evens_2 10 rfl rfl)
theorem dX3_evens_59 : decode cX3_evens 59 = .ok (.if_icmp .ge 5, 3) := dk_162 0 5 (dk_at dksX3_evens_2 13 rfl rfl)
theorem dX3_evens_62 : decode cX3_evens 62 = .ok (.iload_n 3, 1) := dk_29 (dk_at dksX3_evens_2 16 rfl rfl)
theorem dX3_evens_63 : decode cX3_evens 63 = .ok (.istore_n 2, 1) := dk_61 (dk_at dksX3_evens_2 17 rfl rfl)
theorem dX3_evens_64 : decode cX3_evens 64 = .ok (.iinc 3 2, 3) := dk_132 3 2 (dk_at dksX3_evens_2 18 rfl rfl)
theorem dX3_evens_67 : decode cX3_evens 67 = .ok (.goto (-48), 3) := dk_167 255 208 (dk_at dksX3_evens_2 21 rfl rfl)
theorem dX3_evens_70 : decode cX3_evens 70 = .ok (.aload_n 0, 1) := dk_42 (dk_at dksX3_evens_3 0 rfl rfl)
theorem dX3_evens_71 : decode cX3_evens 71 = .ok (.iconst 0, 1) := dk_3 (dk_at dksX3_evens_3 1 rfl rfl)
theorem dX3_evens_72 : decode cX3_evens 72 = .ok (.putfield 98, 3) := dk_181 0 98 (dk_at dksX3_evens_3 2 rfl rfl)
theorem dX3_evens_75 : decode cX3_evens 75 = .ok (.aload_n 0, 1) := dk_42 (dk_at dksX3_evens_3 5 rfl rfl)
theorem dX3_evens_76 : decode cX3_evens 76 = .ok (.iload_n 2, 1) := dk_28 (dk_at dksX3_evens_3 6 rfl rfl)
theorem dX3_evens_77 : decode cX3_evens 77 = .ok (.i2l, 1) := dk_133 (dk_at dksX3_evens_3 7 rfl rfl)
theorem dX3_evens_78 : decode cX3_evens 78 = .ok (.invokevirtual 248, 3) := dk_182 0 248 (dk_at dksX3_evens_3 8 rfl rfl)
theorem dX3_evens_81 : decode cX3_evens 81 = .ok (.iconst 2, 1) := dk_5 (dk_at dksX3_evens_3 11 rfl rfl)
theorem dX3_evens_82 : decode cX3_evens 82 = .ok (.aload_n 0, 1) := dk_42 (dk_at dksX3_evens_3 12 rfl rfl)
theorem dX3_evens_83 : decode cX3_evens 83 = .ok (.aload_n 0, 1) := dk_42 (dk_at dksX3_evens_3 13 rfl rfl)
theorem dX3_evens_84 : decode cX3_evens 84 = .ok (.getfield 9, 3) := dk_180 0 9 (dk_at dksX3_evens_3 14 rfl rfl)
theorem dX3_evens_87 : decode cX3_evens 87 = .ok (.iload_n 2, 1) := dk_28 (dk_at dksX3_evens_3 17 rfl rfl)
theorem dX3_evens_88 : decode cX3_evens 88 = .ok (.invokevirtual 287, 3) := dk_182 1 31 (dk_at dksX3_evens_3 18 rfl rfl)
theorem dX3_evens_91 : decode cX3_evens 91 = .ok (.imul, 1) := dk_104 (dk_at dksX3_evens_3 21 rfl rfl)
theorem dX3_evens_92 : decode cX3_evens 92 = .ok (.iload_n 1, 1) := dk_27 (dk_at dksX3_evens_3 22 rfl rfl)
theorem dX3_evens_93 : decode cX3_evens 93 = .ok (.isub, 1) := dk_100 (dk_at dksX3_evens_3 23 rfl rfl)
theorem dX3_evens_94 : decode cX3_evens 94 = .ok (.invokestatic 320, 3) := dk_184 1 64 (dk_at dksX3_evens_4 0 rfl rfl)
theorem dX3_evens_97 : decode cX3_evens 97 = .ok (.ireturn, 1) := dk_172 (dk_at dksX3_evens_4 3 rfl rfl)
abbrev cX3_feared : ByteArray := prog_9_method_89_code
def yX3_feared : MethodName := ⟨RX3, "feared", "()I"⟩
def dkwX3_feared_4 : List UInt8 := [100, 133, 182, 0, 248, 27, 172]
abbrev dktX3_feared_4 : List UInt8 := dkwX3_feared_4 ++ []
def dkwX3_feared_3 : List UInt8 := [180, 0, 9, 3, 182, 0, 227, 42, 42, 180, 0, 9, 42, 42, 180, 0, 9, 27, 182, 1, 28, 182, 1, 31]
abbrev dktX3_feared_3 : List UInt8 := dkwX3_feared_3 ++ dktX3_feared_4
def dkwX3_feared_2 : List UInt8 := [164, 0, 7, 28, 167, 0, 4, 27, 60, 132, 2, 1, 167, 255, 205, 42, 3, 181, 0, 98, 42, 42, 42]
abbrev dktX3_feared_2 : List UInt8 := dkwX3_feared_2 ++ dktX3_feared_3
def dkwX3_feared_1 : List UInt8 := [28, 182, 1, 28, 182, 1, 31, 42, 42, 180, 0, 9, 42, 42, 180, 0, 9, 27, 182, 1, 28, 182, 1, 31]
abbrev dktX3_feared_1 : List UInt8 := dkwX3_feared_1 ++ dktX3_feared_2
def dkwX3_feared_0 : List UInt8 := [42, 3, 181, 0, 95, 3, 60, 4, 61, 28, 7, 162, 0, 52, 42, 42, 180, 0, 9, 42, 42, 180, 0, 9]
abbrev dktX3_feared_0 : List UInt8 := dkwX3_feared_0 ++ dktX3_feared_1
theorem dksX3_feared_0 : cX3_feared.data.toList.drop 0 = dktX3_feared_0 := by decide +kernel
theorem dksX3_feared_1 : cX3_feared.data.toList.drop 24 = dktX3_feared_1 := dk_seg dksX3_feared_0 24 rfl rfl
theorem dksX3_feared_2 : cX3_feared.data.toList.drop 48 = dktX3_feared_2 := dk_seg dksX3_feared_1 24 rfl rfl
theorem dksX3_feared_3 : cX3_feared.data.toList.drop 71 = dktX3_feared_3 := dk_seg dksX3_feared_2 23 rfl rfl
theorem dksX3_feared_4 : cX3_feared.data.toList.drop 95 = dktX3_feared_4 := dk_seg dksX3_feared_3 24 rfl rfl
theorem dX3_feared_0 : decode cX3_feared 0 = .ok (.aload_n 0, 1) := dk_42 (dk_at dksX3_feared_0 0 rfl rfl)
theorem dX3_feared_1 : decode cX3_feared 1 = .ok (.iconst 0, 1) := dk_3 (dk_at dksX3_feared_0 1 rfl rfl)
theorem dX3_feared_2 : decode cX3_feared 2 = .ok (.putfield 95, 3) := dk_181 0 95 (dk_at dksX3_feared_0 2 rfl rfl)
theorem dX3_feared_5 : decode cX3_feared 5 = .ok (.iconst 0, 1) := dk_3 (dk_at dksX3_feared_0 5 rfl rfl)
theorem dX3_feared_6 : decode cX3_feared 6 = .ok (.istore_n 1, 1) := dk_60 (dk_at dksX3_feared_0 6 rfl rfl)
theorem dX3_feared_7 : decode cX3_feared 7 = .ok (.iconst 1, 1) := dk_4 (dk_at dksX3_feared_0 7 rfl rfl)
theorem dX3_feared_8 : decode cX3_feared 8 = .ok (.istore_n 2, 1) := dk_61 (dk_at dksX3_feared_0 8 rfl rfl)
theorem dX3_feared_9 : decode cX3_feared 9 = .ok (.iload_n 2, 1) := dk_28 (dk_at dksX3_feared_0 9 rfl rfl)
theorem dX3_feared_10 : decode cX3_feared 10 = .ok (.iconst 4, 1) := dk_7 (dk_at dksX3_feared_0 10 rfl rfl)
theorem dX3_feared_11 : decode cX3_feared 11 = .ok (.if_icmp .ge 52, 3) := dk_162 0 52 (dk_at dksX3_feared_0 11 rfl rfl)
theorem dX3_feared_14 : decode cX3_feared 14 = .ok (.aload_n 0, 1) := dk_42 (dk_at dksX3_feared_0 14 rfl rfl)
theorem dX3_feared_15 : decode cX3_feared 15 = .ok (.aload_n 0, 1) := dk_42 (dk_at dksX3_feared_0 15 rfl rfl)
theorem dX3_feared_16 : decode cX3_feared 16 = .ok (.getfield 9, 3) := dk_180 0 9 (dk_at dksX3_feared_0 16 rfl rfl)
theorem dX3_feared_19 : decode cX3_feared 19 = .ok (.aload_n 0, 1) := dk_42 (dk_at dksX3_feared_0 19 rfl rfl)
theorem dX3_feared_20 : decode cX3_feared 20 = .ok (.aload_n 0, 1) := dk_42 (dk_at dksX3_feared_0 20 rfl rfl)
theorem dX3_feared_21 : decode cX3_feared 21 = .ok (.getfield 9, 3) := dk_180 0 9 (dk_at dksX3_feared_0 21 rfl rfl)
theorem dX3_feared_24 : decode cX3_feared 24 = .ok (.iload_n 2, 1) := dk_28 (dk_at dksX3_feared_1 0 rfl rfl)
theorem dX3_feared_25 : decode cX3_feared 25 = .ok (.invokevirtual 284, 3) := dk_182 1 28 (dk_at dksX3_feared_1 1 rfl rfl)
theorem dX3_feared_28 : decode cX3_feared 28 = .ok (.invokevirtual 287, 3) := dk_182 1 31 (dk_at dksX3_feared_1 4 rfl rfl)
theorem dX3_feared_31 : decode cX3_feared 31 = .ok (.aload_n 0, 1) := dk_42 (dk_at dksX3_feared_1 7 rfl rfl)
theorem dX3_feared_32 : decode cX3_feared 32 = .ok (.aload_n 0, 1) := dk_42 (dk_at dksX3_feared_1 8 rfl rfl)
theorem dX3_feared_33 : decode cX3_feared 33 = .ok (.getfield 9, 3) := dk_180 0 9 (dk_at dksX3_feared_1 9 rfl rfl)
theorem dX3_feared_36 : decode cX3_feared 36 = .ok (.aload_n 0, 1) := dk_42 (dk_at dksX3_feared_1 12 rfl rfl)
theorem dX3_feared_37 : decode cX3_feared 37 = .ok (.aload_n 0, 1) := dk_42 (dk_at dksX3_feared_1 13 rfl rfl)
theorem dX3_feared_38 : decode cX3_feared 38 = .ok (.getfield 9, 3) := dk_180 0 9 (dk_at dksX3_feared_1 14 rfl rfl)
theorem dX3_feared_41 : decode cX3_feared 41 = .ok (.iload_n 1, 1) := dk_27 (dk_at dksX3_feared_1 17 rfl rfl)
theorem dX3_feared_42 : decode cX3_feared 42 = .ok (.invokevirtual 284, 3) := dk_182 1 28 (dk_at dksX3_feared_1 18 rfl rfl)
theorem dX3_feared_45 : decode cX3_feared 45 = .ok (.invokevirtual 287, 3) := dk_182 1 31 (dk_at dksX3_feared_1 21 rfl rfl)
theorem dX3_feared_48 : decode cX3_feared 48 = .ok (.if_icmp .le 7, 3) := dk_164 0 7 (dk_at dksX3_feared_2 0 rfl rfl)
theorem dX3_feared_51 : decode cX3_feared 51 = .ok (.iload_n 2, 1) := dk_28 (dk_at dksX3_feared_2 3 rfl rfl)
theorem dX3_feared_52 : decode cX3_feared 52 = .ok (.goto 4, 3) := dk_167 0 4 (dk_at dksX3_feared_2 4 rfl rfl)
theorem dX3_feared_55 : decode cX3_feared 55 = .ok (.iload_n 1, 1) := dk_27 (dk_at dksX3_feared_2 7 rfl rfl)
theorem dX3_feared_56 : decode cX3_feared 56 = .ok (.istore_n 1, 1) := dk_60 (dk_at dksX3_feared_2 8 rfl rfl)
theorem dX3_feared_57 : decode cX3_feared 57 = .ok (.iinc 2 1, 3) := dk_132 2 1 (dk_at dksX3_feared_2 9 rfl rfl)
theorem dX3_feared_60 : decode cX3_feared 60 = .ok (.goto (-51), 3) := dk_167 255 205 (dk_at dksX3_feared_2 12 rfl rfl)
theorem dX3_feared_63 : decode cX3_feared 63 = .ok (.aload_n 0, 1) := dk_42 (dk_at dksX3_feared_2 15 rfl rfl)
theorem dX3_feared_64 : decode cX3_feared 64 = .ok (.iconst 0, 1) := dk_3 (dk_at dksX3_feared_2 16 rfl rfl)
theorem dX3_feared_65 : decode cX3_feared 65 = .ok (.putfield 98, 3) := dk_181 0 98 (dk_at dksX3_feared_2 17 rfl rfl)
theorem dX3_feared_68 : decode cX3_feared 68 = .ok (.aload_n 0, 1) := dk_42 (dk_at dksX3_feared_2 20 rfl rfl)
theorem dX3_feared_69 : decode cX3_feared 69 = .ok (.aload_n 0, 1) := dk_42 (dk_at dksX3_feared_2 21 rfl rfl)
theorem dX3_feared_70 : decode cX3_feared 70 = .ok (.aload_n 0, 1) := dk_42 (dk_at dksX3_feared_2 22 rfl rfl)
theorem dX3_feared_71 : decode cX3_feared 71 = .ok (.getfield 9, 3) := dk_180 0 9 (dk_at dksX3_feared_3 0 rfl rfl)
theorem dX3_feared_74 : decode cX3_feared 74 = .ok (.iconst 0, 1) := dk_3 (dk_at dksX3_feared_3 3 rfl rfl)
theorem dX3_feared_75 : decode cX3_feared 75 = .ok (.invokevirtual 227, 3) := dk_182 0 227 (dk_at dksX3_feared_3 4 rfl rfl)
theorem dX3_feared_78 : decode cX3_feared 78 = .ok (.aload_n 0, 1) := dk_42 (dk_at dksX3_feared_3 7 rfl rfl)
theorem dX3_feared_79 : decode cX3_feared 79 = .ok (.aload_n 0, 1) := dk_42 (dk_at dksX3_feared_3 8 rfl rfl)
theorem dX3_feared_80 : decode cX3_feared 80 = .ok (.getfield 9, 3) := dk_180 0 9 (dk_at dksX3_feared_3 9 rfl rfl)
theorem dX3_feared_83 : decode cX3_feared 83 = .ok (.aload_n 0, 1) := dk_42 (dk_at dksX3_feared_3 12 rfl rfl)
theorem dX3_feared_84 : decode cX3_feared 84 = .ok (.aload_n 0, 1) := dk_42 (dk_at dksX3_feared_3 13 rfl rfl)
theorem dX3_feared_85 : decode cX3_feared 85 = .ok (.getfield 9, 3) := dk_180 0 9 (dk_at dksX3_feared_3 14 rfl rfl)
theorem dX3_feared_88 : decode cX3_feared 88 = .ok (.iload_n 1, 1) := dk_27 (dk_at dksX3_feared_3 17 rfl rfl)
theorem dX3_feared_89 : decode cX3_feared 89 = .ok (.invokevirtual 284, 3) := dk_182 1 28 (dk_at dksX3_feared_3 18 rfl rfl)
theorem dX3_feared_92 : decode cX3_feared 92 = .ok (.invokevirtual 287, 3) := dk_182 1 31 (dk_at dksX3_feared_3 21 rfl rfl)
theorem dX3_feared_95 : decode cX3_feared 95 = .ok (.isub, 1) := dk_100 (dk_at dksX3_feared_4 0 rfl rfl)
theorem dX3_feared_96 : decode cX3_feared 96 = .ok (.i2l, 1) := dk_133 (dk_at dksX3_feared_4 1 rfl rfl)
theorem dX3_feared_97 : decode cX3_feared 97 = .ok (.invokevirtual 248, 3) := dk_182 0 248 (dk_at dksX3_feared_4 2 rfl rfl)
theorem dX3_feared_100 : decode cX3_feared 100 = .ok (.iload_n 1, 1) := dk_27 (dk_at dksX3_feared_4 5 rfl rfl)
theorem dX3_feared_101 : decode cX3_feared 101 = .ok (.ireturn, 1) := dk_172 (dk_at dksX3_feared_4 6 rfl rfl)
abbrev cX3_heirs : ByteArray := prog_9_method_91_code
def yX3_heirs : MethodName := ⟨RX3, "heirs", "()I"⟩
def dkwX3_heirs_14 : List UInt8 := [167, 255, 149, 42, 180, 0, 76, 3, 46, 172]
abbrev dktX3_heirs_14 : List UInt8 := dkwX3_heirs_14 ++ []
def dkwX3_heirs_13 : List UInt8 := [132, 5, 1, 167, 255, 211, 28, 4, 21, 5, 120, 128, 61, 42, 21, 5, 133, 182, 0, 248, 132, 3, 1]
abbrev dktX3_heirs_13 : List UInt8 := dkwX3_heirs_13 ++ dktX3_heirs_14
def dkwX3_heirs_12 : List UInt8 := [180, 0, 76, 29, 4, 96, 16, 6, 120, 28, 128, 4, 21, 5, 120, 128, 46, 96, 21, 4, 159, 0, 9]
abbrev dktX3_heirs_12 : List UInt8 := dkwX3_heirs_12 ++ dktX3_heirs_13
def dkwX3_heirs_11 : List UInt8 := [3, 54, 5, 42, 29, 21, 5, 28, 182, 1, 67, 153, 0, 34, 42, 180, 0, 9, 21, 5, 46, 42]
abbrev dktX3_heirs_11 : List UInt8 := dkwX3_heirs_11 ++ dktX3_heirs_12
def dkwX3_heirs_10 : List UInt8 := [46, 54, 4, 2, 54, 5, 42, 180, 0, 76, 29, 4, 96, 16, 6, 120, 28, 128, 46, 21, 4, 159, 0, 61]
abbrev dktX3_heirs_10 : List UInt8 := dkwX3_heirs_10 ++ dktX3_heirs_11
def dkwX3_heirs_9 : List UInt8 := [42, 3, 181, 0, 98, 3, 61, 3, 62, 29, 27, 162, 0, 108, 42, 180, 0, 76, 29, 16, 6, 120, 28, 128]
abbrev dktX3_heirs_9 : List UInt8 := dkwX3_heirs_9 ++ dktX3_heirs_10
def dkwX3_heirs_8 : List UInt8 := [180, 0, 76, 28, 16, 6, 120, 29, 128, 21, 4, 79, 132, 3, 1, 167, 255, 155, 132, 2, 255, 167, 255, 143]
abbrev dktX3_heirs_8 : List UInt8 := dkwX3_heirs_8 ++ dktX3_heirs_9
def dkwX3_heirs_7 : List UInt8 := [120, 29, 128, 4, 21, 5, 120, 128, 46, 96, 184, 0, 217, 54, 4, 132, 5, 1, 167, 255, 200, 42]
abbrev dktX3_heirs_7 : List UInt8 := dkwX3_heirs_7 ++ dktX3_heirs_8
def dkwX3_heirs_6 : List UInt8 := [182, 1, 67, 153, 0, 36, 21, 4, 42, 180, 0, 9, 21, 5, 46, 42, 180, 0, 76, 28, 4, 96, 16, 6]
abbrev dktX3_heirs_6 : List UInt8 := dkwX3_heirs_6 ++ dktX3_heirs_7
def dkwX3_heirs_5 : List UInt8 := [120, 29, 128, 46, 54, 4, 3, 54, 5, 21, 5, 42, 180, 0, 101, 162, 0, 53, 42, 28, 21, 5, 29]
abbrev dktX3_heirs_5 : List UInt8 := dkwX3_heirs_5 ++ dktX3_heirs_6
def dkwX3_heirs_4 : List UInt8 := [61, 28, 155, 0, 115, 3, 62, 29, 42, 182, 1, 37, 163, 0, 99, 42, 180, 0, 76, 28, 4, 96, 16, 6]
abbrev dktX3_heirs_4 : List UInt8 := dkwX3_heirs_4 ++ dktX3_heirs_5
def dkwX3_heirs_3 : List UInt8 := [163, 0, 21, 42, 180, 0, 76, 27, 16, 6, 120, 28, 128, 3, 79, 132, 2, 1, 167, 255, 233, 27, 4, 100]
abbrev dktX3_heirs_3 : List UInt8 := dkwX3_heirs_3 ++ dktX3_heirs_4
def dkwX3_heirs_2 : List UInt8 := [167, 255, 221, 42, 182, 0, 160, 154, 0, 10, 2, 42, 180, 0, 127, 100, 172, 3, 61, 28, 42, 182, 1, 37]
abbrev dktX3_heirs_2 : List UInt8 := dkwX3_heirs_2 ++ dktX3_heirs_3
def dkwX3_heirs_1 : List UInt8 := [42, 182, 0, 138, 2, 159, 0, 22, 42, 180, 0, 30, 27, 42, 16, 97, 7, 182, 0, 150, 79, 132, 1, 1]
abbrev dktX3_heirs_1 : List UInt8 := dkwX3_heirs_1 ++ dktX3_heirs_2
def dkwX3_heirs_0 : List UInt8 := [42, 3, 181, 0, 95, 42, 16, 6, 182, 0, 154, 3, 60, 42, 182, 0, 134, 153, 0, 34, 27, 153, 0, 11]
abbrev dktX3_heirs_0 : List UInt8 := dkwX3_heirs_0 ++ dktX3_heirs_1
theorem dksX3_heirs_0 : cX3_heirs.data.toList.drop 0 = dktX3_heirs_0 := by decide +kernel
theorem dksX3_heirs_1 : cX3_heirs.data.toList.drop 24 = dktX3_heirs_1 := dk_seg dksX3_heirs_0 24 rfl rfl
theorem dksX3_heirs_2 : cX3_heirs.data.toList.drop 48 = dktX3_heirs_2 := dk_seg dksX3_heirs_1 24 rfl rfl
theorem dksX3_heirs_3 : cX3_heirs.data.toList.drop 72 = dktX3_heirs_3 := dk_seg dksX3_heirs_2 24 rfl rfl
theorem dksX3_heirs_4 : cX3_heirs.data.toList.drop 96 = dktX3_heirs_4 := dk_seg dksX3_heirs_3 24 rfl rfl
theorem dksX3_heirs_5 : cX3_heirs.data.toList.drop 120 = dktX3_heirs_5 := dk_seg dksX3_heirs_4 24 rfl rfl
theorem dksX3_heirs_6 : cX3_heirs.data.toList.drop 143 = dktX3_heirs_6 := dk_seg dksX3_heirs_5 23 rfl rfl
theorem dksX3_heirs_7 : cX3_heirs.data.toList.drop 167 = dktX3_heirs_7 := dk_seg dksX3_heirs_6 24 rfl rfl
theorem dksX3_heirs_8 : cX3_heirs.data.toList.drop 189 = dktX3_heirs_8 := dk_seg dksX3_heirs_7 22 rfl rfl
theorem dksX3_heirs_9 : cX3_heirs.data.toList.drop 213 = dktX3_heirs_9 := dk_seg dksX3_heirs_8 24 rfl rfl
theorem dksX3_heirs_10 : cX3_heirs.data.toList.drop 237 = dktX3_heirs_10 := dk_seg dksX3_heirs_9 24 rfl rfl
theorem dksX3_heirs_11 : cX3_heirs.data.toList.drop 261 = dktX3_heirs_11 := dk_seg dksX3_heirs_10 24 rfl rfl
theorem dksX3_heirs_12 : cX3_heirs.data.toList.drop 283 = dktX3_heirs_12 := dk_seg dksX3_heirs_11 22 rfl rfl
theorem dksX3_heirs_13 : cX3_heirs.data.toList.drop 306 = dktX3_heirs_13 := dk_seg dksX3_heirs_12 23 rfl rfl
theorem dksX3_heirs_14 : cX3_heirs.data.toList.drop 329 = dktX3_heirs_14 := dk_seg dksX3_heirs_13 23 rfl rfl
theorem dX3_heirs_0 : decode cX3_heirs 0 = .ok (.aload_n 0, 1) := dk_42 (dk_at dksX3_heirs_0 0 rfl rfl)
theorem dX3_heirs_1 : decode cX3_heirs 1 = .ok (.iconst 0, 1) := dk_3 (dk_at dksX3_heirs_0 1 rfl rfl)
theorem dX3_heirs_2 : decode cX3_heirs 2 = .ok (.putfield 95, 3) := dk_181 0 95 (dk_at dksX3_heirs_0 2 rfl rfl)
theorem dX3_heirs_5 : decode cX3_heirs 5 = .ok (.aload_n 0, 1) := dk_42 (dk_at dksX3_heirs_0 5 rfl rfl)
theorem dX3_heirs_6 : decode cX3_heirs 6 = .ok (.bipush 6, 2) := dk_16 6 (dk_at dksX3_heirs_0 6 rfl rfl)
theorem dX3_heirs_8 : decode cX3_heirs 8 = .ok (.invokevirtual 154, 3) := dk_182 0 154 (dk_at dksX3_heirs_0 8 rfl rfl)
theorem dX3_heirs_11 : decode cX3_heirs 11 = .ok (.iconst 0, 1) := dk_3 (dk_at dksX3_heirs_0 11 rfl rfl)
theorem dX3_heirs_12 : decode cX3_heirs 12 = .ok (.istore_n 1, 1) := dk_60 (dk_at dksX3_heirs_0 12 rfl rfl)
theorem dX3_heirs_13 : decode cX3_heirs 13 = .ok (.aload_n 0, 1) := dk_42 (dk_at dksX3_heirs_0 13 rfl rfl)
theorem dX3_heirs_14 : decode cX3_heirs 14 = .ok (.invokevirtual 134, 3) := dk_182 0 134 (dk_at dksX3_heirs_0 14 rfl rfl)
theorem dX3_heirs_17 : decode cX3_heirs 17 = .ok (.ifCond .eq 34, 3) := dk_153 0 34 (dk_at dksX3_heirs_0 17 rfl rfl)
theorem dX3_heirs_20 : decode cX3_heirs 20 = .ok (.iload_n 1, 1) := dk_27 (dk_at dksX3_heirs_0 20 rfl rfl)
theorem dX3_heirs_21 : decode cX3_heirs 21 = .ok (.ifCond .eq 11, 3) := dk_153 0 11 (dk_at dksX3_heirs_0 21 rfl rfl)
theorem dX3_heirs_24 : decode cX3_heirs 24 = .ok (.aload_n 0, 1) := dk_42 (dk_at dksX3_heirs_1 0 rfl rfl)
theorem dX3_heirs_25 : decode cX3_heirs 25 = .ok (.invokevirtual 138, 3) := dk_182 0 138 (dk_at dksX3_heirs_1 1 rfl rfl)
theorem dX3_heirs_28 : decode cX3_heirs 28 = .ok (.iconst (-1), 1) := dk_2 (dk_at dksX3_heirs_1 4 rfl rfl)
theorem dX3_heirs_29 : decode cX3_heirs 29 = .ok (.if_icmp .eq 22, 3) := dk_159 0 22 (dk_at dksX3_heirs_1 5 rfl rfl)
theorem dX3_heirs_32 : decode cX3_heirs 32 = .ok (.aload_n 0, 1) := dk_42 (dk_at dksX3_heirs_1 8 rfl rfl)
theorem dX3_heirs_33 : decode cX3_heirs 33 = .ok (.getfield 30, 3) := dk_180 0 30 (dk_at dksX3_heirs_1 9 rfl rfl)
theorem dX3_heirs_36 : decode cX3_heirs 36 = .ok (.iload_n 1, 1) := dk_27 (dk_at dksX3_heirs_1 12 rfl rfl)
theorem dX3_heirs_37 : decode cX3_heirs 37 = .ok (.aload_n 0, 1) := dk_42 (dk_at dksX3_heirs_1 13 rfl rfl)
theorem dX3_heirs_38 : decode cX3_heirs 38 = .ok (.bipush 97, 2) := dk_16 97 (dk_at dksX3_heirs_1 14 rfl rfl)
theorem dX3_heirs_40 : decode cX3_heirs 40 = .ok (.iconst 4, 1) := dk_7 (dk_at dksX3_heirs_1 16 rfl rfl)
theorem dX3_heirs_41 : decode cX3_heirs 41 = .ok (.invokevirtual 150, 3) := dk_182 0 150 (dk_at dksX3_heirs_1 17 rfl rfl)
theorem dX3_heirs_44 : decode cX3_heirs 44 = .ok (.iastore, 1) := dk_79 (dk_at dksX3_heirs_1 20 rfl rfl)
theorem dX3_heirs_45 : decode cX3_heirs 45 = .ok (.iinc 1 1, 3) := dk_132 1 1 (dk_at dksX3_heirs_1 21 rfl rfl)
theorem dX3_heirs_48 : decode cX3_heirs 48 = .ok (.goto (-35), 3) := dk_167 255 221 (dk_at dksX3_heirs_2 0 rfl rfl)
theorem dX3_heirs_51 : decode cX3_heirs 51 = .ok (.aload_n 0, 1) := dk_42 (dk_at dksX3_heirs_2 3 rfl rfl)
theorem dX3_heirs_52 : decode cX3_heirs 52 = .ok (.invokevirtual 160, 3) := dk_182 0 160 (dk_at dksX3_heirs_2 4 rfl rfl)
theorem dX3_heirs_55 : decode cX3_heirs 55 = .ok (.ifCond .ne 10, 3) := dk_154 0 10 (dk_at dksX3_heirs_2 7 rfl rfl)
theorem dX3_heirs_58 : decode cX3_heirs 58 = .ok (.iconst (-1), 1) := dk_2 (dk_at dksX3_heirs_2 10 rfl rfl)
theorem dX3_heirs_59 : decode cX3_heirs 59 = .ok (.aload_n 0, 1) := dk_42 (dk_at dksX3_heirs_2 11 rfl rfl)
theorem dX3_heirs_60 : decode cX3_heirs 60 = .ok (.getfield 127, 3) := dk_180 0 127 (dk_at dksX3_heirs_2 12 rfl rfl)
theorem dX3_heirs_63 : decode cX3_heirs 63 = .ok (.isub, 1) := dk_100 (dk_at dksX3_heirs_2 15 rfl rfl)
theorem dX3_heirs_64 : decode cX3_heirs 64 = .ok (.ireturn, 1) := dk_172 (dk_at dksX3_heirs_2 16 rfl rfl)
theorem dX3_heirs_65 : decode cX3_heirs 65 = .ok (.iconst 0, 1) := dk_3 (dk_at dksX3_heirs_2 17 rfl rfl)
theorem dX3_heirs_66 : decode cX3_heirs 66 = .ok (.istore_n 2, 1) := dk_61 (dk_at dksX3_heirs_2 18 rfl rfl)
theorem dX3_heirs_67 : decode cX3_heirs 67 = .ok (.iload_n 2, 1) := dk_28 (dk_at dksX3_heirs_2 19 rfl rfl)
theorem dX3_heirs_68 : decode cX3_heirs 68 = .ok (.aload_n 0, 1) := dk_42 (dk_at dksX3_heirs_2 20 rfl rfl)
theorem dX3_heirs_69 : decode cX3_heirs 69 = .ok (.invokevirtual 293, 3) := dk_182 1 37 (dk_at dksX3_heirs_2 21 rfl rfl)
theorem dX3_heirs_72 : decode cX3_heirs 72 = .ok (.if_icmp .gt 21, 3) := dk_163 0 21 (dk_at dksX3_heirs_3 0 rfl rfl)
theorem dX3_heirs_75 : decode cX3_heirs 75 = .ok (.aload_n 0, 1) := dk_42 (dk_at dksX3_heirs_3 3 rfl rfl)
theorem dX3_heirs_76 : decode cX3_heirs 76 = .ok (.getfield 76, 3) := dk_180 0 76 (dk_at dksX3_heirs_3 4 rfl rfl)
theorem dX3_heirs_79 : decode cX3_heirs 79 = .ok (.iload_n 1, 1) := dk_27 (dk_at dksX3_heirs_3 7 rfl rfl)
theorem dX3_heirs_80 : decode cX3_heirs 80 = .ok (.bipush 6, 2) := dk_16 6 (dk_at dksX3_heirs_3 8 rfl rfl)
theorem dX3_heirs_82 : decode cX3_heirs 82 = .ok (.ishl, 1) := dk_120 (dk_at dksX3_heirs_3 10 rfl rfl)
theorem dX3_heirs_83 : decode cX3_heirs 83 = .ok (.iload_n 2, 1) := dk_28 (dk_at dksX3_heirs_3 11 rfl rfl)
theorem dX3_heirs_84 : decode cX3_heirs 84 = .ok (.ior, 1) := dk_128 (dk_at dksX3_heirs_3 12 rfl rfl)
theorem dX3_heirs_85 : decode cX3_heirs 85 = .ok (.iconst 0, 1) := dk_3 (dk_at dksX3_heirs_3 13 rfl rfl)
theorem dX3_heirs_86 : decode cX3_heirs 86 = .ok (.iastore, 1) := dk_79 (dk_at dksX3_heirs_3 14 rfl rfl)
theorem dX3_heirs_87 : decode cX3_heirs 87 = .ok (.iinc 2 1, 3) := dk_132 2 1 (dk_at dksX3_heirs_3 15 rfl rfl)
theorem dX3_heirs_90 : decode cX3_heirs 90 = .ok (.goto (-23), 3) := dk_167 255 233 (dk_at dksX3_heirs_3 18 rfl rfl)
theorem dX3_heirs_93 : decode cX3_heirs 93 = .ok (.iload_n 1, 1) := dk_27 (dk_at dksX3_heirs_3 21 rfl rfl)
theorem dX3_heirs_94 : decode cX3_heirs 94 = .ok (.iconst 1, 1) := dk_4 (dk_at dksX3_heirs_3 22 rfl rfl)
theorem dX3_heirs_95 : decode cX3_heirs 95 = .ok (.isub, 1) := dk_100 (dk_at dksX3_heirs_3 23 rfl rfl)
theorem dX3_heirs_96 : decode cX3_heirs 96 = .ok (.istore_n 2, 1) := dk_61 (dk_at dksX3_heirs_4 0 rfl rfl)
theorem dX3_heirs_97 : decode cX3_heirs 97 = .ok (.iload_n 2, 1) := dk_28 (dk_at dksX3_heirs_4 1 rfl rfl)
theorem dX3_heirs_98 : decode cX3_heirs 98 = .ok (.ifCond .lt 115, 3) := dk_155 0 115 (dk_at dksX3_heirs_4 2 rfl rfl)
theorem dX3_heirs_101 : decode cX3_heirs 101 = .ok (.iconst 0, 1) := dk_3 (dk_at dksX3_heirs_4 5 rfl rfl)
theorem dX3_heirs_102 : decode cX3_heirs 102 = .ok (.istore_n 3, 1) := dk_62 (dk_at dksX3_heirs_4 6 rfl rfl)
theorem dX3_heirs_103 : decode cX3_heirs 103 = .ok (.iload_n 3, 1) := dk_29 (dk_at dksX3_heirs_4 7 rfl rfl)
theorem dX3_heirs_104 : decode cX3_heirs 104 = .ok (.aload_n 0, 1) := dk_42 (dk_at dksX3_heirs_4 8 rfl rfl)
theorem dX3_heirs_105 : decode cX3_heirs 105 = .ok (.invokevirtual 293, 3) := dk_182 1 37 (dk_at dksX3_heirs_4 9 rfl rfl)
theorem dX3_heirs_108 : decode cX3_heirs 108 = .ok (.if_icmp .gt 99, 3) := dk_163 0 99 (dk_at dksX3_heirs_4 12 rfl rfl)
theorem dX3_heirs_111 : decode cX3_heirs 111 = .ok (.aload_n 0, 1) := dk_42 (dk_at dksX3_heirs_4 15 rfl rfl)
theorem dX3_heirs_112 : decode cX3_heirs 112 = .ok (.getfield 76, 3) := dk_180 0 76 (dk_at dksX3_heirs_4 16 rfl rfl)
theorem dX3_heirs_115 : decode cX3_heirs 115 = .ok (.iload_n 2, 1) := dk_28 (dk_at dksX3_heirs_4 19 rfl rfl)
theorem dX3_heirs_116 : decode cX3_heirs 116 = .ok (.iconst 1, 1) := dk_4 (dk_at dksX3_heirs_4 20 rfl rfl)
theorem dX3_heirs_117 : decode cX3_heirs 117 = .ok (.iadd, 1) := dk_96 (dk_at dksX3_heirs_4 21 rfl rfl)
theorem dX3_heirs_118 : decode cX3_heirs 118 = .ok (.bipush 6, 2) := dk_16 6 (dk_at dksX3_heirs_4 22 rfl rfl)
theorem dX3_heirs_120 : decode cX3_heirs 120 = .ok (.ishl, 1) := dk_120 (dk_at dksX3_heirs_5 0 rfl rfl)
theorem dX3_heirs_121 : decode cX3_heirs 121 = .ok (.iload_n 3, 1) := dk_29 (dk_at dksX3_heirs_5 1 rfl rfl)
theorem dX3_heirs_122 : decode cX3_heirs 122 = .ok (.ior, 1) := dk_128 (dk_at dksX3_heirs_5 2 rfl rfl)
theorem dX3_heirs_123 : decode cX3_heirs 123 = .ok (.iaload, 1) := dk_46 (dk_at dksX3_heirs_5 3 rfl rfl)
theorem dX3_heirs_124 : decode cX3_heirs 124 = .ok (.istore 4, 2) := dk_54 4 (dk_at dksX3_heirs_5 4 rfl rfl)
theorem dX3_heirs_126 : decode cX3_heirs 126 = .ok (.iconst 0, 1) := dk_3 (dk_at dksX3_heirs_5 6 rfl rfl)
theorem dX3_heirs_127 : decode cX3_heirs 127 = .ok (.istore 5, 2) := dk_54 5 (dk_at dksX3_heirs_5 7 rfl rfl)
theorem dX3_heirs_129 : decode cX3_heirs 129 = .ok (.iload 5, 2) := dk_21 5 (dk_at dksX3_heirs_5 9 rfl rfl)
theorem dX3_heirs_131 : decode cX3_heirs 131 = .ok (.aload_n 0, 1) := dk_42 (dk_at dksX3_heirs_5 11 rfl rfl)
theorem dX3_heirs_132 : decode cX3_heirs 132 = .ok (.getfield 101, 3) := dk_180 0 101 (dk_at dksX3_heirs_5 12 rfl rfl)
theorem dX3_heirs_135 : decode cX3_heirs 135 = .ok (.if_icmp .ge 53, 3) := dk_162 0 53 (dk_at dksX3_heirs_5 15 rfl rfl)
theorem dX3_heirs_138 : decode cX3_heirs 138 = .ok (.aload_n 0, 1) := dk_42 (dk_at dksX3_heirs_5 18 rfl rfl)
theorem dX3_heirs_139 : decode cX3_heirs 139 = .ok (.iload_n 2, 1) := dk_28 (dk_at dksX3_heirs_5 19 rfl rfl)
theorem dX3_heirs_140 : decode cX3_heirs 140 = .ok (.iload 5, 2) := dk_21 5 (dk_at dksX3_heirs_5 20 rfl rfl)
theorem dX3_heirs_142 : decode cX3_heirs 142 = .ok (.iload_n 3, 1) := dk_29 (dk_at dksX3_heirs_5 22 rfl rfl)
theorem dX3_heirs_143 : decode cX3_heirs 143 = .ok (.invokevirtual 323, 3) := dk_182 1 67 (dk_at dksX3_heirs_6 0 rfl rfl)
theorem dX3_heirs_146 : decode cX3_heirs 146 = .ok (.ifCond .eq 36, 3) := dk_153 0 36 (dk_at dksX3_heirs_6 3 rfl rfl)
theorem dX3_heirs_149 : decode cX3_heirs 149 = .ok (.iload 4, 2) := dk_21 4 (dk_at dksX3_heirs_6 6 rfl rfl)
theorem dX3_heirs_151 : decode cX3_heirs 151 = .ok (.aload_n 0, 1) := dk_42 (dk_at dksX3_heirs_6 8 rfl rfl)
theorem dX3_heirs_152 : decode cX3_heirs 152 = .ok (.getfield 9, 3) := dk_180 0 9 (dk_at dksX3_heirs_6 9 rfl rfl)
theorem dX3_heirs_155 : decode cX3_heirs 155 = .ok (.iload 5, 2) := dk_21 5 (dk_at dksX3_heirs_6 12 rfl rfl)
theorem dX3_heirs_157 : decode cX3_heirs 157 = .ok (.iaload, 1) := dk_46 (dk_at dksX3_heirs_6 14 rfl rfl)
theorem dX3_heirs_158 : decode cX3_heirs 158 = .ok (.aload_n 0, 1) := dk_42 (dk_at dksX3_heirs_6 15 rfl rfl)
theorem dX3_heirs_159 : decode cX3_heirs 159 = .ok (.getfield 76, 3) := dk_180 0 76 (dk_at dksX3_heirs_6 16 rfl rfl)
theorem dX3_heirs_162 : decode cX3_heirs 162 = .ok (.iload_n 2, 1) := dk_28 (dk_at dksX3_heirs_6 19 rfl rfl)
theorem dX3_heirs_163 : decode cX3_heirs 163 = .ok (.iconst 1, 1) := dk_4 (dk_at dksX3_heirs_6 20 rfl rfl)
theorem dX3_heirs_164 : decode cX3_heirs 164 = .ok (.iadd, 1) := dk_96 (dk_at dksX3_heirs_6 21 rfl rfl)
theorem dX3_heirs_165 : decode cX3_heirs 165 = .ok (.bipush 6, 2) := dk_16 6 (dk_at dksX3_heirs_6 22 rfl rfl)
theorem dX3_heirs_167 : decode cX3_heirs 167 = .ok (.ishl, 1) := dk_120 (dk_at dksX3_heirs_7 0 rfl rfl)
theorem dX3_heirs_168 : decode cX3_heirs 168 = .ok (.iload_n 3, 1) := dk_29 (dk_at dksX3_heirs_7 1 rfl rfl)
theorem dX3_heirs_169 : decode cX3_heirs 169 = .ok (.ior, 1) := dk_128 (dk_at dksX3_heirs_7 2 rfl rfl)
theorem dX3_heirs_170 : decode cX3_heirs 170 = .ok (.iconst 1, 1) := dk_4 (dk_at dksX3_heirs_7 3 rfl rfl)
theorem dX3_heirs_171 : decode cX3_heirs 171 = .ok (.iload 5, 2) := dk_21 5 (dk_at dksX3_heirs_7 4 rfl rfl)
theorem dX3_heirs_173 : decode cX3_heirs 173 = .ok (.ishl, 1) := dk_120 (dk_at dksX3_heirs_7 6 rfl rfl)
theorem dX3_heirs_174 : decode cX3_heirs 174 = .ok (.ior, 1) := dk_128 (dk_at dksX3_heirs_7 7 rfl rfl)
theorem dX3_heirs_175 : decode cX3_heirs 175 = .ok (.iaload, 1) := dk_46 (dk_at dksX3_heirs_7 8 rfl rfl)
theorem dX3_heirs_176 : decode cX3_heirs 176 = .ok (.iadd, 1) := dk_96 (dk_at dksX3_heirs_7 9 rfl rfl)
theorem dX3_heirs_177 : decode cX3_heirs 177 = .ok (.invokestatic 217, 3) := dk_184 0 217 (dk_at dksX3_heirs_7 10 rfl rfl)
theorem dX3_heirs_180 : decode cX3_heirs 180 = .ok (.istore 4, 2) := dk_54 4 (dk_at dksX3_heirs_7 13 rfl rfl)
theorem dX3_heirs_182 : decode cX3_heirs 182 = .ok (.iinc 5 1, 3) := dk_132 5 1 (dk_at dksX3_heirs_7 15 rfl rfl)
theorem dX3_heirs_185 : decode cX3_heirs 185 = .ok (.goto (-56), 3) := dk_167 255 200 (dk_at dksX3_heirs_7 18 rfl rfl)
theorem dX3_heirs_188 : decode cX3_heirs 188 = .ok (.aload_n 0, 1) := dk_42 (dk_at dksX3_heirs_7 21 rfl rfl)
theorem dX3_heirs_189 : decode cX3_heirs 189 = .ok (.getfield 76, 3) := dk_180 0 76 (dk_at dksX3_heirs_8 0 rfl rfl)
theorem dX3_heirs_192 : decode cX3_heirs 192 = .ok (.iload_n 2, 1) := dk_28 (dk_at dksX3_heirs_8 3 rfl rfl)
theorem dX3_heirs_193 : decode cX3_heirs 193 = .ok (.bipush 6, 2) := dk_16 6 (dk_at dksX3_heirs_8 4 rfl rfl)
theorem dX3_heirs_195 : decode cX3_heirs 195 = .ok (.ishl, 1) := dk_120 (dk_at dksX3_heirs_8 6 rfl rfl)
theorem dX3_heirs_196 : decode cX3_heirs 196 = .ok (.iload_n 3, 1) := dk_29 (dk_at dksX3_heirs_8 7 rfl rfl)
theorem dX3_heirs_197 : decode cX3_heirs 197 = .ok (.ior, 1) := dk_128 (dk_at dksX3_heirs_8 8 rfl rfl)
theorem dX3_heirs_198 : decode cX3_heirs 198 = .ok (.iload 4, 2) := dk_21 4 (dk_at dksX3_heirs_8 9 rfl rfl)
theorem dX3_heirs_200 : decode cX3_heirs 200 = .ok (.iastore, 1) := dk_79 (dk_at dksX3_heirs_8 11 rfl rfl)
theorem dX3_heirs_201 : decode cX3_heirs 201 = .ok (.iinc 3 1, 3) := dk_132 3 1 (dk_at dksX3_heirs_8 12 rfl rfl)
theorem dX3_heirs_204 : decode cX3_heirs 204 = .ok (.goto (-101), 3) := dk_167 255 155 (dk_at dksX3_heirs_8 15 rfl rfl)
theorem dX3_heirs_207 : decode cX3_heirs 207 = .ok (.iinc 2 (-1), 3) := dk_132 2 255 (dk_at dksX3_heirs_8 18 rfl rfl)
theorem dX3_heirs_210 : decode cX3_heirs 210 = .ok (.goto (-113), 3) := dk_167 255 143 (dk_at dksX3_heirs_8 21 rfl rfl)
theorem dX3_heirs_213 : decode cX3_heirs 213 = .ok (.aload_n 0, 1) := dk_42 (dk_at dksX3_heirs_9 0 rfl rfl)
theorem dX3_heirs_214 : decode cX3_heirs 214 = .ok (.iconst 0, 1) := dk_3 (dk_at dksX3_heirs_9 1 rfl rfl)
theorem dX3_heirs_215 : decode cX3_heirs 215 = .ok (.putfield 98, 3) := dk_181 0 98 (dk_at dksX3_heirs_9 2 rfl rfl)
theorem dX3_heirs_218 : decode cX3_heirs 218 = .ok (.iconst 0, 1) := dk_3 (dk_at dksX3_heirs_9 5 rfl rfl)
theorem dX3_heirs_219 : decode cX3_heirs 219 = .ok (.istore_n 2, 1) := dk_61 (dk_at dksX3_heirs_9 6 rfl rfl)
theorem dX3_heirs_220 : decode cX3_heirs 220 = .ok (.iconst 0, 1) := dk_3 (dk_at dksX3_heirs_9 7 rfl rfl)
theorem dX3_heirs_221 : decode cX3_heirs 221 = .ok (.istore_n 3, 1) := dk_62 (dk_at dksX3_heirs_9 8 rfl rfl)
theorem dX3_heirs_222 : decode cX3_heirs 222 = .ok (.iload_n 3, 1) := dk_29 (dk_at dksX3_heirs_9 9 rfl rfl)
theorem dX3_heirs_223 : decode cX3_heirs 223 = .ok (.iload_n 1, 1) := dk_27 (dk_at dksX3_heirs_9 10 rfl rfl)
theorem dX3_heirs_224 : decode cX3_heirs 224 = .ok (.if_icmp .ge 108, 3) := dk_162 0 108 (dk_at dksX3_heirs_9 11 rfl rfl)
theorem dX3_heirs_227 : decode cX3_heirs 227 = .ok (.aload_n 0, 1) := dk_42 (dk_at dksX3_heirs_9 14 rfl rfl)
theorem dX3_heirs_228 : decode cX3_heirs 228 = .ok (.getfield 76, 3) := dk_180 0 76 (dk_at dksX3_heirs_9 15 rfl rfl)
theorem dX3_heirs_231 : decode cX3_heirs 231 = .ok (.iload_n 3, 1) := dk_29 (dk_at dksX3_heirs_9 18 rfl rfl)
theorem dX3_heirs_232 : decode cX3_heirs 232 = .ok (.bipush 6, 2) := dk_16 6 (dk_at dksX3_heirs_9 19 rfl rfl)
theorem dX3_heirs_234 : decode cX3_heirs 234 = .ok (.ishl, 1) := dk_120 (dk_at dksX3_heirs_9 21 rfl rfl)
theorem dX3_heirs_235 : decode cX3_heirs 235 = .ok (.iload_n 2, 1) := dk_28 (dk_at dksX3_heirs_9 22 rfl rfl)
theorem dX3_heirs_236 : decode cX3_heirs 236 = .ok (.ior, 1) := dk_128 (dk_at dksX3_heirs_9 23 rfl rfl)
theorem dX3_heirs_237 : decode cX3_heirs 237 = .ok (.iaload, 1) := dk_46 (dk_at dksX3_heirs_10 0 rfl rfl)
theorem dX3_heirs_238 : decode cX3_heirs 238 = .ok (.istore 4, 2) := dk_54 4 (dk_at dksX3_heirs_10 1 rfl rfl)
theorem dX3_heirs_240 : decode cX3_heirs 240 = .ok (.iconst (-1), 1) := dk_2 (dk_at dksX3_heirs_10 3 rfl rfl)
theorem dX3_heirs_241 : decode cX3_heirs 241 = .ok (.istore 5, 2) := dk_54 5 (dk_at dksX3_heirs_10 4 rfl rfl)
theorem dX3_heirs_243 : decode cX3_heirs 243 = .ok (.aload_n 0, 1) := dk_42 (dk_at dksX3_heirs_10 6 rfl rfl)
theorem dX3_heirs_244 : decode cX3_heirs 244 = .ok (.getfield 76, 3) := dk_180 0 76 (dk_at dksX3_heirs_10 7 rfl rfl)
theorem dX3_heirs_247 : decode cX3_heirs 247 = .ok (.iload_n 3, 1) := dk_29 (dk_at dksX3_heirs_10 10 rfl rfl)
theorem dX3_heirs_248 : decode cX3_heirs 248 = .ok (.iconst 1, 1) := dk_4 (dk_at dksX3_heirs_10 11 rfl rfl)
theorem dX3_heirs_249 : decode cX3_heirs 249 = .ok (.iadd, 1) := dk_96 (dk_at dksX3_heirs_10 12 rfl rfl)
theorem dX3_heirs_250 : decode cX3_heirs 250 = .ok (.bipush 6, 2) := dk_16 6 (dk_at dksX3_heirs_10 13 rfl rfl)
theorem dX3_heirs_252 : decode cX3_heirs 252 = .ok (.ishl, 1) := dk_120 (dk_at dksX3_heirs_10 15 rfl rfl)
theorem dX3_heirs_253 : decode cX3_heirs 253 = .ok (.iload_n 2, 1) := dk_28 (dk_at dksX3_heirs_10 16 rfl rfl)
theorem dX3_heirs_254 : decode cX3_heirs 254 = .ok (.ior, 1) := dk_128 (dk_at dksX3_heirs_10 17 rfl rfl)
theorem dX3_heirs_255 : decode cX3_heirs 255 = .ok (.iaload, 1) := dk_46 (dk_at dksX3_heirs_10 18 rfl rfl)
theorem dX3_heirs_256 : decode cX3_heirs 256 = .ok (.iload 4, 2) := dk_21 4 (dk_at dksX3_heirs_10 19 rfl rfl)
theorem dX3_heirs_258 : decode cX3_heirs 258 = .ok (.if_icmp .eq 61, 3) := dk_159 0 61 (dk_at dksX3_heirs_10 21 rfl rfl)
theorem dX3_heirs_261 : decode cX3_heirs 261 = .ok (.iconst 0, 1) := dk_3 (dk_at dksX3_heirs_11 0 rfl rfl)
theorem dX3_heirs_262 : decode cX3_heirs 262 = .ok (.istore 5, 2) := dk_54 5 (dk_at dksX3_heirs_11 1 rfl rfl)
theorem dX3_heirs_264 : decode cX3_heirs 264 = .ok (.aload_n 0, 1) := dk_42 (dk_at dksX3_heirs_11 3 rfl rfl)
theorem dX3_heirs_265 : decode cX3_heirs 265 = .ok (.iload_n 3, 1) := dk_29 (dk_at dksX3_heirs_11 4 rfl rfl)
theorem dX3_heirs_266 : decode cX3_heirs 266 = .ok (.iload 5, 2) := dk_21 5 (dk_at dksX3_heirs_11 5 rfl rfl)
theorem dX3_heirs_268 : decode cX3_heirs 268 = .ok (.iload_n 2, 1) := dk_28 (dk_at dksX3_heirs_11 7 rfl rfl)
theorem dX3_heirs_269 : decode cX3_heirs 269 = .ok (.invokevirtual 323, 3) := dk_182 1 67 (dk_at dksX3_heirs_11 8 rfl rfl)
theorem dX3_heirs_272 : decode cX3_heirs 272 = .ok (.ifCond .eq 34, 3) := dk_153 0 34 (dk_at dksX3_heirs_11 11 rfl rfl)
theorem dX3_heirs_275 : decode cX3_heirs 275 = .ok (.aload_n 0, 1) := dk_42 (dk_at dksX3_heirs_11 14 rfl rfl)
theorem dX3_heirs_276 : decode cX3_heirs 276 = .ok (.getfield 9, 3) := dk_180 0 9 (dk_at dksX3_heirs_11 15 rfl rfl)
theorem dX3_heirs_279 : decode cX3_heirs 279 = .ok (.iload 5, 2) := dk_21 5 (dk_at dksX3_heirs_11 18 rfl rfl)
theorem dX3_heirs_281 : decode cX3_heirs 281 = .ok (.iaload, 1) := dk_46 (dk_at dksX3_heirs_11 20 rfl rfl)
theorem dX3_heirs_282 : decode cX3_heirs 282 = .ok (.aload_n 0, 1) := dk_42 (dk_at dksX3_heirs_11 21 rfl rfl)
theorem dX3_heirs_283 : decode cX3_heirs 283 = .ok (.getfield 76, 3) := dk_180 0 76 (dk_at dksX3_heirs_12 0 rfl rfl)
theorem dX3_heirs_286 : decode cX3_heirs 286 = .ok (.iload_n 3, 1) := dk_29 (dk_at dksX3_heirs_12 3 rfl rfl)
theorem dX3_heirs_287 : decode cX3_heirs 287 = .ok (.iconst 1, 1) := dk_4 (dk_at dksX3_heirs_12 4 rfl rfl)
theorem dX3_heirs_288 : decode cX3_heirs 288 = .ok (.iadd, 1) := dk_96 (dk_at dksX3_heirs_12 5 rfl rfl)
theorem dX3_heirs_289 : decode cX3_heirs 289 = .ok (.bipush 6, 2) := dk_16 6 (dk_at dksX3_heirs_12 6 rfl rfl)
theorem dX3_heirs_291 : decode cX3_heirs 291 = .ok (.ishl, 1) := dk_120 (dk_at dksX3_heirs_12 8 rfl rfl)
theorem dX3_heirs_292 : decode cX3_heirs 292 = .ok (.iload_n 2, 1) := dk_28 (dk_at dksX3_heirs_12 9 rfl rfl)
theorem dX3_heirs_293 : decode cX3_heirs 293 = .ok (.ior, 1) := dk_128 (dk_at dksX3_heirs_12 10 rfl rfl)
theorem dX3_heirs_294 : decode cX3_heirs 294 = .ok (.iconst 1, 1) := dk_4 (dk_at dksX3_heirs_12 11 rfl rfl)
theorem dX3_heirs_295 : decode cX3_heirs 295 = .ok (.iload 5, 2) := dk_21 5 (dk_at dksX3_heirs_12 12 rfl rfl)
theorem dX3_heirs_297 : decode cX3_heirs 297 = .ok (.ishl, 1) := dk_120 (dk_at dksX3_heirs_12 14 rfl rfl)
theorem dX3_heirs_298 : decode cX3_heirs 298 = .ok (.ior, 1) := dk_128 (dk_at dksX3_heirs_12 15 rfl rfl)
theorem dX3_heirs_299 : decode cX3_heirs 299 = .ok (.iaload, 1) := dk_46 (dk_at dksX3_heirs_12 16 rfl rfl)
theorem dX3_heirs_300 : decode cX3_heirs 300 = .ok (.iadd, 1) := dk_96 (dk_at dksX3_heirs_12 17 rfl rfl)
theorem dX3_heirs_301 : decode cX3_heirs 301 = .ok (.iload 4, 2) := dk_21 4 (dk_at dksX3_heirs_12 18 rfl rfl)
theorem dX3_heirs_303 : decode cX3_heirs 303 = .ok (.if_icmp .eq 9, 3) := dk_159 0 9 (dk_at dksX3_heirs_12 20 rfl rfl)
theorem dX3_heirs_306 : decode cX3_heirs 306 = .ok (.iinc 5 1, 3) := dk_132 5 1 (dk_at dksX3_heirs_13 0 rfl rfl)
theorem dX3_heirs_309 : decode cX3_heirs 309 = .ok (.goto (-45), 3) := dk_167 255 211 (dk_at dksX3_heirs_13 3 rfl rfl)
theorem dX3_heirs_312 : decode cX3_heirs 312 = .ok (.iload_n 2, 1) := dk_28 (dk_at dksX3_heirs_13 6 rfl rfl)
theorem dX3_heirs_313 : decode cX3_heirs 313 = .ok (.iconst 1, 1) := dk_4 (dk_at dksX3_heirs_13 7 rfl rfl)
theorem dX3_heirs_314 : decode cX3_heirs 314 = .ok (.iload 5, 2) := dk_21 5 (dk_at dksX3_heirs_13 8 rfl rfl)
theorem dX3_heirs_316 : decode cX3_heirs 316 = .ok (.ishl, 1) := dk_120 (dk_at dksX3_heirs_13 10 rfl rfl)
theorem dX3_heirs_317 : decode cX3_heirs 317 = .ok (.ior, 1) := dk_128 (dk_at dksX3_heirs_13 11 rfl rfl)
theorem dX3_heirs_318 : decode cX3_heirs 318 = .ok (.istore_n 2, 1) := dk_61 (dk_at dksX3_heirs_13 12 rfl rfl)
theorem dX3_heirs_319 : decode cX3_heirs 319 = .ok (.aload_n 0, 1) := dk_42 (dk_at dksX3_heirs_13 13 rfl rfl)
theorem dX3_heirs_320 : decode cX3_heirs 320 = .ok (.iload 5, 2) := dk_21 5 (dk_at dksX3_heirs_13 14 rfl rfl)
theorem dX3_heirs_322 : decode cX3_heirs 322 = .ok (.i2l, 1) := dk_133 (dk_at dksX3_heirs_13 16 rfl rfl)
theorem dX3_heirs_323 : decode cX3_heirs 323 = .ok (.invokevirtual 248, 3) := dk_182 0 248 (dk_at dksX3_heirs_13 17 rfl rfl)
theorem dX3_heirs_326 : decode cX3_heirs 326 = .ok (.iinc 3 1, 3) := dk_132 3 1 (dk_at dksX3_heirs_13 20 rfl rfl)
theorem dX3_heirs_329 : decode cX3_heirs 329 = .ok (.goto (-107), 3) := dk_167 255 149 (dk_at dksX3_heirs_14 0 rfl rfl)
theorem dX3_heirs_332 : decode cX3_heirs 332 = .ok (.aload_n 0, 1) := dk_42 (dk_at dksX3_heirs_14 3 rfl rfl)
theorem dX3_heirs_333 : decode cX3_heirs 333 = .ok (.getfield 76, 3) := dk_180 0 76 (dk_at dksX3_heirs_14 4 rfl rfl)
theorem dX3_heirs_336 : decode cX3_heirs 336 = .ok (.iconst 0, 1) := dk_3 (dk_at dksX3_heirs_14 7 rfl rfl)
theorem dX3_heirs_337 : decode cX3_heirs 337 = .ok (.iaload, 1) := dk_46 (dk_at dksX3_heirs_14 8 rfl rfl)
theorem dX3_heirs_338 : decode cX3_heirs 338 = .ok (.ireturn, 1) := dk_172 (dk_at dksX3_heirs_14 9 rfl rfl)
abbrev cX3_canHave : ByteArray := prog_9_method_90_code
def yX3_canHave : MethodName := ⟨RX3, "canHave", "(III)Z"⟩
def dkwX3_canHave_1 : List UInt8 := [159, 0, 7, 4, 167, 0, 4, 3, 172]
abbrev dktX3_canHave_1 : List UInt8 := dkwX3_canHave_1 ++ []
def dkwX3_canHave_0 : List UInt8 := [29, 28, 184, 1, 21, 154, 0, 25, 42, 180, 0, 9, 16, 24, 28, 96, 46, 42, 180, 0, 30, 27, 46]
abbrev dktX3_canHave_0 : List UInt8 := dkwX3_canHave_0 ++ dktX3_canHave_1
theorem dksX3_canHave_0 : cX3_canHave.data.toList.drop 0 = dktX3_canHave_0 := by decide +kernel
theorem dksX3_canHave_1 : cX3_canHave.data.toList.drop 23 = dktX3_canHave_1 := dk_seg dksX3_canHave_0 23 rfl rfl
theorem dX3_canHave_0 : decode cX3_canHave 0 = .ok (.iload_n 3, 1) := dk_29 (dk_at dksX3_canHave_0 0 rfl rfl)
theorem dX3_canHave_1 : decode cX3_canHave 1 = .ok (.iload_n 2, 1) := dk_28 (dk_at dksX3_canHave_0 1 rfl rfl)
theorem dX3_canHave_2 : decode cX3_canHave 2 = .ok (.invokestatic 277, 3) := dk_184 1 21 (dk_at dksX3_canHave_0 2 rfl rfl)
theorem dX3_canHave_5 : decode cX3_canHave 5 = .ok (.ifCond .ne 25, 3) := dk_154 0 25 (dk_at dksX3_canHave_0 5 rfl rfl)
theorem dX3_canHave_8 : decode cX3_canHave 8 = .ok (.aload_n 0, 1) := dk_42 (dk_at dksX3_canHave_0 8 rfl rfl)
theorem dX3_canHave_9 : decode cX3_canHave 9 = .ok (.getfield 9, 3) := dk_180 0 9 (dk_at dksX3_canHave_0 9 rfl rfl)
theorem dX3_canHave_12 : decode cX3_canHave 12 = .ok (.bipush 24, 2) := dk_16 24 (dk_at dksX3_canHave_0 12 rfl rfl)
theorem dX3_canHave_14 : decode cX3_canHave 14 = .ok (.iload_n 2, 1) := dk_28 (dk_at dksX3_canHave_0 14 rfl rfl)
theorem dX3_canHave_15 : decode cX3_canHave 15 = .ok (.iadd, 1) := dk_96 (dk_at dksX3_canHave_0 15 rfl rfl)
theorem dX3_canHave_16 : decode cX3_canHave 16 = .ok (.iaload, 1) := dk_46 (dk_at dksX3_canHave_0 16 rfl rfl)
theorem dX3_canHave_17 : decode cX3_canHave 17 = .ok (.aload_n 0, 1) := dk_42 (dk_at dksX3_canHave_0 17 rfl rfl)
theorem dX3_canHave_18 : decode cX3_canHave 18 = .ok (.getfield 30, 3) := dk_180 0 30 (dk_at dksX3_canHave_0 18 rfl rfl)
theorem dX3_canHave_21 : decode cX3_canHave 21 = .ok (.iload_n 1, 1) := dk_27 (dk_at dksX3_canHave_0 21 rfl rfl)
theorem dX3_canHave_22 : decode cX3_canHave 22 = .ok (.iaload, 1) := dk_46 (dk_at dksX3_canHave_0 22 rfl rfl)
theorem dX3_canHave_23 : decode cX3_canHave 23 = .ok (.if_icmp .eq 7, 3) := dk_159 0 7 (dk_at dksX3_canHave_1 0 rfl rfl)
theorem dX3_canHave_26 : decode cX3_canHave 26 = .ok (.iconst 1, 1) := dk_4 (dk_at dksX3_canHave_1 3 rfl rfl)
theorem dX3_canHave_27 : decode cX3_canHave 27 = .ok (.goto 4, 3) := dk_167 0 4 (dk_at dksX3_canHave_1 4 rfl rfl)
theorem dX3_canHave_30 : decode cX3_canHave 30 = .ok (.iconst 0, 1) := dk_3 (dk_at dksX3_canHave_1 7 rfl rfl)
theorem dX3_canHave_31 : decode cX3_canHave 31 = .ok (.ireturn, 1) := dk_172 (dk_at dksX3_canHave_1 8 rfl rfl)
abbrev cX3_duck : ByteArray := prog_9_method_95_code
def yX3_duck : MethodName := ⟨RX3, "duck", "(III)I"⟩
def dkwX3_duck_5 : List UInt8 := [42, 42, 180, 0, 79, 28, 47, 22, 6, 109, 182, 0, 248, 42, 22, 4, 22, 6, 109, 182, 0, 248, 3, 172]
abbrev dktX3_duck_5 : List UInt8 := dkwX3_duck_5 ++ []
def dkwX3_duck_4 : List UInt8 := [132, 6, 1, 167, 255, 235, 42, 180, 0, 79, 28, 47, 22, 4, 184, 1, 70, 55, 6, 42, 3, 181, 0, 98]
abbrev dktX3_duck_4 : List UInt8 := dkwX3_duck_4 ++ dktX3_duck_5
def dkwX3_duck_3 : List UInt8 := [55, 4, 3, 54, 6, 21, 6, 29, 162, 0, 21, 42, 182, 1, 79, 22, 4, 20, 1, 77, 105, 55, 4]
abbrev dktX3_duck_3 : List UInt8 := dkwX3_duck_3 ++ dktX3_duck_4
def dkwX3_duck_2 : List UInt8 := [180, 0, 79, 21, 4, 21, 4, 27, 160, 0, 7, 10, 167, 0, 4, 9, 80, 132, 4, 1, 167, 255, 226, 10]
abbrev dktX3_duck_2 : List UInt8 := dkwX3_duck_2 ++ dktX3_duck_3
def dkwX3_duck_1 : List UInt8 := [16, 10, 184, 0, 104, 154, 0, 5, 2, 172, 3, 54, 4, 21, 4, 42, 180, 0, 101, 162, 0, 27, 42]
abbrev dktX3_duck_1 : List UInt8 := dkwX3_duck_1 ++ dktX3_duck_2
def dkwX3_duck_0 : List UInt8 := [42, 3, 181, 0, 95, 42, 27, 182, 0, 108, 153, 0, 21, 42, 28, 182, 0, 108, 153, 0, 13, 29, 3]
abbrev dktX3_duck_0 : List UInt8 := dkwX3_duck_0 ++ dktX3_duck_1
theorem dksX3_duck_0 : cX3_duck.data.toList.drop 0 = dktX3_duck_0 := by decide +kernel
theorem dksX3_duck_1 : cX3_duck.data.toList.drop 23 = dktX3_duck_1 := dk_seg dksX3_duck_0 23 rfl rfl
theorem dksX3_duck_2 : cX3_duck.data.toList.drop 46 = dktX3_duck_2 := dk_seg dksX3_duck_1 23 rfl rfl
theorem dksX3_duck_3 : cX3_duck.data.toList.drop 70 = dktX3_duck_3 := dk_seg dksX3_duck_2 24 rfl rfl
theorem dksX3_duck_4 : cX3_duck.data.toList.drop 93 = dktX3_duck_4 := dk_seg dksX3_duck_3 23 rfl rfl
theorem dksX3_duck_5 : cX3_duck.data.toList.drop 117 = dktX3_duck_5 := dk_seg dksX3_duck_4 24 rfl rfl
theorem dX3_duck_0 : decode cX3_duck 0 = .ok (.aload_n 0, 1) := dk_42 (dk_at dksX3_duck_0 0 rfl rfl)
theorem dX3_duck_1 : decode cX3_duck 1 = .ok (.iconst 0, 1) := dk_3 (dk_at dksX3_duck_0 1 rfl rfl)
theorem dX3_duck_2 : decode cX3_duck 2 = .ok (.putfield 95, 3) := dk_181 0 95 (dk_at dksX3_duck_0 2 rfl rfl)
theorem dX3_duck_5 : decode cX3_duck 5 = .ok (.aload_n 0, 1) := dk_42 (dk_at dksX3_duck_0 5 rfl rfl)
theorem dX3_duck_6 : decode cX3_duck 6 = .ok (.iload_n 1, 1) := dk_27 (dk_at dksX3_duck_0 6 rfl rfl)
theorem dX3_duck_7 : decode cX3_duck 7 = .ok (.invokevirtual 108, 3) := dk_182 0 108 (dk_at dksX3_duck_0 7 rfl rfl)
theorem dX3_duck_10 : decode cX3_duck 10 = .ok (.ifCond .eq 21, 3) := dk_153 0 21 (dk_at dksX3_duck_0 10 rfl rfl)
theorem dX3_duck_13 : decode cX3_duck 13 = .ok (.aload_n 0, 1) := dk_42 (dk_at dksX3_duck_0 13 rfl rfl)
theorem dX3_duck_14 : decode cX3_duck 14 = .ok (.iload_n 2, 1) := dk_28 (dk_at dksX3_duck_0 14 rfl rfl)
theorem dX3_duck_15 : decode cX3_duck 15 = .ok (.invokevirtual 108, 3) := dk_182 0 108 (dk_at dksX3_duck_0 15 rfl rfl)
theorem dX3_duck_18 : decode cX3_duck 18 = .ok (.ifCond .eq 13, 3) := dk_153 0 13 (dk_at dksX3_duck_0 18 rfl rfl)
theorem dX3_duck_21 : decode cX3_duck 21 = .ok (.iload_n 3, 1) := dk_29 (dk_at dksX3_duck_0 21 rfl rfl)
theorem dX3_duck_22 : decode cX3_duck 22 = .ok (.iconst 0, 1) := dk_3 (dk_at dksX3_duck_0 22 rfl rfl)
theorem dX3_duck_23 : decode cX3_duck 23 = .ok (.bipush 10, 2) := dk_16 10 (dk_at dksX3_duck_1 0 rfl rfl)
theorem dX3_duck_25 : decode cX3_duck 25 = .ok (.invokestatic 104, 3) := dk_184 0 104 (dk_at dksX3_duck_1 2 rfl rfl)
theorem dX3_duck_28 : decode cX3_duck 28 = .ok (.ifCond .ne 5, 3) := dk_154 0 5 (dk_at dksX3_duck_1 5 rfl rfl)
theorem dX3_duck_31 : decode cX3_duck 31 = .ok (.iconst (-1), 1) := dk_2 (dk_at dksX3_duck_1 8 rfl rfl)
theorem dX3_duck_32 : decode cX3_duck 32 = .ok (.ireturn, 1) := dk_172 (dk_at dksX3_duck_1 9 rfl rfl)
theorem dX3_duck_33 : decode cX3_duck 33 = .ok (.iconst 0, 1) := dk_3 (dk_at dksX3_duck_1 10 rfl rfl)
theorem dX3_duck_34 : decode cX3_duck 34 = .ok (.istore 4, 2) := dk_54 4 (dk_at dksX3_duck_1 11 rfl rfl)
theorem dX3_duck_36 : decode cX3_duck 36 = .ok (.iload 4, 2) := dk_21 4 (dk_at dksX3_duck_1 13 rfl rfl)
theorem dX3_duck_38 : decode cX3_duck 38 = .ok (.aload_n 0, 1) := dk_42 (dk_at dksX3_duck_1 15 rfl rfl)
theorem dX3_duck_39 : decode cX3_duck 39 = .ok (.getfield 101, 3) := dk_180 0 101 (dk_at dksX3_duck_1 16 rfl rfl)
theorem dX3_duck_42 : decode cX3_duck 42 = .ok (.if_icmp .ge 27, 3) := dk_162 0 27 (dk_at dksX3_duck_1 19 rfl rfl)
theorem dX3_duck_45 : decode cX3_duck 45 = .ok (.aload_n 0, 1) := dk_42 (dk_at dksX3_duck_1 22 rfl rfl)
theorem dX3_duck_46 : decode cX3_duck 46 = .ok (.getfield 79, 3) := dk_180 0 79 (dk_at dksX3_duck_2 0 rfl rfl)
theorem dX3_duck_49 : decode cX3_duck 49 = .ok (.iload 4, 2) := dk_21 4 (dk_at dksX3_duck_2 3 rfl rfl)
theorem dX3_duck_51 : decode cX3_duck 51 = .ok (.iload 4, 2) := dk_21 4 (dk_at dksX3_duck_2 5 rfl rfl)
theorem dX3_duck_53 : decode cX3_duck 53 = .ok (.iload_n 1, 1) := dk_27 (dk_at dksX3_duck_2 7 rfl rfl)
theorem dX3_duck_54 : decode cX3_duck 54 = .ok (.if_icmp .ne 7, 3) := dk_160 0 7 (dk_at dksX3_duck_2 8 rfl rfl)
theorem dX3_duck_57 : decode cX3_duck 57 = .ok (.lconst 1, 1) := dk_10 (dk_at dksX3_duck_2 11 rfl rfl)
theorem dX3_duck_58 : decode cX3_duck 58 = .ok (.goto 4, 3) := dk_167 0 4 (dk_at dksX3_duck_2 12 rfl rfl)
theorem dX3_duck_61 : decode cX3_duck 61 = .ok (.lconst 0, 1) := dk_9 (dk_at dksX3_duck_2 15 rfl rfl)
theorem dX3_duck_62 : decode cX3_duck 62 = .ok (.lastore, 1) := dk_80 (dk_at dksX3_duck_2 16 rfl rfl)
theorem dX3_duck_63 : decode cX3_duck 63 = .ok (.iinc 4 1, 3) := dk_132 4 1 (dk_at dksX3_duck_2 17 rfl rfl)
theorem dX3_duck_66 : decode cX3_duck 66 = .ok (.goto (-30), 3) := dk_167 255 226 (dk_at dksX3_duck_2 20 rfl rfl)
theorem dX3_duck_69 : decode cX3_duck 69 = .ok (.lconst 1, 1) := dk_10 (dk_at dksX3_duck_2 23 rfl rfl)
theorem dX3_duck_70 : decode cX3_duck 70 = .ok (.lstore 4, 2) := dk_55 4 (dk_at dksX3_duck_3 0 rfl rfl)
theorem dX3_duck_72 : decode cX3_duck 72 = .ok (.iconst 0, 1) := dk_3 (dk_at dksX3_duck_3 2 rfl rfl)
theorem dX3_duck_73 : decode cX3_duck 73 = .ok (.istore 6, 2) := dk_54 6 (dk_at dksX3_duck_3 3 rfl rfl)
theorem dX3_duck_75 : decode cX3_duck 75 = .ok (.iload 6, 2) := dk_21 6 (dk_at dksX3_duck_3 5 rfl rfl)
theorem dX3_duck_77 : decode cX3_duck 77 = .ok (.iload_n 3, 1) := dk_29 (dk_at dksX3_duck_3 7 rfl rfl)
theorem dX3_duck_78 : decode cX3_duck 78 = .ok (.if_icmp .ge 21, 3) := dk_162 0 21 (dk_at dksX3_duck_3 8 rfl rfl)
theorem dX3_duck_81 : decode cX3_duck 81 = .ok (.aload_n 0, 1) := dk_42 (dk_at dksX3_duck_3 11 rfl rfl)
theorem dX3_duck_82 : decode cX3_duck 82 = .ok (.invokevirtual 335, 3) := dk_182 1 79 (dk_at dksX3_duck_3 12 rfl rfl)
theorem dX3_duck_85 : decode cX3_duck 85 = .ok (.lload 4, 2) := dk_22 4 (dk_at dksX3_duck_3 15 rfl rfl)
theorem dX3_duck_87 : decode cX3_duck 87 = .ok (.ldc2_w 333, 3) := dk_20 1 77 (dk_at dksX3_duck_3 17 rfl rfl)
theorem dX3_duck_90 : decode cX3_duck 90 = .ok (.lmul, 1) := dk_105 (dk_at dksX3_duck_3 20 rfl rfl)
theorem dX3_duck_91 : decode cX3_duck 91 = .ok (.lstore 4, 2) := dk_55 4 (dk_at dksX3_duck_3 21 rfl rfl)
theorem dX3_duck_93 : decode cX3_duck 93 = .ok (.iinc 6 1, 3) := dk_132 6 1 (dk_at dksX3_duck_4 0 rfl rfl)
theorem dX3_duck_96 : decode cX3_duck 96 = .ok (.goto (-21), 3) := dk_167 255 235 (dk_at dksX3_duck_4 3 rfl rfl)
theorem dX3_duck_99 : decode cX3_duck 99 = .ok (.aload_n 0, 1) := dk_42 (dk_at dksX3_duck_4 6 rfl rfl)
theorem dX3_duck_100 : decode cX3_duck 100 = .ok (.getfield 79, 3) := dk_180 0 79 (dk_at dksX3_duck_4 7 rfl rfl)
theorem dX3_duck_103 : decode cX3_duck 103 = .ok (.iload_n 2, 1) := dk_28 (dk_at dksX3_duck_4 10 rfl rfl)
theorem dX3_duck_104 : decode cX3_duck 104 = .ok (.laload, 1) := dk_47 (dk_at dksX3_duck_4 11 rfl rfl)
theorem dX3_duck_105 : decode cX3_duck 105 = .ok (.lload 4, 2) := dk_22 4 (dk_at dksX3_duck_4 12 rfl rfl)
theorem dX3_duck_107 : decode cX3_duck 107 = .ok (.invokestatic 326, 3) := dk_184 1 70 (dk_at dksX3_duck_4 14 rfl rfl)
theorem dX3_duck_110 : decode cX3_duck 110 = .ok (.lstore 6, 2) := dk_55 6 (dk_at dksX3_duck_4 17 rfl rfl)
theorem dX3_duck_112 : decode cX3_duck 112 = .ok (.aload_n 0, 1) := dk_42 (dk_at dksX3_duck_4 19 rfl rfl)
theorem dX3_duck_113 : decode cX3_duck 113 = .ok (.iconst 0, 1) := dk_3 (dk_at dksX3_duck_4 20 rfl rfl)
theorem dX3_duck_114 : decode cX3_duck 114 = .ok (.putfield 98, 3) := dk_181 0 98 (dk_at dksX3_duck_4 21 rfl rfl)
theorem dX3_duck_117 : decode cX3_duck 117 = .ok (.aload_n 0, 1) := dk_42 (dk_at dksX3_duck_5 0 rfl rfl)
theorem dX3_duck_118 : decode cX3_duck 118 = .ok (.aload_n 0, 1) := dk_42 (dk_at dksX3_duck_5 1 rfl rfl)
theorem dX3_duck_119 : decode cX3_duck 119 = .ok (.getfield 79, 3) := dk_180 0 79 (dk_at dksX3_duck_5 2 rfl rfl)
theorem dX3_duck_122 : decode cX3_duck 122 = .ok (.iload_n 2, 1) := dk_28 (dk_at dksX3_duck_5 5 rfl rfl)
theorem dX3_duck_123 : decode cX3_duck 123 = .ok (.laload, 1) := dk_47 (dk_at dksX3_duck_5 6 rfl rfl)
theorem dX3_duck_124 : decode cX3_duck 124 = .ok (.lload 6, 2) := dk_22 6 (dk_at dksX3_duck_5 7 rfl rfl)
theorem dX3_duck_126 : decode cX3_duck 126 = .ok (.ldiv, 1) := dk_109 (dk_at dksX3_duck_5 9 rfl rfl)
theorem dX3_duck_127 : decode cX3_duck 127 = .ok (.invokevirtual 248, 3) := dk_182 0 248 (dk_at dksX3_duck_5 10 rfl rfl)
theorem dX3_duck_130 : decode cX3_duck 130 = .ok (.aload_n 0, 1) := dk_42 (dk_at dksX3_duck_5 13 rfl rfl)
theorem dX3_duck_131 : decode cX3_duck 131 = .ok (.lload 4, 2) := dk_22 4 (dk_at dksX3_duck_5 14 rfl rfl)
theorem dX3_duck_133 : decode cX3_duck 133 = .ok (.lload 6, 2) := dk_22 6 (dk_at dksX3_duck_5 16 rfl rfl)
theorem dX3_duck_135 : decode cX3_duck 135 = .ok (.ldiv, 1) := dk_109 (dk_at dksX3_duck_5 18 rfl rfl)
theorem dX3_duck_136 : decode cX3_duck 136 = .ok (.invokevirtual 248, 3) := dk_182 0 248 (dk_at dksX3_duck_5 19 rfl rfl)
theorem dX3_duck_139 : decode cX3_duck 139 = .ok (.iconst 0, 1) := dk_3 (dk_at dksX3_duck_5 22 rfl rfl)
theorem dX3_duck_140 : decode cX3_duck 140 = .ok (.ireturn, 1) := dk_172 (dk_at dksX3_duck_5 23 rfl rfl)
abbrev cX3_goDuck : ByteArray := prog_9_method_94_code
def yX3_goDuck : MethodName := ⟨RX3, "goDuck", "()V"⟩
def dkwX3_goDuck_7 : List UInt8 := [80, 132, 1, 1, 167, 255, 233, 177]
abbrev dktX3_goDuck_7 : List UInt8 := dkwX3_goDuck_7 ++ []
def dkwX3_goDuck_6 : List UInt8 := [167, 255, 141, 3, 60, 27, 42, 180, 0, 101, 162, 0, 21, 42, 180, 0, 79, 27, 42, 180, 0, 82, 27, 47]
abbrev dktX3_goDuck_6 : List UInt8 := dkwX3_goDuck_6 ++ dktX3_goDuck_7
def dkwX3_goDuck_5 : List UInt8 := [180, 0, 79, 27, 47, 16, 60, 28, 108, 133, 105, 97, 80, 132, 3, 1, 167, 255, 215, 132, 1, 1]
abbrev dktX3_goDuck_5 : List UInt8 := dkwX3_goDuck_5 ++ dktX3_goDuck_6
def dkwX3_goDuck_4 : List UInt8 := [180, 0, 101, 162, 0, 39, 42, 27, 29, 182, 1, 74, 153, 0, 24, 42, 180, 0, 82, 29, 92, 47, 42]
abbrev dktX3_goDuck_4 : List UInt8 := dkwX3_goDuck_4 ++ dktX3_goDuck_5
def dkwX3_goDuck_3 : List UInt8 := [42, 180, 0, 82, 27, 92, 47, 42, 180, 0, 79, 27, 47, 20, 1, 77, 105, 97, 80, 3, 62, 29, 42]
abbrev dktX3_goDuck_3 : List UInt8 := dkwX3_goDuck_3 ++ dktX3_goDuck_4
def dkwX3_goDuck_2 : List UInt8 := [29, 182, 1, 74, 153, 0, 7, 4, 167, 0, 4, 3, 96, 61, 132, 3, 1, 167, 255, 228, 28, 154, 0, 22]
abbrev dktX3_goDuck_2 : List UInt8 := dkwX3_goDuck_2 ++ dktX3_goDuck_3
def dkwX3_goDuck_1 : List UInt8 := [60, 27, 42, 180, 0, 101, 162, 0, 113, 3, 61, 3, 62, 29, 42, 180, 0, 101, 162, 0, 26, 28, 42, 27]
abbrev dktX3_goDuck_1 : List UInt8 := dkwX3_goDuck_1 ++ dktX3_goDuck_2
def dkwX3_goDuck_0 : List UInt8 := [3, 60, 27, 42, 180, 0, 101, 162, 0, 16, 42, 180, 0, 82, 27, 9, 80, 132, 1, 1, 167, 255, 238, 3]
abbrev dktX3_goDuck_0 : List UInt8 := dkwX3_goDuck_0 ++ dktX3_goDuck_1
theorem dksX3_goDuck_0 : cX3_goDuck.data.toList.drop 0 = dktX3_goDuck_0 := by decide +kernel
theorem dksX3_goDuck_1 : cX3_goDuck.data.toList.drop 24 = dktX3_goDuck_1 := dk_seg dksX3_goDuck_0 24 rfl rfl
theorem dksX3_goDuck_2 : cX3_goDuck.data.toList.drop 48 = dktX3_goDuck_2 := dk_seg dksX3_goDuck_1 24 rfl rfl
theorem dksX3_goDuck_3 : cX3_goDuck.data.toList.drop 72 = dktX3_goDuck_3 := dk_seg dksX3_goDuck_2 24 rfl rfl
theorem dksX3_goDuck_4 : cX3_goDuck.data.toList.drop 95 = dktX3_goDuck_4 := dk_seg dksX3_goDuck_3 23 rfl rfl
theorem dksX3_goDuck_5 : cX3_goDuck.data.toList.drop 118 = dktX3_goDuck_5 := dk_seg dksX3_goDuck_4 23 rfl rfl
theorem dksX3_goDuck_6 : cX3_goDuck.data.toList.drop 140 = dktX3_goDuck_6 := dk_seg dksX3_goDuck_5 22 rfl rfl
theorem dksX3_goDuck_7 : cX3_goDuck.data.toList.drop 164 = dktX3_goDuck_7 := dk_seg dksX3_goDuck_6 24 rfl rfl
theorem dX3_goDuck_0 : decode cX3_goDuck 0 = .ok (.iconst 0, 1) := dk_3 (dk_at dksX3_goDuck_0 0 rfl rfl)
theorem dX3_goDuck_1 : decode cX3_goDuck 1 = .ok (.istore_n 1, 1) := dk_60 (dk_at dksX3_goDuck_0 1 rfl rfl)
theorem dX3_goDuck_2 : decode cX3_goDuck 2 = .ok (.iload_n 1, 1) := dk_27 (dk_at dksX3_goDuck_0 2 rfl rfl)
theorem dX3_goDuck_3 : decode cX3_goDuck 3 = .ok (.aload_n 0, 1) := dk_42 (dk_at dksX3_goDuck_0 3 rfl rfl)
theorem dX3_goDuck_4 : decode cX3_goDuck 4 = .ok (.getfield 101, 3) := dk_180 0 101 (dk_at dksX3_goDuck_0 4 rfl rfl)
theorem dX3_goDuck_7 : decode cX3_goDuck 7 = .ok (.if_icmp .ge 16, 3) := dk_162 0 16 (dk_at dksX3_goDuck_0 7 rfl rfl)
theorem dX3_goDuck_10 : decode cX3_goDuck 10 = .ok (.aload_n 0, 1) := dk_42 (dk_at dksX3_goDuck_0 10 rfl rfl)
theorem dX3_goDuck_11 : decode cX3_goDuck 11 = .ok (.getfield 82, 3) := dk_180 0 82 (dk_at dksX3_goDuck_0 11 rfl rfl)
theorem dX3_goDuck_14 : decode cX3_goDuck 14 = .ok (.iload_n 1, 1) := dk_27 (dk_at dksX3_goDuck_0 14 rfl rfl)
theorem dX3_goDuck_15 : decode cX3_goDuck 15 = .ok (.lconst 0, 1) := dk_9 (dk_at dksX3_goDuck_0 15 rfl rfl)
theorem dX3_goDuck_16 : decode cX3_goDuck 16 = .ok (.lastore, 1) := dk_80 (dk_at dksX3_goDuck_0 16 rfl rfl)
theorem dX3_goDuck_17 : decode cX3_goDuck 17 = .ok (.iinc 1 1, 3) := dk_132 1 1 (dk_at dksX3_goDuck_0 17 rfl rfl)
theorem dX3_goDuck_20 : decode cX3_goDuck 20 = .ok (.goto (-18), 3) := dk_167 255 238 (dk_at dksX3_goDuck_0 20 rfl rfl)
theorem dX3_goDuck_23 : decode cX3_goDuck 23 = .ok (.iconst 0, 1) := dk_3 (dk_at dksX3_goDuck_0 23 rfl rfl)
theorem dX3_goDuck_24 : decode cX3_goDuck 24 = .ok (.istore_n 1, 1) := dk_60 (dk_at dksX3_goDuck_1 0 rfl rfl)
theorem dX3_goDuck_25 : decode cX3_goDuck 25 = .ok (.iload_n 1, 1) := dk_27 (dk_at dksX3_goDuck_1 1 rfl rfl)
theorem dX3_goDuck_26 : decode cX3_goDuck 26 = .ok (.aload_n 0, 1) := dk_42 (dk_at dksX3_goDuck_1 2 rfl rfl)
theorem dX3_goDuck_27 : decode cX3_goDuck 27 = .ok (.getfield 101, 3) := dk_180 0 101 (dk_at dksX3_goDuck_1 3 rfl rfl)
theorem dX3_goDuck_30 : decode cX3_goDuck 30 = .ok (.if_icmp .ge 113, 3) := dk_162 0 113 (dk_at dksX3_goDuck_1 6 rfl rfl)
theorem dX3_goDuck_33 : decode cX3_goDuck 33 = .ok (.iconst 0, 1) := dk_3 (dk_at dksX3_goDuck_1 9 rfl rfl)
theorem dX3_goDuck_34 : decode cX3_goDuck 34 = .ok (.istore_n 2, 1) := dk_61 (dk_at dksX3_goDuck_1 10 rfl rfl)
theorem dX3_goDuck_35 : decode cX3_goDuck 35 = .ok (.iconst 0, 1) := dk_3 (dk_at dksX3_goDuck_1 11 rfl rfl)
theorem dX3_goDuck_36 : decode cX3_goDuck 36 = .ok (.istore_n 3, 1) := dk_62 (dk_at dksX3_goDuck_1 12 rfl rfl)
theorem dX3_goDuck_37 : decode cX3_goDuck 37 = .ok (.iload_n 3, 1) := dk_29 (dk_at dksX3_goDuck_1 13 rfl rfl)
theorem dX3_goDuck_38 : decode cX3_goDuck 38 = .ok (.aload_n 0, 1) := dk_42 (dk_at dksX3_goDuck_1 14 rfl rfl)
theorem dX3_goDuck_39 : decode cX3_goDuck 39 = .ok (.getfield 101, 3) := dk_180 0 101 (dk_at dksX3_goDuck_1 15 rfl rfl)
theorem dX3_goDuck_42 : decode cX3_goDuck 42 = .ok (.if_icmp .ge 26, 3) := dk_162 0 26 (dk_at dksX3_goDuck_1 18 rfl rfl)
theorem dX3_goDuck_45 : decode cX3_goDuck 45 = .ok (.iload_n 2, 1) := dk_28 (dk_at dksX3_goDuck_1 21 rfl rfl)
theorem dX3_goDuck_46 : decode cX3_goDuck 46 = .ok (.aload_n 0, 1) := dk_42 (dk_at dksX3_goDuck_1 22 rfl rfl)
theorem dX3_goDuck_47 : decode cX3_goDuck 47 = .ok (.iload_n 1, 1) := dk_27 (dk_at dksX3_goDuck_1 23 rfl rfl)
theorem dX3_goDuck_48 : decode cX3_goDuck 48 = .ok (.iload_n 3, 1) := dk_29 (dk_at dksX3_goDuck_2 0 rfl rfl)
theorem dX3_goDuck_49 : decode cX3_goDuck 49 = .ok (.invokevirtual 330, 3) := dk_182 1 74 (dk_at dksX3_goDuck_2 1 rfl rfl)
theorem dX3_goDuck_52 : decode cX3_goDuck 52 = .ok (.ifCond .eq 7, 3) := dk_153 0 7 (dk_at dksX3_goDuck_2 4 rfl rfl)
theorem dX3_goDuck_55 : decode cX3_goDuck 55 = .ok (.iconst 1, 1) := dk_4 (dk_at dksX3_goDuck_2 7 rfl rfl)
theorem dX3_goDuck_56 : decode cX3_goDuck 56 = .ok (.goto 4, 3) := dk_167 0 4 (dk_at dksX3_goDuck_2 8 rfl rfl)
theorem dX3_goDuck_59 : decode cX3_goDuck 59 = .ok (.iconst 0, 1) := dk_3 (dk_at dksX3_goDuck_2 11 rfl rfl)
theorem dX3_goDuck_60 : decode cX3_goDuck 60 = .ok (.iadd, 1) := dk_96 (dk_at dksX3_goDuck_2 12 rfl rfl)
theorem dX3_goDuck_61 : decode cX3_goDuck 61 = .ok (.istore_n 2, 1) := dk_61 (dk_at dksX3_goDuck_2 13 rfl rfl)
theorem dX3_goDuck_62 : decode cX3_goDuck 62 = .ok (.iinc 3 1, 3) := dk_132 3 1 (dk_at dksX3_goDuck_2 14 rfl rfl)
theorem dX3_goDuck_65 : decode cX3_goDuck 65 = .ok (.goto (-28), 3) := dk_167 255 228 (dk_at dksX3_goDuck_2 17 rfl rfl)
theorem dX3_goDuck_68 : decode cX3_goDuck 68 = .ok (.iload_n 2, 1) := dk_28 (dk_at dksX3_goDuck_2 20 rfl rfl)
theorem dX3_goDuck_69 : decode cX3_goDuck 69 = .ok (.ifCond .ne 22, 3) := dk_154 0 22 (dk_at dksX3_goDuck_2 21 rfl rfl)
theorem dX3_goDuck_72 : decode cX3_goDuck 72 = .ok (.aload_n 0, 1) := dk_42 (dk_at dksX3_goDuck_3 0 rfl rfl)
theorem dX3_goDuck_73 : decode cX3_goDuck 73 = .ok (.getfield 82, 3) := dk_180 0 82 (dk_at dksX3_goDuck_3 1 rfl rfl)
theorem dX3_goDuck_76 : decode cX3_goDuck 76 = .ok (.iload_n 1, 1) := dk_27 (dk_at dksX3_goDuck_3 4 rfl rfl)
theorem dX3_goDuck_77 : decode cX3_goDuck 77 = .ok (.dup2, 1) := dk_92 (dk_at dksX3_goDuck_3 5 rfl rfl)
theorem dX3_goDuck_78 : decode cX3_goDuck 78 = .ok (.laload, 1) := dk_47 (dk_at dksX3_goDuck_3 6 rfl rfl)
theorem dX3_goDuck_79 : decode cX3_goDuck 79 = .ok (.aload_n 0, 1) := dk_42 (dk_at dksX3_goDuck_3 7 rfl rfl)
theorem dX3_goDuck_80 : decode cX3_goDuck 80 = .ok (.getfield 79, 3) := dk_180 0 79 (dk_at dksX3_goDuck_3 8 rfl rfl)
theorem dX3_goDuck_83 : decode cX3_goDuck 83 = .ok (.iload_n 1, 1) := dk_27 (dk_at dksX3_goDuck_3 11 rfl rfl)
theorem dX3_goDuck_84 : decode cX3_goDuck 84 = .ok (.laload, 1) := dk_47 (dk_at dksX3_goDuck_3 12 rfl rfl)
theorem dX3_goDuck_85 : decode cX3_goDuck 85 = .ok (.ldc2_w 333, 3) := dk_20 1 77 (dk_at dksX3_goDuck_3 13 rfl rfl)
theorem dX3_goDuck_88 : decode cX3_goDuck 88 = .ok (.lmul, 1) := dk_105 (dk_at dksX3_goDuck_3 16 rfl rfl)
theorem dX3_goDuck_89 : decode cX3_goDuck 89 = .ok (.ladd, 1) := dk_97 (dk_at dksX3_goDuck_3 17 rfl rfl)
theorem dX3_goDuck_90 : decode cX3_goDuck 90 = .ok (.lastore, 1) := dk_80 (dk_at dksX3_goDuck_3 18 rfl rfl)
theorem dX3_goDuck_91 : decode cX3_goDuck 91 = .ok (.iconst 0, 1) := dk_3 (dk_at dksX3_goDuck_3 19 rfl rfl)
theorem dX3_goDuck_92 : decode cX3_goDuck 92 = .ok (.istore_n 3, 1) := dk_62 (dk_at dksX3_goDuck_3 20 rfl rfl)
theorem dX3_goDuck_93 : decode cX3_goDuck 93 = .ok (.iload_n 3, 1) := dk_29 (dk_at dksX3_goDuck_3 21 rfl rfl)
theorem dX3_goDuck_94 : decode cX3_goDuck 94 = .ok (.aload_n 0, 1) := dk_42 (dk_at dksX3_goDuck_3 22 rfl rfl)
theorem dX3_goDuck_95 : decode cX3_goDuck 95 = .ok (.getfield 101, 3) := dk_180 0 101 (dk_at dksX3_goDuck_4 0 rfl rfl)
theorem dX3_goDuck_98 : decode cX3_goDuck 98 = .ok (.if_icmp .ge 39, 3) := dk_162 0 39 (dk_at dksX3_goDuck_4 3 rfl rfl)
theorem dX3_goDuck_101 : decode cX3_goDuck 101 = .ok (.aload_n 0, 1) := dk_42 (dk_at dksX3_goDuck_4 6 rfl rfl)
theorem dX3_goDuck_102 : decode cX3_goDuck 102 = .ok (.iload_n 1, 1) := dk_27 (dk_at dksX3_goDuck_4 7 rfl rfl)
theorem dX3_goDuck_103 : decode cX3_goDuck 103 = .ok (.iload_n 3, 1) := dk_29 (dk_at dksX3_goDuck_4 8 rfl rfl)
theorem dX3_goDuck_104 : decode cX3_goDuck 104 = .ok (.invokevirtual 330, 3) := dk_182 1 74 (dk_at dksX3_goDuck_4 9 rfl rfl)
theorem dX3_goDuck_107 : decode cX3_goDuck 107 = .ok (.ifCond .eq 24, 3) := dk_153 0 24 (dk_at dksX3_goDuck_4 12 rfl rfl)
theorem dX3_goDuck_110 : decode cX3_goDuck 110 = .ok (.aload_n 0, 1) := dk_42 (dk_at dksX3_goDuck_4 15 rfl rfl)
theorem dX3_goDuck_111 : decode cX3_goDuck 111 = .ok (.getfield 82, 3) := dk_180 0 82 (dk_at dksX3_goDuck_4 16 rfl rfl)
theorem dX3_goDuck_114 : decode cX3_goDuck 114 = .ok (.iload_n 3, 1) := dk_29 (dk_at dksX3_goDuck_4 19 rfl rfl)
theorem dX3_goDuck_115 : decode cX3_goDuck 115 = .ok (.dup2, 1) := dk_92 (dk_at dksX3_goDuck_4 20 rfl rfl)
theorem dX3_goDuck_116 : decode cX3_goDuck 116 = .ok (.laload, 1) := dk_47 (dk_at dksX3_goDuck_4 21 rfl rfl)
theorem dX3_goDuck_117 : decode cX3_goDuck 117 = .ok (.aload_n 0, 1) := dk_42 (dk_at dksX3_goDuck_4 22 rfl rfl)
theorem dX3_goDuck_118 : decode cX3_goDuck 118 = .ok (.getfield 79, 3) := dk_180 0 79 (dk_at dksX3_goDuck_5 0 rfl rfl)
theorem dX3_goDuck_121 : decode cX3_goDuck 121 = .ok (.iload_n 1, 1) := dk_27 (dk_at dksX3_goDuck_5 3 rfl rfl)
theorem dX3_goDuck_122 : decode cX3_goDuck 122 = .ok (.laload, 1) := dk_47 (dk_at dksX3_goDuck_5 4 rfl rfl)
theorem dX3_goDuck_123 : decode cX3_goDuck 123 = .ok (.bipush 60, 2) := dk_16 60 (dk_at dksX3_goDuck_5 5 rfl rfl)
theorem dX3_goDuck_125 : decode cX3_goDuck 125 = .ok (.iload_n 2, 1) := dk_28 (dk_at dksX3_goDuck_5 7 rfl rfl)
theorem dX3_goDuck_126 : decode cX3_goDuck 126 = .ok (.idiv, 1) := dk_108 (dk_at dksX3_goDuck_5 8 rfl rfl)
theorem dX3_goDuck_127 : decode cX3_goDuck 127 = .ok (.i2l, 1) := dk_133 (dk_at dksX3_goDuck_5 9 rfl rfl)
theorem dX3_goDuck_128 : decode cX3_goDuck 128 = .ok (.lmul, 1) := dk_105 (dk_at dksX3_goDuck_5 10 rfl rfl)
theorem dX3_goDuck_129 : decode cX3_goDuck 129 = .ok (.ladd, 1) := dk_97 (dk_at dksX3_goDuck_5 11 rfl rfl)
theorem dX3_goDuck_130 : decode cX3_goDuck 130 = .ok (.lastore, 1) := dk_80 (dk_at dksX3_goDuck_5 12 rfl rfl)
theorem dX3_goDuck_131 : decode cX3_goDuck 131 = .ok (.iinc 3 1, 3) := dk_132 3 1 (dk_at dksX3_goDuck_5 13 rfl rfl)
theorem dX3_goDuck_134 : decode cX3_goDuck 134 = .ok (.goto (-41), 3) := dk_167 255 215 (dk_at dksX3_goDuck_5 16 rfl rfl)
theorem dX3_goDuck_137 : decode cX3_goDuck 137 = .ok (.iinc 1 1, 3) := dk_132 1 1 (dk_at dksX3_goDuck_5 19 rfl rfl)
theorem dX3_goDuck_140 : decode cX3_goDuck 140 = .ok (.goto (-115), 3) := dk_167 255 141 (dk_at dksX3_goDuck_6 0 rfl rfl)
theorem dX3_goDuck_143 : decode cX3_goDuck 143 = .ok (.iconst 0, 1) := dk_3 (dk_at dksX3_goDuck_6 3 rfl rfl)
theorem dX3_goDuck_144 : decode cX3_goDuck 144 = .ok (.istore_n 1, 1) := dk_60 (dk_at dksX3_goDuck_6 4 rfl rfl)
theorem dX3_goDuck_145 : decode cX3_goDuck 145 = .ok (.iload_n 1, 1) := dk_27 (dk_at dksX3_goDuck_6 5 rfl rfl)
theorem dX3_goDuck_146 : decode cX3_goDuck 146 = .ok (.aload_n 0, 1) := dk_42 (dk_at dksX3_goDuck_6 6 rfl rfl)
theorem dX3_goDuck_147 : decode cX3_goDuck 147 = .ok (.getfield 101, 3) := dk_180 0 101 (dk_at dksX3_goDuck_6 7 rfl rfl)
theorem dX3_goDuck_150 : decode cX3_goDuck 150 = .ok (.if_icmp .ge 21, 3) := dk_162 0 21 (dk_at dksX3_goDuck_6 10 rfl rfl)
theorem dX3_goDuck_153 : decode cX3_goDuck 153 = .ok (.aload_n 0, 1) := dk_42 (dk_at dksX3_goDuck_6 13 rfl rfl)
theorem dX3_goDuck_154 : decode cX3_goDuck 154 = .ok (.getfield 79, 3) := dk_180 0 79 (dk_at dksX3_goDuck_6 14 rfl rfl)
theorem dX3_goDuck_157 : decode cX3_goDuck 157 = .ok (.iload_n 1, 1) := dk_27 (dk_at dksX3_goDuck_6 17 rfl rfl)
theorem dX3_goDuck_158 : decode cX3_goDuck 158 = .ok (.aload_n 0, 1) := dk_42 (dk_at dksX3_goDuck_6 18 rfl rfl)
theorem dX3_goDuck_159 : decode cX3_goDuck 159 = .ok (.getfield 82, 3) := dk_180 0 82 (dk_at dksX3_goDuck_6 19 rfl rfl)
theorem dX3_goDuck_162 : decode cX3_goDuck 162 = .ok (.iload_n 1, 1) := dk_27 (dk_at dksX3_goDuck_6 22 rfl rfl)
theorem dX3_goDuck_163 : decode cX3_goDuck 163 = .ok (.laload, 1) := dk_47 (dk_at dksX3_goDuck_6 23 rfl rfl)
theorem dX3_goDuck_164 : decode cX3_goDuck 164 = .ok (.lastore, 1) := dk_80 (dk_at dksX3_goDuck_7 0 rfl rfl)
theorem dX3_goDuck_165 : decode cX3_goDuck 165 = .ok (.iinc 1 1, 3) := dk_132 1 1 (dk_at dksX3_goDuck_7 1 rfl rfl)
theorem dX3_goDuck_168 : decode cX3_goDuck 168 = .ok (.goto (-23), 3) := dk_167 255 233 (dk_at dksX3_goDuck_7 4 rfl rfl)
theorem dX3_goDuck_171 : decode cX3_goDuck 171 = .ok (.return_, 1) := dk_177 (dk_at dksX3_goDuck_7 7 rfl rfl)
abbrev cX3_areBeside : ByteArray := prog_9_method_93_code
def yX3_areBeside : MethodName := ⟨RX3, "areBeside", "(II)Z"⟩
def dkwX3_areBeside_1 : List UInt8 := [3, 172]
abbrev dktX3_areBeside_1 : List UInt8 := dkwX3_areBeside_1 ++ []
def dkwX3_areBeside_0 : List UInt8 := [42, 180, 0, 19, 27, 46, 28, 159, 0, 13, 42, 180, 0, 19, 28, 46, 27, 160, 0, 7, 4, 167, 0, 4]
abbrev dktX3_areBeside_0 : List UInt8 := dkwX3_areBeside_0 ++ dktX3_areBeside_1
theorem dksX3_areBeside_0 : cX3_areBeside.data.toList.drop 0 = dktX3_areBeside_0 := by decide +kernel
theorem dksX3_areBeside_1 : cX3_areBeside.data.toList.drop 24 = dktX3_areBeside_1 := dk_seg dksX3_areBeside_0 24 rfl rfl
theorem dX3_areBeside_0 : decode cX3_areBeside 0 = .ok (.aload_n 0, 1) := dk_42 (dk_at dksX3_areBeside_0 0 rfl rfl)
theorem dX3_areBeside_1 : decode cX3_areBeside 1 = .ok (.getfield 19, 3) := dk_180 0 19 (dk_at dksX3_areBeside_0 1 rfl rfl)
theorem dX3_areBeside_4 : decode cX3_areBeside 4 = .ok (.iload_n 1, 1) := dk_27 (dk_at dksX3_areBeside_0 4 rfl rfl)
theorem dX3_areBeside_5 : decode cX3_areBeside 5 = .ok (.iaload, 1) := dk_46 (dk_at dksX3_areBeside_0 5 rfl rfl)
theorem dX3_areBeside_6 : decode cX3_areBeside 6 = .ok (.iload_n 2, 1) := dk_28 (dk_at dksX3_areBeside_0 6 rfl rfl)
theorem dX3_areBeside_7 : decode cX3_areBeside 7 = .ok (.if_icmp .eq 13, 3) := dk_159 0 13 (dk_at dksX3_areBeside_0 7 rfl rfl)
theorem dX3_areBeside_10 : decode cX3_areBeside 10 = .ok (.aload_n 0, 1) := dk_42 (dk_at dksX3_areBeside_0 10 rfl rfl)
theorem dX3_areBeside_11 : decode cX3_areBeside 11 = .ok (.getfield 19, 3) := dk_180 0 19 (dk_at dksX3_areBeside_0 11 rfl rfl)
theorem dX3_areBeside_14 : decode cX3_areBeside 14 = .ok (.iload_n 2, 1) := dk_28 (dk_at dksX3_areBeside_0 14 rfl rfl)
theorem dX3_areBeside_15 : decode cX3_areBeside 15 = .ok (.iaload, 1) := dk_46 (dk_at dksX3_areBeside_0 15 rfl rfl)
theorem dX3_areBeside_16 : decode cX3_areBeside 16 = .ok (.iload_n 1, 1) := dk_27 (dk_at dksX3_areBeside_0 16 rfl rfl)
theorem dX3_areBeside_17 : decode cX3_areBeside 17 = .ok (.if_icmp .ne 7, 3) := dk_160 0 7 (dk_at dksX3_areBeside_0 17 rfl rfl)
theorem dX3_areBeside_20 : decode cX3_areBeside 20 = .ok (.iconst 1, 1) := dk_4 (dk_at dksX3_areBeside_0 20 rfl rfl)
theorem dX3_areBeside_21 : decode cX3_areBeside 21 = .ok (.goto 4, 3) := dk_167 0 4 (dk_at dksX3_areBeside_0 21 rfl rfl)
theorem dX3_areBeside_24 : decode cX3_areBeside 24 = .ok (.iconst 0, 1) := dk_3 (dk_at dksX3_areBeside_1 0 rfl rfl)
theorem dX3_areBeside_25 : decode cX3_areBeside 25 = .ok (.ireturn, 1) := dk_172 (dk_at dksX3_areBeside_1 1 rfl rfl)
abbrev cX3_common : ByteArray := prog_9_method_92_code
def yX3_common : MethodName := ⟨RX3, "common", "(JJ)J"⟩
def dkwX3_common_0 : List UInt8 := [32, 9, 148, 154, 0, 7, 30, 167, 0, 10, 32, 30, 32, 113, 184, 1, 70, 173]
abbrev dktX3_common_0 : List UInt8 := dkwX3_common_0 ++ []
theorem dksX3_common_0 : cX3_common.data.toList.drop 0 = dktX3_common_0 := by decide +kernel
theorem dX3_common_0 : decode cX3_common 0 = .ok (.lload_n 2, 1) := dk_32 (dk_at dksX3_common_0 0 rfl rfl)
theorem dX3_common_1 : decode cX3_common 1 = .ok (.lconst 0, 1) := dk_9 (dk_at dksX3_common_0 1 rfl rfl)
theorem dX3_common_2 : decode cX3_common 2 = .ok (.lcmp, 1) := dk_148 (dk_at dksX3_common_0 2 rfl rfl)
theorem dX3_common_3 : decode cX3_common 3 = .ok (.ifCond .ne 7, 3) := dk_154 0 7 (dk_at dksX3_common_0 3 rfl rfl)
theorem dX3_common_6 : decode cX3_common 6 = .ok (.lload_n 0, 1) := dk_30 (dk_at dksX3_common_0 6 rfl rfl)
theorem dX3_common_7 : decode cX3_common 7 = .ok (.goto 10, 3) := dk_167 0 10 (dk_at dksX3_common_0 7 rfl rfl)
theorem dX3_common_10 : decode cX3_common 10 = .ok (.lload_n 2, 1) := dk_32 (dk_at dksX3_common_0 10 rfl rfl)
theorem dX3_common_11 : decode cX3_common 11 = .ok (.lload_n 0, 1) := dk_30 (dk_at dksX3_common_0 11 rfl rfl)
theorem dX3_common_12 : decode cX3_common 12 = .ok (.lload_n 2, 1) := dk_32 (dk_at dksX3_common_0 12 rfl rfl)
theorem dX3_common_13 : decode cX3_common 13 = .ok (.lrem, 1) := dk_113 (dk_at dksX3_common_0 13 rfl rfl)
theorem dX3_common_14 : decode cX3_common 14 = .ok (.invokestatic 326, 3) := dk_184 1 70 (dk_at dksX3_common_0 14 rfl rfl)
theorem dX3_common_17 : decode cX3_common 17 = .ok (.lreturn, 1) := dk_173 (dk_at dksX3_common_0 17 rfl rfl)
abbrev cX3_spoon : ByteArray := prog_9_method_96_code
def yX3_spoon : MethodName := ⟨RX3, "spoon", "(III)I"⟩
def dkwX3_spoon_5 : List UInt8 := [180, 0, 48, 27, 46, 172]
abbrev dktX3_spoon_5 : List UInt8 := dkwX3_spoon_5 ++ []
def dkwX3_spoon_4 : List UInt8 := [182, 0, 237, 132, 5, 1, 167, 255, 209, 42, 3, 181, 0, 98, 42, 21, 4, 133, 182, 0, 248, 42]
abbrev dktX3_spoon_4 : List UInt8 := dkwX3_spoon_4 ++ dktX3_spoon_5
def dkwX3_spoon_3 : List UInt8 := [21, 4, 21, 6, 96, 54, 4, 42, 180, 0, 48, 27, 92, 46, 21, 6, 100, 79, 42, 42, 180, 0, 48]
abbrev dktX3_spoon_3 : List UInt8 := dkwX3_spoon_3 ++ dktX3_spoon_4
def dkwX3_spoon_2 : List UInt8 := [184, 0, 230, 3, 54, 5, 21, 5, 29, 162, 0, 47, 28, 42, 180, 0, 48, 27, 46, 184, 0, 211, 54, 6]
abbrev dktX3_spoon_2 : List UInt8 := dkwX3_spoon_2 ++ dktX3_spoon_3
def dkwX3_spoon_1 : List UInt8 := [3, 16, 60, 184, 0, 104, 154, 0, 5, 2, 172, 3, 54, 4, 42, 180, 0, 9, 42, 180, 0, 48, 3]
abbrev dktX3_spoon_1 : List UInt8 := dkwX3_spoon_1 ++ dktX3_spoon_2
def dkwX3_spoon_0 : List UInt8 := [42, 3, 181, 0, 95, 42, 27, 182, 0, 108, 153, 0, 23, 28, 4, 16, 9, 184, 0, 104, 153, 0, 13, 29]
abbrev dktX3_spoon_0 : List UInt8 := dkwX3_spoon_0 ++ dktX3_spoon_1
theorem dksX3_spoon_0 : cX3_spoon.data.toList.drop 0 = dktX3_spoon_0 := by decide +kernel
theorem dksX3_spoon_1 : cX3_spoon.data.toList.drop 24 = dktX3_spoon_1 := dk_seg dksX3_spoon_0 24 rfl rfl
theorem dksX3_spoon_2 : cX3_spoon.data.toList.drop 47 = dktX3_spoon_2 := dk_seg dksX3_spoon_1 23 rfl rfl
theorem dksX3_spoon_3 : cX3_spoon.data.toList.drop 71 = dktX3_spoon_3 := dk_seg dksX3_spoon_2 24 rfl rfl
theorem dksX3_spoon_4 : cX3_spoon.data.toList.drop 94 = dktX3_spoon_4 := dk_seg dksX3_spoon_3 23 rfl rfl
theorem dksX3_spoon_5 : cX3_spoon.data.toList.drop 116 = dktX3_spoon_5 := dk_seg dksX3_spoon_4 22 rfl rfl
theorem dX3_spoon_0 : decode cX3_spoon 0 = .ok (.aload_n 0, 1) := dk_42 (dk_at dksX3_spoon_0 0 rfl rfl)
theorem dX3_spoon_1 : decode cX3_spoon 1 = .ok (.iconst 0, 1) := dk_3 (dk_at dksX3_spoon_0 1 rfl rfl)
theorem dX3_spoon_2 : decode cX3_spoon 2 = .ok (.putfield 95, 3) := dk_181 0 95 (dk_at dksX3_spoon_0 2 rfl rfl)
theorem dX3_spoon_5 : decode cX3_spoon 5 = .ok (.aload_n 0, 1) := dk_42 (dk_at dksX3_spoon_0 5 rfl rfl)
theorem dX3_spoon_6 : decode cX3_spoon 6 = .ok (.iload_n 1, 1) := dk_27 (dk_at dksX3_spoon_0 6 rfl rfl)
theorem dX3_spoon_7 : decode cX3_spoon 7 = .ok (.invokevirtual 108, 3) := dk_182 0 108 (dk_at dksX3_spoon_0 7 rfl rfl)
theorem dX3_spoon_10 : decode cX3_spoon 10 = .ok (.ifCond .eq 23, 3) := dk_153 0 23 (dk_at dksX3_spoon_0 10 rfl rfl)
theorem dX3_spoon_13 : decode cX3_spoon 13 = .ok (.iload_n 2, 1) := dk_28 (dk_at dksX3_spoon_0 13 rfl rfl)
theorem dX3_spoon_14 : decode cX3_spoon 14 = .ok (.iconst 1, 1) := dk_4 (dk_at dksX3_spoon_0 14 rfl rfl)
theorem dX3_spoon_15 : decode cX3_spoon 15 = .ok (.bipush 9, 2) := dk_16 9 (dk_at dksX3_spoon_0 15 rfl rfl)
theorem dX3_spoon_17 : decode cX3_spoon 17 = .ok (.invokestatic 104, 3) := dk_184 0 104 (dk_at dksX3_spoon_0 17 rfl rfl)
theorem dX3_spoon_20 : decode cX3_spoon 20 = .ok (.ifCond .eq 13, 3) := dk_153 0 13 (dk_at dksX3_spoon_0 20 rfl rfl)
theorem dX3_spoon_23 : decode cX3_spoon 23 = .ok (.iload_n 3, 1) := dk_29 (dk_at dksX3_spoon_0 23 rfl rfl)
theorem dX3_spoon_24 : decode cX3_spoon 24 = .ok (.iconst 0, 1) := dk_3 (dk_at dksX3_spoon_1 0 rfl rfl)
theorem dX3_spoon_25 : decode cX3_spoon 25 = .ok (.bipush 60, 2) := dk_16 60 (dk_at dksX3_spoon_1 1 rfl rfl)
theorem dX3_spoon_27 : decode cX3_spoon 27 = .ok (.invokestatic 104, 3) := dk_184 0 104 (dk_at dksX3_spoon_1 3 rfl rfl)
theorem dX3_spoon_30 : decode cX3_spoon 30 = .ok (.ifCond .ne 5, 3) := dk_154 0 5 (dk_at dksX3_spoon_1 6 rfl rfl)
theorem dX3_spoon_33 : decode cX3_spoon 33 = .ok (.iconst (-1), 1) := dk_2 (dk_at dksX3_spoon_1 9 rfl rfl)
theorem dX3_spoon_34 : decode cX3_spoon 34 = .ok (.ireturn, 1) := dk_172 (dk_at dksX3_spoon_1 10 rfl rfl)
theorem dX3_spoon_35 : decode cX3_spoon 35 = .ok (.iconst 0, 1) := dk_3 (dk_at dksX3_spoon_1 11 rfl rfl)
theorem dX3_spoon_36 : decode cX3_spoon 36 = .ok (.istore 4, 2) := dk_54 4 (dk_at dksX3_spoon_1 12 rfl rfl)
theorem dX3_spoon_38 : decode cX3_spoon 38 = .ok (.aload_n 0, 1) := dk_42 (dk_at dksX3_spoon_1 14 rfl rfl)
theorem dX3_spoon_39 : decode cX3_spoon 39 = .ok (.getfield 9, 3) := dk_180 0 9 (dk_at dksX3_spoon_1 15 rfl rfl)
theorem dX3_spoon_42 : decode cX3_spoon 42 = .ok (.aload_n 0, 1) := dk_42 (dk_at dksX3_spoon_1 18 rfl rfl)
theorem dX3_spoon_43 : decode cX3_spoon 43 = .ok (.getfield 48, 3) := dk_180 0 48 (dk_at dksX3_spoon_1 19 rfl rfl)
theorem dX3_spoon_46 : decode cX3_spoon 46 = .ok (.iconst 0, 1) := dk_3 (dk_at dksX3_spoon_1 22 rfl rfl)
theorem dX3_spoon_47 : decode cX3_spoon 47 = .ok (.invokestatic 230, 3) := dk_184 0 230 (dk_at dksX3_spoon_2 0 rfl rfl)
theorem dX3_spoon_50 : decode cX3_spoon 50 = .ok (.iconst 0, 1) := dk_3 (dk_at dksX3_spoon_2 3 rfl rfl)
theorem dX3_spoon_51 : decode cX3_spoon 51 = .ok (.istore 5, 2) := dk_54 5 (dk_at dksX3_spoon_2 4 rfl rfl)
theorem dX3_spoon_53 : decode cX3_spoon 53 = .ok (.iload 5, 2) := dk_21 5 (dk_at dksX3_spoon_2 6 rfl rfl)
theorem dX3_spoon_55 : decode cX3_spoon 55 = .ok (.iload_n 3, 1) := dk_29 (dk_at dksX3_spoon_2 8 rfl rfl)
theorem dX3_spoon_56 : decode cX3_spoon 56 = .ok (.if_icmp .ge 47, 3) := dk_162 0 47 (dk_at dksX3_spoon_2 9 rfl rfl)
theorem dX3_spoon_59 : decode cX3_spoon 59 = .ok (.iload_n 2, 1) := dk_28 (dk_at dksX3_spoon_2 12 rfl rfl)
theorem dX3_spoon_60 : decode cX3_spoon 60 = .ok (.aload_n 0, 1) := dk_42 (dk_at dksX3_spoon_2 13 rfl rfl)
theorem dX3_spoon_61 : decode cX3_spoon 61 = .ok (.getfield 48, 3) := dk_180 0 48 (dk_at dksX3_spoon_2 14 rfl rfl)
theorem dX3_spoon_64 : decode cX3_spoon 64 = .ok (.iload_n 1, 1) := dk_27 (dk_at dksX3_spoon_2 17 rfl rfl)
theorem dX3_spoon_65 : decode cX3_spoon 65 = .ok (.iaload, 1) := dk_46 (dk_at dksX3_spoon_2 18 rfl rfl)
theorem dX3_spoon_66 : decode cX3_spoon 66 = .ok (.invokestatic 211, 3) := dk_184 0 211 (dk_at dksX3_spoon_2 19 rfl rfl)
theorem dX3_spoon_69 : decode cX3_spoon 69 = .ok (.istore 6, 2) := dk_54 6 (dk_at dksX3_spoon_2 22 rfl rfl)
theorem dX3_spoon_71 : decode cX3_spoon 71 = .ok (.iload 4, 2) := dk_21 4 (dk_at dksX3_spoon_3 0 rfl rfl)
theorem dX3_spoon_73 : decode cX3_spoon 73 = .ok (.iload 6, 2) := dk_21 6 (dk_at dksX3_spoon_3 2 rfl rfl)
theorem dX3_spoon_75 : decode cX3_spoon 75 = .ok (.iadd, 1) := dk_96 (dk_at dksX3_spoon_3 4 rfl rfl)
theorem dX3_spoon_76 : decode cX3_spoon 76 = .ok (.istore 4, 2) := dk_54 4 (dk_at dksX3_spoon_3 5 rfl rfl)
theorem dX3_spoon_78 : decode cX3_spoon 78 = .ok (.aload_n 0, 1) := dk_42 (dk_at dksX3_spoon_3 7 rfl rfl)
theorem dX3_spoon_79 : decode cX3_spoon 79 = .ok (.getfield 48, 3) := dk_180 0 48 (dk_at dksX3_spoon_3 8 rfl rfl)
theorem dX3_spoon_82 : decode cX3_spoon 82 = .ok (.iload_n 1, 1) := dk_27 (dk_at dksX3_spoon_3 11 rfl rfl)
theorem dX3_spoon_83 : decode cX3_spoon 83 = .ok (.dup2, 1) := dk_92 (dk_at dksX3_spoon_3 12 rfl rfl)
theorem dX3_spoon_84 : decode cX3_spoon 84 = .ok (.iaload, 1) := dk_46 (dk_at dksX3_spoon_3 13 rfl rfl)
theorem dX3_spoon_85 : decode cX3_spoon 85 = .ok (.iload 6, 2) := dk_21 6 (dk_at dksX3_spoon_3 14 rfl rfl)
theorem dX3_spoon_87 : decode cX3_spoon 87 = .ok (.isub, 1) := dk_100 (dk_at dksX3_spoon_3 16 rfl rfl)
theorem dX3_spoon_88 : decode cX3_spoon 88 = .ok (.iastore, 1) := dk_79 (dk_at dksX3_spoon_3 17 rfl rfl)
theorem dX3_spoon_89 : decode cX3_spoon 89 = .ok (.aload_n 0, 1) := dk_42 (dk_at dksX3_spoon_3 18 rfl rfl)
theorem dX3_spoon_90 : decode cX3_spoon 90 = .ok (.aload_n 0, 1) := dk_42 (dk_at dksX3_spoon_3 19 rfl rfl)
theorem dX3_spoon_91 : decode cX3_spoon 91 = .ok (.getfield 48, 3) := dk_180 0 48 (dk_at dksX3_spoon_3 20 rfl rfl)
theorem dX3_spoon_94 : decode cX3_spoon 94 = .ok (.invokevirtual 237, 3) := dk_182 0 237 (dk_at dksX3_spoon_4 0 rfl rfl)
theorem dX3_spoon_97 : decode cX3_spoon 97 = .ok (.iinc 5 1, 3) := dk_132 5 1 (dk_at dksX3_spoon_4 3 rfl rfl)
theorem dX3_spoon_100 : decode cX3_spoon 100 = .ok (.goto (-47), 3) := dk_167 255 209 (dk_at dksX3_spoon_4 6 rfl rfl)
theorem dX3_spoon_103 : decode cX3_spoon 103 = .ok (.aload_n 0, 1) := dk_42 (dk_at dksX3_spoon_4 9 rfl rfl)
theorem dX3_spoon_104 : decode cX3_spoon 104 = .ok (.iconst 0, 1) := dk_3 (dk_at dksX3_spoon_4 10 rfl rfl)
theorem dX3_spoon_105 : decode cX3_spoon 105 = .ok (.putfield 98, 3) := dk_181 0 98 (dk_at dksX3_spoon_4 11 rfl rfl)
theorem dX3_spoon_108 : decode cX3_spoon 108 = .ok (.aload_n 0, 1) := dk_42 (dk_at dksX3_spoon_4 14 rfl rfl)
theorem dX3_spoon_109 : decode cX3_spoon 109 = .ok (.iload 4, 2) := dk_21 4 (dk_at dksX3_spoon_4 15 rfl rfl)
theorem dX3_spoon_111 : decode cX3_spoon 111 = .ok (.i2l, 1) := dk_133 (dk_at dksX3_spoon_4 17 rfl rfl)
theorem dX3_spoon_112 : decode cX3_spoon 112 = .ok (.invokevirtual 248, 3) := dk_182 0 248 (dk_at dksX3_spoon_4 18 rfl rfl)
theorem dX3_spoon_115 : decode cX3_spoon 115 = .ok (.aload_n 0, 1) := dk_42 (dk_at dksX3_spoon_4 21 rfl rfl)
theorem dX3_spoon_116 : decode cX3_spoon 116 = .ok (.getfield 48, 3) := dk_180 0 48 (dk_at dksX3_spoon_5 0 rfl rfl)
theorem dX3_spoon_119 : decode cX3_spoon 119 = .ok (.iload_n 1, 1) := dk_27 (dk_at dksX3_spoon_5 3 rfl rfl)
theorem dX3_spoon_120 : decode cX3_spoon 120 = .ok (.iaload, 1) := dk_46 (dk_at dksX3_spoon_5 4 rfl rfl)
theorem dX3_spoon_121 : decode cX3_spoon 121 = .ok (.ireturn, 1) := dk_172 (dk_at dksX3_spoon_5 5 rfl rfl)
abbrev cX3_rests : ByteArray := prog_9_method_99_code
def yX3_rests : MethodName := ⟨RX3, "rests", "(I)I"⟩
def dkwX3_rests_4 : List UInt8 := [167, 255, 188, 28, 172]
abbrev dktX3_rests_4 : List UInt8 := dkwX3_rests_4 ++ []
def dkwX3_rests_3 : List UInt8 := [29, 133, 182, 0, 248, 42, 21, 4, 133, 182, 0, 248, 132, 2, 1, 132, 4, 1, 167, 255, 203, 132, 3, 1]
abbrev dktX3_rests_3 : List UInt8 := dkwX3_rests_3 ++ dktX3_rests_4
def dkwX3_rests_2 : List UInt8 := [184, 1, 85, 153, 0, 36, 21, 4, 29, 27, 184, 1, 85, 154, 0, 6, 167, 0, 23, 28, 154, 0, 16, 42]
abbrev dktX3_rests_2 : List UInt8 := dkwX3_rests_2 ++ dktX3_rests_3
def dkwX3_rests_1 : List UInt8 := [3, 62, 29, 16, 9, 163, 0, 68, 3, 54, 4, 21, 4, 16, 9, 163, 0, 52, 29, 21, 4, 27]
abbrev dktX3_rests_1 : List UInt8 := dkwX3_rests_1 ++ dktX3_rests_2
def dkwX3_rests_0 : List UInt8 := [42, 3, 181, 0, 95, 27, 3, 16, 20, 184, 0, 104, 154, 0, 5, 2, 172, 3, 61, 42, 3, 181, 0, 98]
abbrev dktX3_rests_0 : List UInt8 := dkwX3_rests_0 ++ dktX3_rests_1
theorem dksX3_rests_0 : cX3_rests.data.toList.drop 0 = dktX3_rests_0 := by decide +kernel
theorem dksX3_rests_1 : cX3_rests.data.toList.drop 24 = dktX3_rests_1 := dk_seg dksX3_rests_0 24 rfl rfl
theorem dksX3_rests_2 : cX3_rests.data.toList.drop 46 = dktX3_rests_2 := dk_seg dksX3_rests_1 22 rfl rfl
theorem dksX3_rests_3 : cX3_rests.data.toList.drop 70 = dktX3_rests_3 := dk_seg dksX3_rests_2 24 rfl rfl
theorem dksX3_rests_4 : cX3_rests.data.toList.drop 94 = dktX3_rests_4 := dk_seg dksX3_rests_3 24 rfl rfl
theorem dX3_rests_0 : decode cX3_rests 0 = .ok (.aload_n 0, 1) := dk_42 (dk_at dksX3_rests_0 0 rfl rfl)
theorem dX3_rests_1 : decode cX3_rests 1 = .ok (.iconst 0, 1) := dk_3 (dk_at dksX3_rests_0 1 rfl rfl)
theorem dX3_rests_2 : decode cX3_rests 2 = .ok (.putfield 95, 3) := dk_181 0 95 (dk_at dksX3_rests_0 2 rfl rfl)
theorem dX3_rests_5 : decode cX3_rests 5 = .ok (.iload_n 1, 1) := dk_27 (dk_at dksX3_rests_0 5 rfl rfl)
theorem dX3_rests_6 : decode cX3_rests 6 = .ok (.iconst 0, 1) := dk_3 (dk_at dksX3_rests_0 6 rfl rfl)
theorem dX3_rests_7 : decode cX3_rests 7 = .ok (.bipush 20, 2) := dk_16 20 (dk_at dksX3_rests_0 7 rfl rfl)
theorem dX3_rests_9 : decode cX3_rests 9 = .ok (.invokestatic 104, 3) := dk_184 0 104 (dk_at dksX3_rests_0 9 rfl rfl)
theorem dX3_rests_12 : decode cX3_rests 12 = .ok (.ifCond .ne 5, 3) := dk_154 0 5 (dk_at dksX3_rests_0 12 rfl rfl)
theorem dX3_rests_15 : decode cX3_rests 15 = .ok (.iconst (-1), 1) := dk_2 (dk_at dksX3_rests_0 15 rfl rfl)
theorem dX3_rests_16 : decode cX3_rests 16 = .ok (.ireturn, 1) := dk_172 (dk_at dksX3_rests_0 16 rfl rfl)
theorem dX3_rests_17 : decode cX3_rests 17 = .ok (.iconst 0, 1) := dk_3 (dk_at dksX3_rests_0 17 rfl rfl)
theorem dX3_rests_18 : decode cX3_rests 18 = .ok (.istore_n 2, 1) := dk_61 (dk_at dksX3_rests_0 18 rfl rfl)
theorem dX3_rests_19 : decode cX3_rests 19 = .ok (.aload_n 0, 1) := dk_42 (dk_at dksX3_rests_0 19 rfl rfl)
theorem dX3_rests_20 : decode cX3_rests 20 = .ok (.iconst 0, 1) := dk_3 (dk_at dksX3_rests_0 20 rfl rfl)
theorem dX3_rests_21 : decode cX3_rests 21 = .ok (.putfield 98, 3) := dk_181 0 98 (dk_at dksX3_rests_0 21 rfl rfl)
theorem dX3_rests_24 : decode cX3_rests 24 = .ok (.iconst 0, 1) := dk_3 (dk_at dksX3_rests_1 0 rfl rfl)
theorem dX3_rests_25 : decode cX3_rests 25 = .ok (.istore_n 3, 1) := dk_62 (dk_at dksX3_rests_1 1 rfl rfl)
theorem dX3_rests_26 : decode cX3_rests 26 = .ok (.iload_n 3, 1) := dk_29 (dk_at dksX3_rests_1 2 rfl rfl)
theorem dX3_rests_27 : decode cX3_rests 27 = .ok (.bipush 9, 2) := dk_16 9 (dk_at dksX3_rests_1 3 rfl rfl)
theorem dX3_rests_29 : decode cX3_rests 29 = .ok (.if_icmp .gt 68, 3) := dk_163 0 68 (dk_at dksX3_rests_1 5 rfl rfl)
theorem dX3_rests_32 : decode cX3_rests 32 = .ok (.iconst 0, 1) := dk_3 (dk_at dksX3_rests_1 8 rfl rfl)
theorem dX3_rests_33 : decode cX3_rests 33 = .ok (.istore 4, 2) := dk_54 4 (dk_at dksX3_rests_1 9 rfl rfl)
theorem dX3_rests_35 : decode cX3_rests 35 = .ok (.iload 4, 2) := dk_21 4 (dk_at dksX3_rests_1 11 rfl rfl)
theorem dX3_rests_37 : decode cX3_rests 37 = .ok (.bipush 9, 2) := dk_16 9 (dk_at dksX3_rests_1 13 rfl rfl)
theorem dX3_rests_39 : decode cX3_rests 39 = .ok (.if_icmp .gt 52, 3) := dk_163 0 52 (dk_at dksX3_rests_1 15 rfl rfl)
theorem dX3_rests_42 : decode cX3_rests 42 = .ok (.iload_n 3, 1) := dk_29 (dk_at dksX3_rests_1 18 rfl rfl)
theorem dX3_rests_43 : decode cX3_rests 43 = .ok (.iload 4, 2) := dk_21 4 (dk_at dksX3_rests_1 19 rfl rfl)
theorem dX3_rests_45 : decode cX3_rests 45 = .ok (.iload_n 1, 1) := dk_27 (dk_at dksX3_rests_1 21 rfl rfl)
theorem dX3_rests_46 : decode cX3_rests 46 = .ok (.invokestatic 341, 3) := dk_184 1 85 (dk_at dksX3_rests_2 0 rfl rfl)
theorem dX3_rests_49 : decode cX3_rests 49 = .ok (.ifCond .eq 36, 3) := dk_153 0 36 (dk_at dksX3_rests_2 3 rfl rfl)
theorem dX3_rests_52 : decode cX3_rests 52 = .ok (.iload 4, 2) := dk_21 4 (dk_at dksX3_rests_2 6 rfl rfl)
theorem dX3_rests_54 : decode cX3_rests 54 = .ok (.iload_n 3, 1) := dk_29 (dk_at dksX3_rests_2 8 rfl rfl)
theorem dX3_rests_55 : decode cX3_rests 55 = .ok (.iload_n 1, 1) := dk_27 (dk_at dksX3_rests_2 9 rfl rfl)
theorem dX3_rests_56 : decode cX3_rests 56 = .ok (.invokestatic 341, 3) := dk_184 1 85 (dk_at dksX3_rests_2 10 rfl rfl)
theorem dX3_rests_59 : decode cX3_rests 59 = .ok (.ifCond .ne 6, 3) := dk_154 0 6 (dk_at dksX3_rests_2 13 rfl rfl)
theorem dX3_rests_62 : decode cX3_rests 62 = .ok (.goto 23, 3) := dk_167 0 23 (dk_at dksX3_rests_2 16 rfl rfl)
theorem dX3_rests_65 : decode cX3_rests 65 = .ok (.iload_n 2, 1) := dk_28 (dk_at dksX3_rests_2 19 rfl rfl)
theorem dX3_rests_66 : decode cX3_rests 66 = .ok (.ifCond .ne 16, 3) := dk_154 0 16 (dk_at dksX3_rests_2 20 rfl rfl)
theorem dX3_rests_69 : decode cX3_rests 69 = .ok (.aload_n 0, 1) := dk_42 (dk_at dksX3_rests_2 23 rfl rfl)
theorem dX3_rests_70 : decode cX3_rests 70 = .ok (.iload_n 3, 1) := dk_29 (dk_at dksX3_rests_3 0 rfl rfl)
theorem dX3_rests_71 : decode cX3_rests 71 = .ok (.i2l, 1) := dk_133 (dk_at dksX3_rests_3 1 rfl rfl)
theorem dX3_rests_72 : decode cX3_rests 72 = .ok (.invokevirtual 248, 3) := dk_182 0 248 (dk_at dksX3_rests_3 2 rfl rfl)
theorem dX3_rests_75 : decode cX3_rests 75 = .ok (.aload_n 0, 1) := dk_42 (dk_at dksX3_rests_3 5 rfl rfl)
theorem dX3_rests_76 : decode cX3_rests 76 = .ok (.iload 4, 2) := dk_21 4 (dk_at dksX3_rests_3 6 rfl rfl)
theorem dX3_rests_78 : decode cX3_rests 78 = .ok (.i2l, 1) := dk_133 (dk_at dksX3_rests_3 8 rfl rfl)
theorem dX3_rests_79 : decode cX3_rests 79 = .ok (.invokevirtual 248, 3) := dk_182 0 248 (dk_at dksX3_rests_3 9 rfl rfl)
theorem dX3_rests_82 : decode cX3_rests 82 = .ok (.iinc 2 1, 3) := dk_132 2 1 (dk_at dksX3_rests_3 12 rfl rfl)
theorem dX3_rests_85 : decode cX3_rests 85 = .ok (.iinc 4 1, 3) := dk_132 4 1 (dk_at dksX3_rests_3 15 rfl rfl)
theorem dX3_rests_88 : decode cX3_rests 88 = .ok (.goto (-53), 3) := dk_167 255 203 (dk_at dksX3_rests_3 18 rfl rfl)
theorem dX3_rests_91 : decode cX3_rests 91 = .ok (.iinc 3 1, 3) := dk_132 3 1 (dk_at dksX3_rests_3 21 rfl rfl)
theorem dX3_rests_94 : decode cX3_rests 94 = .ok (.goto (-68), 3) := dk_167 255 188 (dk_at dksX3_rests_4 0 rfl rfl)
theorem dX3_rests_97 : decode cX3_rests 97 = .ok (.iload_n 2, 1) := dk_28 (dk_at dksX3_rests_4 3 rfl rfl)
theorem dX3_rests_98 : decode cX3_rests 98 = .ok (.ireturn, 1) := dk_172 (dk_at dksX3_rests_4 4 rfl rfl)
abbrev cX3_isBest : ByteArray := prog_9_method_98_code
def yX3_isBest : MethodName := ⟨RX3, "isBest", "(III)Z"⟩
def dkwX3_isBest_1 : List UInt8 := [172, 132, 3, 1, 167, 255, 230, 4, 172]
abbrev dktX3_isBest_1 : List UInt8 := dkwX3_isBest_1 ++ []
def dkwX3_isBest_0 : List UInt8 := [3, 62, 29, 16, 9, 163, 0, 26, 29, 27, 28, 184, 1, 82, 26, 27, 28, 184, 1, 82, 164, 0, 5, 3]
abbrev dktX3_isBest_0 : List UInt8 := dkwX3_isBest_0 ++ dktX3_isBest_1
theorem dksX3_isBest_0 : cX3_isBest.data.toList.drop 0 = dktX3_isBest_0 := by decide +kernel
theorem dksX3_isBest_1 : cX3_isBest.data.toList.drop 24 = dktX3_isBest_1 := dk_seg dksX3_isBest_0 24 rfl rfl
theorem dX3_isBest_0 : decode cX3_isBest 0 = .ok (.iconst 0, 1) := dk_3 (dk_at dksX3_isBest_0 0 rfl rfl)
theorem dX3_isBest_1 : decode cX3_isBest 1 = .ok (.istore_n 3, 1) := dk_62 (dk_at dksX3_isBest_0 1 rfl rfl)
theorem dX3_isBest_2 : decode cX3_isBest 2 = .ok (.iload_n 3, 1) := dk_29 (dk_at dksX3_isBest_0 2 rfl rfl)
theorem dX3_isBest_3 : decode cX3_isBest 3 = .ok (.bipush 9, 2) := dk_16 9 (dk_at dksX3_isBest_0 3 rfl rfl)
theorem dX3_isBest_5 : decode cX3_isBest 5 = .ok (.if_icmp .gt 26, 3) := dk_163 0 26 (dk_at dksX3_isBest_0 5 rfl rfl)
theorem dX3_isBest_8 : decode cX3_isBest 8 = .ok (.iload_n 3, 1) := dk_29 (dk_at dksX3_isBest_0 8 rfl rfl)
theorem dX3_isBest_9 : decode cX3_isBest 9 = .ok (.iload_n 1, 1) := dk_27 (dk_at dksX3_isBest_0 9 rfl rfl)
theorem dX3_isBest_10 : decode cX3_isBest 10 = .ok (.iload_n 2, 1) := dk_28 (dk_at dksX3_isBest_0 10 rfl rfl)
theorem dX3_isBest_11 : decode cX3_isBest 11 = .ok (.invokestatic 338, 3) := dk_184 1 82 (dk_at dksX3_isBest_0 11 rfl rfl)
theorem dX3_isBest_14 : decode cX3_isBest 14 = .ok (.iload_n 0, 1) := dk_26 (dk_at dksX3_isBest_0 14 rfl rfl)
theorem dX3_isBest_15 : decode cX3_isBest 15 = .ok (.iload_n 1, 1) := dk_27 (dk_at dksX3_isBest_0 15 rfl rfl)
theorem dX3_isBest_16 : decode cX3_isBest 16 = .ok (.iload_n 2, 1) := dk_28 (dk_at dksX3_isBest_0 16 rfl rfl)
theorem dX3_isBest_17 : decode cX3_isBest 17 = .ok (.invokestatic 338, 3) := dk_184 1 82 (dk_at dksX3_isBest_0 17 rfl rfl)
theorem dX3_isBest_20 : decode cX3_isBest 20 = .ok (.if_icmp .le 5, 3) := dk_164 0 5 (dk_at dksX3_isBest_0 20 rfl rfl)
theorem dX3_isBest_23 : decode cX3_isBest 23 = .ok (.iconst 0, 1) := dk_3 (dk_at dksX3_isBest_0 23 rfl rfl)
theorem dX3_isBest_24 : decode cX3_isBest 24 = .ok (.ireturn, 1) := dk_172 (dk_at dksX3_isBest_1 0 rfl rfl)
theorem dX3_isBest_25 : decode cX3_isBest 25 = .ok (.iinc 3 1, 3) := dk_132 3 1 (dk_at dksX3_isBest_1 1 rfl rfl)
theorem dX3_isBest_28 : decode cX3_isBest 28 = .ok (.goto (-26), 3) := dk_167 255 230 (dk_at dksX3_isBest_1 4 rfl rfl)
theorem dX3_isBest_31 : decode cX3_isBest 31 = .ok (.iconst 1, 1) := dk_4 (dk_at dksX3_isBest_1 7 rfl rfl)
theorem dX3_isBest_32 : decode cX3_isBest 32 = .ok (.ireturn, 1) := dk_172 (dk_at dksX3_isBest_1 8 rfl rfl)
abbrev cX3_getsBy : ByteArray := prog_9_method_97_code
def yX3_getsBy : MethodName := ⟨RX3, "getsBy", "(III)I"⟩
def dkwX3_getsBy_1 : List UInt8 := [7, 108, 100, 26, 8, 161, 0, 12, 27, 8, 161, 0, 7, 5, 167, 0, 4, 3, 100, 172]
abbrev dktX3_getsBy_1 : List UInt8 := dkwX3_getsBy_1 ++ []
def dkwX3_getsBy_0 : List UInt8 := [26, 27, 164, 0, 7, 28, 167, 0, 15, 26, 27, 160, 0, 9, 28, 5, 108, 167, 0, 4, 3, 26, 26, 104]
abbrev dktX3_getsBy_0 : List UInt8 := dkwX3_getsBy_0 ++ dktX3_getsBy_1
theorem dksX3_getsBy_0 : cX3_getsBy.data.toList.drop 0 = dktX3_getsBy_0 := by decide +kernel
theorem dksX3_getsBy_1 : cX3_getsBy.data.toList.drop 24 = dktX3_getsBy_1 := dk_seg dksX3_getsBy_0 24 rfl rfl
theorem dX3_getsBy_0 : decode cX3_getsBy 0 = .ok (.iload_n 0, 1) := dk_26 (dk_at dksX3_getsBy_0 0 rfl rfl)
theorem dX3_getsBy_1 : decode cX3_getsBy 1 = .ok (.iload_n 1, 1) := dk_27 (dk_at dksX3_getsBy_0 1 rfl rfl)
theorem dX3_getsBy_2 : decode cX3_getsBy 2 = .ok (.if_icmp .le 7, 3) := dk_164 0 7 (dk_at dksX3_getsBy_0 2 rfl rfl)
theorem dX3_getsBy_5 : decode cX3_getsBy 5 = .ok (.iload_n 2, 1) := dk_28 (dk_at dksX3_getsBy_0 5 rfl rfl)
theorem dX3_getsBy_6 : decode cX3_getsBy 6 = .ok (.goto 15, 3) := dk_167 0 15 (dk_at dksX3_getsBy_0 6 rfl rfl)
theorem dX3_getsBy_9 : decode cX3_getsBy 9 = .ok (.iload_n 0, 1) := dk_26 (dk_at dksX3_getsBy_0 9 rfl rfl)
theorem dX3_getsBy_10 : decode cX3_getsBy 10 = .ok (.iload_n 1, 1) := dk_27 (dk_at dksX3_getsBy_0 10 rfl rfl)
theorem dX3_getsBy_11 : decode cX3_getsBy 11 = .ok (.if_icmp .ne 9, 3) := dk_160 0 9 (dk_at dksX3_getsBy_0 11 rfl rfl)
theorem dX3_getsBy_14 : decode cX3_getsBy 14 = .ok (.iload_n 2, 1) := dk_28 (dk_at dksX3_getsBy_0 14 rfl rfl)
theorem dX3_getsBy_15 : decode cX3_getsBy 15 = .ok (.iconst 2, 1) := dk_5 (dk_at dksX3_getsBy_0 15 rfl rfl)
theorem dX3_getsBy_16 : decode cX3_getsBy 16 = .ok (.idiv, 1) := dk_108 (dk_at dksX3_getsBy_0 16 rfl rfl)
theorem dX3_getsBy_17 : decode cX3_getsBy 17 = .ok (.goto 4, 3) := dk_167 0 4 (dk_at dksX3_getsBy_0 17 rfl rfl)
theorem dX3_getsBy_20 : decode cX3_getsBy 20 = .ok (.iconst 0, 1) := dk_3 (dk_at dksX3_getsBy_0 20 rfl rfl)
theorem dX3_getsBy_21 : decode cX3_getsBy 21 = .ok (.iload_n 0, 1) := dk_26 (dk_at dksX3_getsBy_0 21 rfl rfl)
theorem dX3_getsBy_22 : decode cX3_getsBy 22 = .ok (.iload_n 0, 1) := dk_26 (dk_at dksX3_getsBy_0 22 rfl rfl)
theorem dX3_getsBy_23 : decode cX3_getsBy 23 = .ok (.imul, 1) := dk_104 (dk_at dksX3_getsBy_0 23 rfl rfl)
theorem dX3_getsBy_24 : decode cX3_getsBy 24 = .ok (.iconst 4, 1) := dk_7 (dk_at dksX3_getsBy_1 0 rfl rfl)
theorem dX3_getsBy_25 : decode cX3_getsBy 25 = .ok (.idiv, 1) := dk_108 (dk_at dksX3_getsBy_1 1 rfl rfl)
theorem dX3_getsBy_26 : decode cX3_getsBy 26 = .ok (.isub, 1) := dk_100 (dk_at dksX3_getsBy_1 2 rfl rfl)
theorem dX3_getsBy_27 : decode cX3_getsBy 27 = .ok (.iload_n 0, 1) := dk_26 (dk_at dksX3_getsBy_1 3 rfl rfl)
theorem dX3_getsBy_28 : decode cX3_getsBy 28 = .ok (.iconst 5, 1) := dk_8 (dk_at dksX3_getsBy_1 4 rfl rfl)
theorem dX3_getsBy_29 : decode cX3_getsBy 29 = .ok (.if_icmp .lt 12, 3) := dk_161 0 12 (dk_at dksX3_getsBy_1 5 rfl rfl)
theorem dX3_getsBy_32 : decode cX3_getsBy 32 = .ok (.iload_n 1, 1) := dk_27 (dk_at dksX3_getsBy_1 8 rfl rfl)
theorem dX3_getsBy_33 : decode cX3_getsBy 33 = .ok (.iconst 5, 1) := dk_8 (dk_at dksX3_getsBy_1 9 rfl rfl)
theorem dX3_getsBy_34 : decode cX3_getsBy 34 = .ok (.if_icmp .lt 7, 3) := dk_161 0 7 (dk_at dksX3_getsBy_1 10 rfl rfl)
theorem dX3_getsBy_37 : decode cX3_getsBy 37 = .ok (.iconst 2, 1) := dk_5 (dk_at dksX3_getsBy_1 13 rfl rfl)
theorem dX3_getsBy_38 : decode cX3_getsBy 38 = .ok (.goto 4, 3) := dk_167 0 4 (dk_at dksX3_getsBy_1 14 rfl rfl)
theorem dX3_getsBy_41 : decode cX3_getsBy 41 = .ok (.iconst 0, 1) := dk_3 (dk_at dksX3_getsBy_1 17 rfl rfl)
theorem dX3_getsBy_42 : decode cX3_getsBy 42 = .ok (.isub, 1) := dk_100 (dk_at dksX3_getsBy_1 18 rfl rfl)
theorem dX3_getsBy_43 : decode cX3_getsBy 43 = .ok (.ireturn, 1) := dk_172 (dk_at dksX3_getsBy_1 19 rfl rfl)
abbrev cX3_law : ByteArray := prog_9_method_101_code
def yX3_law : MethodName := ⟨RX3, "law", "()I"⟩
def dkwX3_law_5 : List UInt8 := [21, 5, 28, 100, 172]
abbrev dktX3_law_5 : List UInt8 := dkwX3_law_5 ++ []
def dkwX3_law_4 : List UInt8 := [42, 21, 4, 181, 0, 199, 42, 3, 181, 0, 98, 42, 21, 5, 133, 182, 0, 248, 42, 28, 133, 182, 0, 248]
abbrev dktX3_law_4 : List UInt8 := dkwX3_law_4 ++ dktX3_law_5
def dkwX3_law_3 : List UInt8 := [180, 0, 22, 21, 5, 51, 84, 132, 5, 1, 167, 255, 233, 42, 182, 1, 88, 54, 5, 42, 45, 181, 0, 33]
abbrev dktX3_law_3 : List UInt8 := dkwX3_law_3 ++ dktX3_law_4
def dkwX3_law_2 : List UInt8 := [181, 0, 33, 42, 27, 181, 0, 199, 3, 54, 5, 21, 5, 27, 162, 0, 23, 42, 180, 0, 33, 21, 5, 42]
abbrev dktX3_law_2 : List UInt8 := dkwX3_law_2 ++ dktX3_law_3
def dkwX3_law_1 : List UInt8 := [100, 172, 42, 182, 1, 88, 61, 42, 180, 0, 33, 78, 42, 180, 0, 199, 54, 4, 42, 42, 180, 0, 36]
abbrev dktX3_law_1 : List UInt8 := dkwX3_law_1 ++ dktX3_law_2
def dkwX3_law_0 : List UInt8 := [42, 3, 181, 0, 95, 42, 180, 0, 112, 60, 42, 182, 0, 196, 154, 0, 12, 17, 216, 240, 42, 180, 0, 127]
abbrev dktX3_law_0 : List UInt8 := dkwX3_law_0 ++ dktX3_law_1
theorem dksX3_law_0 : cX3_law.data.toList.drop 0 = dktX3_law_0 := by decide +kernel
theorem dksX3_law_1 : cX3_law.data.toList.drop 24 = dktX3_law_1 := dk_seg dksX3_law_0 24 rfl rfl
theorem dksX3_law_2 : cX3_law.data.toList.drop 47 = dktX3_law_2 := dk_seg dksX3_law_1 23 rfl rfl
theorem dksX3_law_3 : cX3_law.data.toList.drop 71 = dktX3_law_3 := dk_seg dksX3_law_2 24 rfl rfl
theorem dksX3_law_4 : cX3_law.data.toList.drop 95 = dktX3_law_4 := dk_seg dksX3_law_3 24 rfl rfl
theorem dksX3_law_5 : cX3_law.data.toList.drop 119 = dktX3_law_5 := dk_seg dksX3_law_4 24 rfl rfl
theorem dX3_law_0 : decode cX3_law 0 = .ok (.aload_n 0, 1) := dk_42 (dk_at dksX3_law_0 0 rfl rfl)
theorem dX3_law_1 : decode cX3_law 1 = .ok (.iconst 0, 1) := dk_3 (dk_at dksX3_law_0 1 rfl rfl)
theorem dX3_law_2 : decode cX3_law 2 = .ok (.putfield 95, 3) := dk_181 0 95 (dk_at dksX3_law_0 2 rfl rfl)
theorem dX3_law_5 : decode cX3_law 5 = .ok (.aload_n 0, 1) := dk_42 (dk_at dksX3_law_0 5 rfl rfl)
theorem dX3_law_6 : decode cX3_law 6 = .ok (.getfield 112, 3) := dk_180 0 112 (dk_at dksX3_law_0 6 rfl rfl)
theorem dX3_law_9 : decode cX3_law 9 = .ok (.istore_n 1, 1) := dk_60 (dk_at dksX3_law_0 9 rfl rfl)
theorem dX3_law_10 : decode cX3_law 10 = .ok (.aload_n 0, 1) := dk_42 (dk_at dksX3_law_0 10 rfl rfl)
theorem dX3_law_11 : decode cX3_law 11 = .ok (.invokevirtual 196, 3) := dk_182 0 196 (dk_at dksX3_law_0 11 rfl rfl)
theorem dX3_law_14 : decode cX3_law 14 = .ok (.ifCond .ne 12, 3) := dk_154 0 12 (dk_at dksX3_law_0 14 rfl rfl)
theorem dX3_law_17 : decode cX3_law 17 = .ok (.sipush (-10000), 3) := dk_17 216 240 (dk_at dksX3_law_0 17 rfl rfl)
theorem dX3_law_20 : decode cX3_law 20 = .ok (.aload_n 0, 1) := dk_42 (dk_at dksX3_law_0 20 rfl rfl)
theorem dX3_law_21 : decode cX3_law 21 = .ok (.getfield 127, 3) := dk_180 0 127 (dk_at dksX3_law_0 21 rfl rfl)
theorem dX3_law_24 : decode cX3_law 24 = .ok (.isub, 1) := dk_100 (dk_at dksX3_law_1 0 rfl rfl)
theorem dX3_law_25 : decode cX3_law 25 = .ok (.ireturn, 1) := dk_172 (dk_at dksX3_law_1 1 rfl rfl)
theorem dX3_law_26 : decode cX3_law 26 = .ok (.aload_n 0, 1) := dk_42 (dk_at dksX3_law_1 2 rfl rfl)
theorem dX3_law_27 : decode cX3_law 27 = .ok (.invokevirtual 344, 3) := dk_182 1 88 (dk_at dksX3_law_1 3 rfl rfl)
theorem dX3_law_30 : decode cX3_law 30 = .ok (.istore_n 2, 1) := dk_61 (dk_at dksX3_law_1 6 rfl rfl)
theorem dX3_law_31 : decode cX3_law 31 = .ok (.aload_n 0, 1) := dk_42 (dk_at dksX3_law_1 7 rfl rfl)
theorem dX3_law_32 : decode cX3_law 32 = .ok (.getfield 33, 3) := dk_180 0 33 (dk_at dksX3_law_1 8 rfl rfl)
theorem dX3_law_35 : decode cX3_law 35 = .ok (.astore_n 3, 1) := dk_78 (dk_at dksX3_law_1 11 rfl rfl)
theorem dX3_law_36 : decode cX3_law 36 = .ok (.aload_n 0, 1) := dk_42 (dk_at dksX3_law_1 12 rfl rfl)
theorem dX3_law_37 : decode cX3_law 37 = .ok (.getfield 199, 3) := dk_180 0 199 (dk_at dksX3_law_1 13 rfl rfl)
theorem dX3_law_40 : decode cX3_law 40 = .ok (.istore 4, 2) := dk_54 4 (dk_at dksX3_law_1 16 rfl rfl)
theorem dX3_law_42 : decode cX3_law 42 = .ok (.aload_n 0, 1) := dk_42 (dk_at dksX3_law_1 18 rfl rfl)
theorem dX3_law_43 : decode cX3_law 43 = .ok (.aload_n 0, 1) := dk_42 (dk_at dksX3_law_1 19 rfl rfl)
theorem dX3_law_44 : decode cX3_law 44 = .ok (.getfield 36, 3) := dk_180 0 36 (dk_at dksX3_law_1 20 rfl rfl)
theorem dX3_law_47 : decode cX3_law 47 = .ok (.putfield 33, 3) := dk_181 0 33 (dk_at dksX3_law_2 0 rfl rfl)
theorem dX3_law_50 : decode cX3_law 50 = .ok (.aload_n 0, 1) := dk_42 (dk_at dksX3_law_2 3 rfl rfl)
theorem dX3_law_51 : decode cX3_law 51 = .ok (.iload_n 1, 1) := dk_27 (dk_at dksX3_law_2 4 rfl rfl)
theorem dX3_law_52 : decode cX3_law 52 = .ok (.putfield 199, 3) := dk_181 0 199 (dk_at dksX3_law_2 5 rfl rfl)
theorem dX3_law_55 : decode cX3_law 55 = .ok (.iconst 0, 1) := dk_3 (dk_at dksX3_law_2 8 rfl rfl)
theorem dX3_law_56 : decode cX3_law 56 = .ok (.istore 5, 2) := dk_54 5 (dk_at dksX3_law_2 9 rfl rfl)
theorem dX3_law_58 : decode cX3_law 58 = .ok (.iload 5, 2) := dk_21 5 (dk_at dksX3_law_2 11 rfl rfl)
theorem dX3_law_60 : decode cX3_law 60 = .ok (.iload_n 1, 1) := dk_27 (dk_at dksX3_law_2 13 rfl rfl)
theorem dX3_law_61 : decode cX3_law 61 = .ok (.if_icmp .ge 23, 3) := dk_162 0 23 (dk_at dksX3_law_2 14 rfl rfl)
theorem dX3_law_64 : decode cX3_law 64 = .ok (.aload_n 0, 1) := dk_42 (dk_at dksX3_law_2 17 rfl rfl)
theorem dX3_law_65 : decode cX3_law 65 = .ok (.getfield 33, 3) := dk_180 0 33 (dk_at dksX3_law_2 18 rfl rfl)
theorem dX3_law_68 : decode cX3_law 68 = .ok (.iload 5, 2) := dk_21 5 (dk_at dksX3_law_2 21 rfl rfl)
theorem dX3_law_70 : decode cX3_law 70 = .ok (.aload_n 0, 1) := dk_42 (dk_at dksX3_law_2 23 rfl rfl)
theorem dX3_law_71 : decode cX3_law 71 = .ok (.getfield 22, 3) := dk_180 0 22 (dk_at dksX3_law_3 0 rfl rfl)
theorem dX3_law_74 : decode cX3_law 74 = .ok (.iload 5, 2) := dk_21 5 (dk_at dksX3_law_3 3 rfl rfl)
theorem dX3_law_76 : decode cX3_law 76 = .ok (.baload, 1) := dk_51 (dk_at dksX3_law_3 5 rfl rfl)
theorem dX3_law_77 : decode cX3_law 77 = .ok (.bastore, 1) := dk_84 (dk_at dksX3_law_3 6 rfl rfl)
theorem dX3_law_78 : decode cX3_law 78 = .ok (.iinc 5 1, 3) := dk_132 5 1 (dk_at dksX3_law_3 7 rfl rfl)
theorem dX3_law_81 : decode cX3_law 81 = .ok (.goto (-23), 3) := dk_167 255 233 (dk_at dksX3_law_3 10 rfl rfl)
theorem dX3_law_84 : decode cX3_law 84 = .ok (.aload_n 0, 1) := dk_42 (dk_at dksX3_law_3 13 rfl rfl)
theorem dX3_law_85 : decode cX3_law 85 = .ok (.invokevirtual 344, 3) := dk_182 1 88 (dk_at dksX3_law_3 14 rfl rfl)
theorem dX3_law_88 : decode cX3_law 88 = .ok (.istore 5, 2) := dk_54 5 (dk_at dksX3_law_3 17 rfl rfl)
theorem dX3_law_90 : decode cX3_law 90 = .ok (.aload_n 0, 1) := dk_42 (dk_at dksX3_law_3 19 rfl rfl)
theorem dX3_law_91 : decode cX3_law 91 = .ok (.aload_n 3, 1) := dk_45 (dk_at dksX3_law_3 20 rfl rfl)
theorem dX3_law_92 : decode cX3_law 92 = .ok (.putfield 33, 3) := dk_181 0 33 (dk_at dksX3_law_3 21 rfl rfl)
theorem dX3_law_95 : decode cX3_law 95 = .ok (.aload_n 0, 1) := dk_42 (dk_at dksX3_law_4 0 rfl rfl)
theorem dX3_law_96 : decode cX3_law 96 = .ok (.iload 4, 2) := dk_21 4 (dk_at dksX3_law_4 1 rfl rfl)
theorem dX3_law_98 : decode cX3_law 98 = .ok (.putfield 199, 3) := dk_181 0 199 (dk_at dksX3_law_4 3 rfl rfl)
theorem dX3_law_101 : decode cX3_law 101 = .ok (.aload_n 0, 1) := dk_42 (dk_at dksX3_law_4 6 rfl rfl)
theorem dX3_law_102 : decode cX3_law 102 = .ok (.iconst 0, 1) := dk_3 (dk_at dksX3_law_4 7 rfl rfl)
theorem dX3_law_103 : decode cX3_law 103 = .ok (.putfield 98, 3) := dk_181 0 98 (dk_at dksX3_law_4 8 rfl rfl)
theorem dX3_law_106 : decode cX3_law 106 = .ok (.aload_n 0, 1) := dk_42 (dk_at dksX3_law_4 11 rfl rfl)
theorem dX3_law_107 : decode cX3_law 107 = .ok (.iload 5, 2) := dk_21 5 (dk_at dksX3_law_4 12 rfl rfl)
theorem dX3_law_109 : decode cX3_law 109 = .ok (.i2l, 1) := dk_133 (dk_at dksX3_law_4 14 rfl rfl)
theorem dX3_law_110 : decode cX3_law 110 = .ok (.invokevirtual 248, 3) := dk_182 0 248 (dk_at dksX3_law_4 15 rfl rfl)
theorem dX3_law_113 : decode cX3_law 113 = .ok (.aload_n 0, 1) := dk_42 (dk_at dksX3_law_4 18 rfl rfl)
theorem dX3_law_114 : decode cX3_law 114 = .ok (.iload_n 2, 1) := dk_28 (dk_at dksX3_law_4 19 rfl rfl)
theorem dX3_law_115 : decode cX3_law 115 = .ok (.i2l, 1) := dk_133 (dk_at dksX3_law_4 20 rfl rfl)
theorem dX3_law_116 : decode cX3_law 116 = .ok (.invokevirtual 248, 3) := dk_182 0 248 (dk_at dksX3_law_4 21 rfl rfl)
theorem dX3_law_119 : decode cX3_law 119 = .ok (.iload 5, 2) := dk_21 5 (dk_at dksX3_law_5 0 rfl rfl)
theorem dX3_law_121 : decode cX3_law 121 = .ok (.iload_n 2, 1) := dk_28 (dk_at dksX3_law_5 2 rfl rfl)
theorem dX3_law_122 : decode cX3_law 122 = .ok (.isub, 1) := dk_100 (dk_at dksX3_law_5 3 rfl rfl)
theorem dX3_law_123 : decode cX3_law 123 = .ok (.ireturn, 1) := dk_172 (dk_at dksX3_law_5 4 rfl rfl)
abbrev cX3_levelIn12 : ByteArray := prog_9_method_100_code
def yX3_levelIn12 : MethodName := ⟨RX3, "levelIn12", "()I"⟩
def dkwX3_levelIn12_0 : List UInt8 := [42, 16, 12, 182, 1, 18, 42, 42, 180, 0, 48, 3, 182, 0, 227, 172]
abbrev dktX3_levelIn12_0 : List UInt8 := dkwX3_levelIn12_0 ++ []
theorem dksX3_levelIn12_0 : cX3_levelIn12.data.toList.drop 0 = dktX3_levelIn12_0 := by decide +kernel
theorem dX3_levelIn12_0 : decode cX3_levelIn12 0 = .ok (.aload_n 0, 1) := dk_42 (dk_at dksX3_levelIn12_0 0 rfl rfl)
theorem dX3_levelIn12_1 : decode cX3_levelIn12 1 = .ok (.bipush 12, 2) := dk_16 12 (dk_at dksX3_levelIn12_0 1 rfl rfl)
theorem dX3_levelIn12_3 : decode cX3_levelIn12 3 = .ok (.invokevirtual 274, 3) := dk_182 1 18 (dk_at dksX3_levelIn12_0 3 rfl rfl)
theorem dX3_levelIn12_6 : decode cX3_levelIn12 6 = .ok (.aload_n 0, 1) := dk_42 (dk_at dksX3_levelIn12_0 6 rfl rfl)
theorem dX3_levelIn12_7 : decode cX3_levelIn12 7 = .ok (.aload_n 0, 1) := dk_42 (dk_at dksX3_levelIn12_0 7 rfl rfl)
theorem dX3_levelIn12_8 : decode cX3_levelIn12 8 = .ok (.getfield 48, 3) := dk_180 0 48 (dk_at dksX3_levelIn12_0 8 rfl rfl)
theorem dX3_levelIn12_11 : decode cX3_levelIn12 11 = .ok (.iconst 0, 1) := dk_3 (dk_at dksX3_levelIn12_0 11 rfl rfl)
theorem dX3_levelIn12_12 : decode cX3_levelIn12 12 = .ok (.invokevirtual 227, 3) := dk_182 0 227 (dk_at dksX3_levelIn12_0 12 rfl rfl)
theorem dX3_levelIn12_15 : decode cX3_levelIn12 15 = .ok (.ireturn, 1) := dk_172 (dk_at dksX3_levelIn12_0 15 rfl rfl)
abbrev cX3_years : ByteArray := prog_9_method_103_code
def yX3_years : MethodName := ⟨RX3, "years", "(II)I"⟩
def dkwX3_years_8 : List UInt8 := [42, 42, 180, 0, 48, 3, 182, 0, 227, 172]
abbrev dktX3_years_8 : List UInt8 := dkwX3_years_8 ++ []
def dkwX3_years_7 : List UInt8 := [133, 182, 0, 248, 42, 42, 180, 0, 48, 16, 32, 46, 42, 180, 0, 9, 16, 32, 46, 100, 133, 182, 0, 248]
abbrev dktX3_years_7 : List UInt8 := dkwX3_years_7 ++ dktX3_years_8
def dkwX3_years_6 : List UInt8 := [167, 255, 154, 42, 3, 181, 0, 98, 42, 42, 180, 0, 48, 16, 31, 46, 42, 180, 0, 9, 16, 31, 46, 100]
abbrev dktX3_years_6 : List UInt8 := dkwX3_years_6 ++ dktX3_years_7
def dkwX3_years_5 : List UInt8 := [79, 167, 0, 19, 42, 180, 0, 48, 16, 18, 21, 5, 96, 42, 16, 10, 182, 1, 95, 79, 132, 3, 1]
abbrev dktX3_years_5 : List UInt8 := dkwX3_years_5 ++ dktX3_years_6
def dkwX3_years_4 : List UInt8 := [160, 0, 28, 42, 180, 0, 48, 16, 6, 21, 5, 96, 4, 42, 180, 0, 48, 16, 6, 21, 5, 96, 46, 100]
abbrev dktX3_years_4 : List UInt8 := dkwX3_years_4 ++ dktX3_years_5
def dkwX3_years_3 : List UInt8 := [180, 0, 101, 154, 0, 6, 167, 0, 60, 42, 42, 180, 0, 101, 182, 1, 95, 54, 5, 21, 4, 5]
abbrev dktX3_years_3 : List UInt8 := dkwX3_years_3 ++ dktX3_years_4
def dkwX3_years_2 : List UInt8 := [54, 4, 21, 4, 5, 162, 0, 11, 42, 42, 180, 0, 48, 182, 0, 237, 21, 4, 5, 161, 0, 70, 42]
abbrev dktX3_years_2 : List UInt8 := dkwX3_years_2 ++ dktX3_years_3
def dkwX3_years_1 : List UInt8 := [180, 0, 9, 42, 180, 0, 48, 3, 184, 0, 230, 3, 62, 29, 28, 162, 0, 103, 42, 7, 182, 1, 95]
abbrev dktX3_years_1 : List UInt8 := dkwX3_years_1 ++ dktX3_years_2
def dkwX3_years_0 : List UInt8 := [42, 3, 181, 0, 95, 28, 4, 16, 60, 184, 0, 104, 154, 0, 5, 2, 172, 42, 27, 181, 1, 91, 42]
abbrev dktX3_years_0 : List UInt8 := dkwX3_years_0 ++ dktX3_years_1
theorem dksX3_years_0 : cX3_years.data.toList.drop 0 = dktX3_years_0 := by decide +kernel
theorem dksX3_years_1 : cX3_years.data.toList.drop 23 = dktX3_years_1 := dk_seg dksX3_years_0 23 rfl rfl
theorem dksX3_years_2 : cX3_years.data.toList.drop 46 = dktX3_years_2 := dk_seg dksX3_years_1 23 rfl rfl
theorem dksX3_years_3 : cX3_years.data.toList.drop 69 = dktX3_years_3 := dk_seg dksX3_years_2 23 rfl rfl
theorem dksX3_years_4 : cX3_years.data.toList.drop 91 = dktX3_years_4 := dk_seg dksX3_years_3 22 rfl rfl
theorem dksX3_years_5 : cX3_years.data.toList.drop 115 = dktX3_years_5 := dk_seg dksX3_years_4 24 rfl rfl
theorem dksX3_years_6 : cX3_years.data.toList.drop 138 = dktX3_years_6 := dk_seg dksX3_years_5 23 rfl rfl
theorem dksX3_years_7 : cX3_years.data.toList.drop 162 = dktX3_years_7 := dk_seg dksX3_years_6 24 rfl rfl
theorem dksX3_years_8 : cX3_years.data.toList.drop 186 = dktX3_years_8 := dk_seg dksX3_years_7 24 rfl rfl
theorem dX3_years_0 : decode cX3_years 0 = .ok (.aload_n 0, 1) := dk_42 (dk_at dksX3_years_0 0 rfl rfl)
theorem dX3_years_1 : decode cX3_years 1 = .ok (.iconst 0, 1) := dk_3 (dk_at dksX3_years_0 1 rfl rfl)
theorem dX3_years_2 : decode cX3_years 2 = .ok (.putfield 95, 3) := dk_181 0 95 (dk_at dksX3_years_0 2 rfl rfl)
theorem dX3_years_5 : decode cX3_years 5 = .ok (.iload_n 2, 1) := dk_28 (dk_at dksX3_years_0 5 rfl rfl)
theorem dX3_years_6 : decode cX3_years 6 = .ok (.iconst 1, 1) := dk_4 (dk_at dksX3_years_0 6 rfl rfl)
theorem dX3_years_7 : decode cX3_years 7 = .ok (.bipush 60, 2) := dk_16 60 (dk_at dksX3_years_0 7 rfl rfl)
theorem dX3_years_9 : decode cX3_years 9 = .ok (.invokestatic 104, 3) := dk_184 0 104 (dk_at dksX3_years_0 9 rfl rfl)
theorem dX3_years_12 : decode cX3_years 12 = .ok (.ifCond .ne 5, 3) := dk_154 0 5 (dk_at dksX3_years_0 12 rfl rfl)
theorem dX3_years_15 : decode cX3_years 15 = .ok (.iconst (-1), 1) := dk_2 (dk_at dksX3_years_0 15 rfl rfl)
theorem dX3_years_16 : decode cX3_years 16 = .ok (.ireturn, 1) := dk_172 (dk_at dksX3_years_0 16 rfl rfl)
theorem dX3_years_17 : decode cX3_years 17 = .ok (.aload_n 0, 1) := dk_42 (dk_at dksX3_years_0 17 rfl rfl)
theorem dX3_years_18 : decode cX3_years 18 = .ok (.iload_n 1, 1) := dk_27 (dk_at dksX3_years_0 18 rfl rfl)
theorem dX3_years_19 : decode cX3_years 19 = .ok (.putfield 347, 3) := dk_181 1 91 (dk_at dksX3_years_0 19 rfl rfl)
theorem dX3_years_22 : decode cX3_years 22 = .ok (.aload_n 0, 1) := dk_42 (dk_at dksX3_years_0 22 rfl rfl)
theorem dX3_years_23 : decode cX3_years 23 = .ok (.getfield 9, 3) := dk_180 0 9 (dk_at dksX3_years_1 0 rfl rfl)
theorem dX3_years_26 : decode cX3_years 26 = .ok (.aload_n 0, 1) := dk_42 (dk_at dksX3_years_1 3 rfl rfl)
theorem dX3_years_27 : decode cX3_years 27 = .ok (.getfield 48, 3) := dk_180 0 48 (dk_at dksX3_years_1 4 rfl rfl)
theorem dX3_years_30 : decode cX3_years 30 = .ok (.iconst 0, 1) := dk_3 (dk_at dksX3_years_1 7 rfl rfl)
theorem dX3_years_31 : decode cX3_years 31 = .ok (.invokestatic 230, 3) := dk_184 0 230 (dk_at dksX3_years_1 8 rfl rfl)
theorem dX3_years_34 : decode cX3_years 34 = .ok (.iconst 0, 1) := dk_3 (dk_at dksX3_years_1 11 rfl rfl)
theorem dX3_years_35 : decode cX3_years 35 = .ok (.istore_n 3, 1) := dk_62 (dk_at dksX3_years_1 12 rfl rfl)
theorem dX3_years_36 : decode cX3_years 36 = .ok (.iload_n 3, 1) := dk_29 (dk_at dksX3_years_1 13 rfl rfl)
theorem dX3_years_37 : decode cX3_years 37 = .ok (.iload_n 2, 1) := dk_28 (dk_at dksX3_years_1 14 rfl rfl)
theorem dX3_years_38 : decode cX3_years 38 = .ok (.if_icmp .ge 103, 3) := dk_162 0 103 (dk_at dksX3_years_1 15 rfl rfl)
theorem dX3_years_41 : decode cX3_years 41 = .ok (.aload_n 0, 1) := dk_42 (dk_at dksX3_years_1 18 rfl rfl)
theorem dX3_years_42 : decode cX3_years 42 = .ok (.iconst 4, 1) := dk_7 (dk_at dksX3_years_1 19 rfl rfl)
theorem dX3_years_43 : decode cX3_years 43 = .ok (.invokevirtual 351, 3) := dk_182 1 95 (dk_at dksX3_years_1 20 rfl rfl)
theorem dX3_years_46 : decode cX3_years 46 = .ok (.istore 4, 2) := dk_54 4 (dk_at dksX3_years_2 0 rfl rfl)
theorem dX3_years_48 : decode cX3_years 48 = .ok (.iload 4, 2) := dk_21 4 (dk_at dksX3_years_2 2 rfl rfl)
theorem dX3_years_50 : decode cX3_years 50 = .ok (.iconst 2, 1) := dk_5 (dk_at dksX3_years_2 4 rfl rfl)
theorem dX3_years_51 : decode cX3_years 51 = .ok (.if_icmp .ge 11, 3) := dk_162 0 11 (dk_at dksX3_years_2 5 rfl rfl)
theorem dX3_years_54 : decode cX3_years 54 = .ok (.aload_n 0, 1) := dk_42 (dk_at dksX3_years_2 8 rfl rfl)
theorem dX3_years_55 : decode cX3_years 55 = .ok (.aload_n 0, 1) := dk_42 (dk_at dksX3_years_2 9 rfl rfl)
theorem dX3_years_56 : decode cX3_years 56 = .ok (.getfield 48, 3) := dk_180 0 48 (dk_at dksX3_years_2 10 rfl rfl)
theorem dX3_years_59 : decode cX3_years 59 = .ok (.invokevirtual 237, 3) := dk_182 0 237 (dk_at dksX3_years_2 13 rfl rfl)
theorem dX3_years_62 : decode cX3_years 62 = .ok (.iload 4, 2) := dk_21 4 (dk_at dksX3_years_2 16 rfl rfl)
theorem dX3_years_64 : decode cX3_years 64 = .ok (.iconst 2, 1) := dk_5 (dk_at dksX3_years_2 18 rfl rfl)
theorem dX3_years_65 : decode cX3_years 65 = .ok (.if_icmp .lt 70, 3) := dk_161 0 70 (dk_at dksX3_years_2 19 rfl rfl)
theorem dX3_years_68 : decode cX3_years 68 = .ok (.aload_n 0, 1) := dk_42 (dk_at dksX3_years_2 22 rfl rfl)
theorem dX3_years_69 : decode cX3_years 69 = .ok (.getfield 101, 3) := dk_180 0 101 (dk_at dksX3_years_3 0 rfl rfl)
theorem dX3_years_72 : decode cX3_years 72 = .ok (.ifCond .ne 6, 3) := dk_154 0 6 (dk_at dksX3_years_3 3 rfl rfl)
theorem dX3_years_75 : decode cX3_years 75 = .ok (.goto 60, 3) := dk_167 0 60 (dk_at dksX3_years_3 6 rfl rfl)
theorem dX3_years_78 : decode cX3_years 78 = .ok (.aload_n 0, 1) := dk_42 (dk_at dksX3_years_3 9 rfl rfl)
theorem dX3_years_79 : decode cX3_years 79 = .ok (.aload_n 0, 1) := dk_42 (dk_at dksX3_years_3 10 rfl rfl)
theorem dX3_years_80 : decode cX3_years 80 = .ok (.getfield 101, 3) := dk_180 0 101 (dk_at dksX3_years_3 11 rfl rfl)
theorem dX3_years_83 : decode cX3_years 83 = .ok (.invokevirtual 351, 3) := dk_182 1 95 (dk_at dksX3_years_3 14 rfl rfl)
theorem dX3_years_86 : decode cX3_years 86 = .ok (.istore 5, 2) := dk_54 5 (dk_at dksX3_years_3 17 rfl rfl)
theorem dX3_years_88 : decode cX3_years 88 = .ok (.iload 4, 2) := dk_21 4 (dk_at dksX3_years_3 19 rfl rfl)
theorem dX3_years_90 : decode cX3_years 90 = .ok (.iconst 2, 1) := dk_5 (dk_at dksX3_years_3 21 rfl rfl)
theorem dX3_years_91 : decode cX3_years 91 = .ok (.if_icmp .ne 28, 3) := dk_160 0 28 (dk_at dksX3_years_4 0 rfl rfl)
theorem dX3_years_94 : decode cX3_years 94 = .ok (.aload_n 0, 1) := dk_42 (dk_at dksX3_years_4 3 rfl rfl)
theorem dX3_years_95 : decode cX3_years 95 = .ok (.getfield 48, 3) := dk_180 0 48 (dk_at dksX3_years_4 4 rfl rfl)
theorem dX3_years_98 : decode cX3_years 98 = .ok (.bipush 6, 2) := dk_16 6 (dk_at dksX3_years_4 7 rfl rfl)
theorem dX3_years_100 : decode cX3_years 100 = .ok (.iload 5, 2) := dk_21 5 (dk_at dksX3_years_4 9 rfl rfl)
theorem dX3_years_102 : decode cX3_years 102 = .ok (.iadd, 1) := dk_96 (dk_at dksX3_years_4 11 rfl rfl)
theorem dX3_years_103 : decode cX3_years 103 = .ok (.iconst 1, 1) := dk_4 (dk_at dksX3_years_4 12 rfl rfl)
theorem dX3_years_104 : decode cX3_years 104 = .ok (.aload_n 0, 1) := dk_42 (dk_at dksX3_years_4 13 rfl rfl)
theorem dX3_years_105 : decode cX3_years 105 = .ok (.getfield 48, 3) := dk_180 0 48 (dk_at dksX3_years_4 14 rfl rfl)
theorem dX3_years_108 : decode cX3_years 108 = .ok (.bipush 6, 2) := dk_16 6 (dk_at dksX3_years_4 17 rfl rfl)
theorem dX3_years_110 : decode cX3_years 110 = .ok (.iload 5, 2) := dk_21 5 (dk_at dksX3_years_4 19 rfl rfl)
theorem dX3_years_112 : decode cX3_years 112 = .ok (.iadd, 1) := dk_96 (dk_at dksX3_years_4 21 rfl rfl)
theorem dX3_years_113 : decode cX3_years 113 = .ok (.iaload, 1) := dk_46 (dk_at dksX3_years_4 22 rfl rfl)
theorem dX3_years_114 : decode cX3_years 114 = .ok (.isub, 1) := dk_100 (dk_at dksX3_years_4 23 rfl rfl)
theorem dX3_years_115 : decode cX3_years 115 = .ok (.iastore, 1) := dk_79 (dk_at dksX3_years_5 0 rfl rfl)
theorem dX3_years_116 : decode cX3_years 116 = .ok (.goto 19, 3) := dk_167 0 19 (dk_at dksX3_years_5 1 rfl rfl)
theorem dX3_years_119 : decode cX3_years 119 = .ok (.aload_n 0, 1) := dk_42 (dk_at dksX3_years_5 4 rfl rfl)
theorem dX3_years_120 : decode cX3_years 120 = .ok (.getfield 48, 3) := dk_180 0 48 (dk_at dksX3_years_5 5 rfl rfl)
theorem dX3_years_123 : decode cX3_years 123 = .ok (.bipush 18, 2) := dk_16 18 (dk_at dksX3_years_5 8 rfl rfl)
theorem dX3_years_125 : decode cX3_years 125 = .ok (.iload 5, 2) := dk_21 5 (dk_at dksX3_years_5 10 rfl rfl)
theorem dX3_years_127 : decode cX3_years 127 = .ok (.iadd, 1) := dk_96 (dk_at dksX3_years_5 12 rfl rfl)
theorem dX3_years_128 : decode cX3_years 128 = .ok (.aload_n 0, 1) := dk_42 (dk_at dksX3_years_5 13 rfl rfl)
theorem dX3_years_129 : decode cX3_years 129 = .ok (.bipush 10, 2) := dk_16 10 (dk_at dksX3_years_5 14 rfl rfl)
theorem dX3_years_131 : decode cX3_years 131 = .ok (.invokevirtual 351, 3) := dk_182 1 95 (dk_at dksX3_years_5 16 rfl rfl)
theorem dX3_years_134 : decode cX3_years 134 = .ok (.iastore, 1) := dk_79 (dk_at dksX3_years_5 19 rfl rfl)
theorem dX3_years_135 : decode cX3_years 135 = .ok (.iinc 3 1, 3) := dk_132 3 1 (dk_at dksX3_years_5 20 rfl rfl)
theorem dX3_years_138 : decode cX3_years 138 = .ok (.goto (-102), 3) := dk_167 255 154 (dk_at dksX3_years_6 0 rfl rfl)
theorem dX3_years_141 : decode cX3_years 141 = .ok (.aload_n 0, 1) := dk_42 (dk_at dksX3_years_6 3 rfl rfl)
theorem dX3_years_142 : decode cX3_years 142 = .ok (.iconst 0, 1) := dk_3 (dk_at dksX3_years_6 4 rfl rfl)
theorem dX3_years_143 : decode cX3_years 143 = .ok (.putfield 98, 3) := dk_181 0 98 (dk_at dksX3_years_6 5 rfl rfl)
theorem dX3_years_146 : decode cX3_years 146 = .ok (.aload_n 0, 1) := dk_42 (dk_at dksX3_years_6 8 rfl rfl)
theorem dX3_years_147 : decode cX3_years 147 = .ok (.aload_n 0, 1) := dk_42 (dk_at dksX3_years_6 9 rfl rfl)
theorem dX3_years_148 : decode cX3_years 148 = .ok (.getfield 48, 3) := dk_180 0 48 (dk_at dksX3_years_6 10 rfl rfl)
theorem dX3_years_151 : decode cX3_years 151 = .ok (.bipush 31, 2) := dk_16 31 (dk_at dksX3_years_6 13 rfl rfl)
theorem dX3_years_153 : decode cX3_years 153 = .ok (.iaload, 1) := dk_46 (dk_at dksX3_years_6 15 rfl rfl)
theorem dX3_years_154 : decode cX3_years 154 = .ok (.aload_n 0, 1) := dk_42 (dk_at dksX3_years_6 16 rfl rfl)
theorem dX3_years_155 : decode cX3_years 155 = .ok (.getfield 9, 3) := dk_180 0 9 (dk_at dksX3_years_6 17 rfl rfl)
theorem dX3_years_158 : decode cX3_years 158 = .ok (.bipush 31, 2) := dk_16 31 (dk_at dksX3_years_6 20 rfl rfl)
theorem dX3_years_160 : decode cX3_years 160 = .ok (.iaload, 1) := dk_46 (dk_at dksX3_years_6 22 rfl rfl)
theorem dX3_years_161 : decode cX3_years 161 = .ok (.isub, 1) := dk_100 (dk_at dksX3_years_6 23 rfl rfl)
theorem dX3_years_162 : decode cX3_years 162 = .ok (.i2l, 1) := dk_133 (dk_at dksX3_years_7 0 rfl rfl)
theorem dX3_years_163 : decode cX3_years 163 = .ok (.invokevirtual 248, 3) := dk_182 0 248 (dk_at dksX3_years_7 1 rfl rfl)
theorem dX3_years_166 : decode cX3_years 166 = .ok (.aload_n 0, 1) := dk_42 (dk_at dksX3_years_7 4 rfl rfl)
theorem dX3_years_167 : decode cX3_years 167 = .ok (.aload_n 0, 1) := dk_42 (dk_at dksX3_years_7 5 rfl rfl)
theorem dX3_years_168 : decode cX3_years 168 = .ok (.getfield 48, 3) := dk_180 0 48 (dk_at dksX3_years_7 6 rfl rfl)
theorem dX3_years_171 : decode cX3_years 171 = .ok (.bipush 32, 2) := dk_16 32 (dk_at dksX3_years_7 9 rfl rfl)
theorem dX3_years_173 : decode cX3_years 173 = .ok (.iaload, 1) := dk_46 (dk_at dksX3_years_7 11 rfl rfl)
theorem dX3_years_174 : decode cX3_years 174 = .ok (.aload_n 0, 1) := dk_42 (dk_at dksX3_years_7 12 rfl rfl)
theorem dX3_years_175 : decode cX3_years 175 = .ok (.getfield 9, 3) := dk_180 0 9 (dk_at dksX3_years_7 13 rfl rfl)
theorem dX3_years_178 : decode cX3_years 178 = .ok (.bipush 32, 2) := dk_16 32 (dk_at dksX3_years_7 16 rfl rfl)
theorem dX3_years_180 : decode cX3_years 180 = .ok (.iaload, 1) := dk_46 (dk_at dksX3_years_7 18 rfl rfl)
theorem dX3_years_181 : decode cX3_years 181 = .ok (.isub, 1) := dk_100 (dk_at dksX3_years_7 19 rfl rfl)
theorem dX3_years_182 : decode cX3_years 182 = .ok (.i2l, 1) := dk_133 (dk_at dksX3_years_7 20 rfl rfl)
theorem dX3_years_183 : decode cX3_years 183 = .ok (.invokevirtual 248, 3) := dk_182 0 248 (dk_at dksX3_years_7 21 rfl rfl)
theorem dX3_years_186 : decode cX3_years 186 = .ok (.aload_n 0, 1) := dk_42 (dk_at dksX3_years_8 0 rfl rfl)
theorem dX3_years_187 : decode cX3_years 187 = .ok (.aload_n 0, 1) := dk_42 (dk_at dksX3_years_8 1 rfl rfl)
theorem dX3_years_188 : decode cX3_years 188 = .ok (.getfield 48, 3) := dk_180 0 48 (dk_at dksX3_years_8 2 rfl rfl)
theorem dX3_years_191 : decode cX3_years 191 = .ok (.iconst 0, 1) := dk_3 (dk_at dksX3_years_8 5 rfl rfl)
theorem dX3_years_192 : decode cX3_years 192 = .ok (.invokevirtual 227, 3) := dk_182 0 227 (dk_at dksX3_years_8 6 rfl rfl)
theorem dX3_years_195 : decode cX3_years 195 = .ok (.ireturn, 1) := dk_172 (dk_at dksX3_years_8 9 rfl rfl)
abbrev cX3_draw : ByteArray := prog_9_method_102_code
def yX3_draw : MethodName := ⟨RX3, "draw", "(I)I"⟩
def dkwX3_draw_1 : List UInt8 := [112, 172]
abbrev dktX3_draw_1 : List UInt8 := dkwX3_draw_1 ++ []
def dkwX3_draw_0 : List UInt8 := [42, 42, 180, 1, 91, 19, 1, 94, 104, 17, 48, 57, 96, 181, 1, 91, 42, 180, 1, 91, 16, 16, 124, 27]
abbrev dktX3_draw_0 : List UInt8 := dkwX3_draw_0 ++ dktX3_draw_1
theorem dksX3_draw_0 : cX3_draw.data.toList.drop 0 = dktX3_draw_0 := by decide +kernel
theorem dksX3_draw_1 : cX3_draw.data.toList.drop 24 = dktX3_draw_1 := dk_seg dksX3_draw_0 24 rfl rfl
theorem dX3_draw_0 : decode cX3_draw 0 = .ok (.aload_n 0, 1) := dk_42 (dk_at dksX3_draw_0 0 rfl rfl)
theorem dX3_draw_1 : decode cX3_draw 1 = .ok (.aload_n 0, 1) := dk_42 (dk_at dksX3_draw_0 1 rfl rfl)
theorem dX3_draw_2 : decode cX3_draw 2 = .ok (.getfield 347, 3) := dk_180 1 91 (dk_at dksX3_draw_0 2 rfl rfl)
theorem dX3_draw_5 : decode cX3_draw 5 = .ok (.ldc_w 350, 3) := dk_19 1 94 (dk_at dksX3_draw_0 5 rfl rfl)
theorem dX3_draw_8 : decode cX3_draw 8 = .ok (.imul, 1) := dk_104 (dk_at dksX3_draw_0 8 rfl rfl)
theorem dX3_draw_9 : decode cX3_draw 9 = .ok (.sipush 12345, 3) := dk_17 48 57 (dk_at dksX3_draw_0 9 rfl rfl)
theorem dX3_draw_12 : decode cX3_draw 12 = .ok (.iadd, 1) := dk_96 (dk_at dksX3_draw_0 12 rfl rfl)
theorem dX3_draw_13 : decode cX3_draw 13 = .ok (.putfield 347, 3) := dk_181 1 91 (dk_at dksX3_draw_0 13 rfl rfl)
theorem dX3_draw_16 : decode cX3_draw 16 = .ok (.aload_n 0, 1) := dk_42 (dk_at dksX3_draw_0 16 rfl rfl)
theorem dX3_draw_17 : decode cX3_draw 17 = .ok (.getfield 347, 3) := dk_180 1 91 (dk_at dksX3_draw_0 17 rfl rfl)
theorem dX3_draw_20 : decode cX3_draw 20 = .ok (.bipush 16, 2) := dk_16 16 (dk_at dksX3_draw_0 20 rfl rfl)
theorem dX3_draw_22 : decode cX3_draw 22 = .ok (.iushr, 1) := dk_124 (dk_at dksX3_draw_0 22 rfl rfl)
theorem dX3_draw_23 : decode cX3_draw 23 = .ok (.iload_n 1, 1) := dk_27 (dk_at dksX3_draw_0 23 rfl rfl)
theorem dX3_draw_24 : decode cX3_draw 24 = .ok (.irem, 1) := dk_112 (dk_at dksX3_draw_1 0 rfl rfl)
theorem dX3_draw_25 : decode cX3_draw 25 = .ok (.ireturn, 1) := dk_172 (dk_at dksX3_draw_1 1 rfl rfl)
abbrev cX3_keep : ByteArray := prog_9_method_104_code
def yX3_keep : MethodName := ⟨RX3, "keep", "(I)Z"⟩
def dkwX3_keep_2 : List UInt8 := [4, 172]
abbrev dktX3_keep_2 : List UInt8 := dkwX3_keep_2 ++ []
def dkwX3_keep_1 : List UInt8 := [180, 0, 92, 27, 42, 180, 0, 166, 79, 42, 180, 0, 9, 42, 180, 0, 85, 16, 33, 27, 104, 184, 0, 230]
abbrev dktX3_keep_1 : List UInt8 := dkwX3_keep_1 ++ dktX3_keep_2
def dkwX3_keep_0 : List UInt8 := [42, 3, 181, 0, 95, 27, 3, 4, 184, 0, 104, 154, 0, 5, 3, 172, 42, 180, 0, 88, 27, 4, 84, 42]
abbrev dktX3_keep_0 : List UInt8 := dkwX3_keep_0 ++ dktX3_keep_1
theorem dksX3_keep_0 : cX3_keep.data.toList.drop 0 = dktX3_keep_0 := by decide +kernel
theorem dksX3_keep_1 : cX3_keep.data.toList.drop 24 = dktX3_keep_1 := dk_seg dksX3_keep_0 24 rfl rfl
theorem dksX3_keep_2 : cX3_keep.data.toList.drop 48 = dktX3_keep_2 := dk_seg dksX3_keep_1 24 rfl rfl
theorem dX3_keep_0 : decode cX3_keep 0 = .ok (.aload_n 0, 1) := dk_42 (dk_at dksX3_keep_0 0 rfl rfl)
theorem dX3_keep_1 : decode cX3_keep 1 = .ok (.iconst 0, 1) := dk_3 (dk_at dksX3_keep_0 1 rfl rfl)
theorem dX3_keep_2 : decode cX3_keep 2 = .ok (.putfield 95, 3) := dk_181 0 95 (dk_at dksX3_keep_0 2 rfl rfl)
theorem dX3_keep_5 : decode cX3_keep 5 = .ok (.iload_n 1, 1) := dk_27 (dk_at dksX3_keep_0 5 rfl rfl)
theorem dX3_keep_6 : decode cX3_keep 6 = .ok (.iconst 0, 1) := dk_3 (dk_at dksX3_keep_0 6 rfl rfl)
theorem dX3_keep_7 : decode cX3_keep 7 = .ok (.iconst 1, 1) := dk_4 (dk_at dksX3_keep_0 7 rfl rfl)
theorem dX3_keep_8 : decode cX3_keep 8 = .ok (.invokestatic 104, 3) := dk_184 0 104 (dk_at dksX3_keep_0 8 rfl rfl)
theorem dX3_keep_11 : decode cX3_keep 11 = .ok (.ifCond .ne 5, 3) := dk_154 0 5 (dk_at dksX3_keep_0 11 rfl rfl)
theorem dX3_keep_14 : decode cX3_keep 14 = .ok (.iconst 0, 1) := dk_3 (dk_at dksX3_keep_0 14 rfl rfl)
theorem dX3_keep_15 : decode cX3_keep 15 = .ok (.ireturn, 1) := dk_172 (dk_at dksX3_keep_0 15 rfl rfl)
theorem dX3_keep_16 : decode cX3_keep 16 = .ok (.aload_n 0, 1) := dk_42 (dk_at dksX3_keep_0 16 rfl rfl)
theorem dX3_keep_17 : decode cX3_keep 17 = .ok (.getfield 88, 3) := dk_180 0 88 (dk_at dksX3_keep_0 17 rfl rfl)
theorem dX3_keep_20 : decode cX3_keep 20 = .ok (.iload_n 1, 1) := dk_27 (dk_at dksX3_keep_0 20 rfl rfl)
theorem dX3_keep_21 : decode cX3_keep 21 = .ok (.iconst 1, 1) := dk_4 (dk_at dksX3_keep_0 21 rfl rfl)
theorem dX3_keep_22 : decode cX3_keep 22 = .ok (.bastore, 1) := dk_84 (dk_at dksX3_keep_0 22 rfl rfl)
theorem dX3_keep_23 : decode cX3_keep 23 = .ok (.aload_n 0, 1) := dk_42 (dk_at dksX3_keep_0 23 rfl rfl)
theorem dX3_keep_24 : decode cX3_keep 24 = .ok (.getfield 92, 3) := dk_180 0 92 (dk_at dksX3_keep_1 0 rfl rfl)
theorem dX3_keep_27 : decode cX3_keep 27 = .ok (.iload_n 1, 1) := dk_27 (dk_at dksX3_keep_1 3 rfl rfl)
theorem dX3_keep_28 : decode cX3_keep 28 = .ok (.aload_n 0, 1) := dk_42 (dk_at dksX3_keep_1 4 rfl rfl)
theorem dX3_keep_29 : decode cX3_keep 29 = .ok (.getfield 166, 3) := dk_180 0 166 (dk_at dksX3_keep_1 5 rfl rfl)
theorem dX3_keep_32 : decode cX3_keep 32 = .ok (.iastore, 1) := dk_79 (dk_at dksX3_keep_1 8 rfl rfl)
theorem dX3_keep_33 : decode cX3_keep 33 = .ok (.aload_n 0, 1) := dk_42 (dk_at dksX3_keep_1 9 rfl rfl)
theorem dX3_keep_34 : decode cX3_keep 34 = .ok (.getfield 9, 3) := dk_180 0 9 (dk_at dksX3_keep_1 10 rfl rfl)
theorem dX3_keep_37 : decode cX3_keep 37 = .ok (.aload_n 0, 1) := dk_42 (dk_at dksX3_keep_1 13 rfl rfl)
theorem dX3_keep_38 : decode cX3_keep 38 = .ok (.getfield 85, 3) := dk_180 0 85 (dk_at dksX3_keep_1 14 rfl rfl)
theorem dX3_keep_41 : decode cX3_keep 41 = .ok (.bipush 33, 2) := dk_16 33 (dk_at dksX3_keep_1 17 rfl rfl)
theorem dX3_keep_43 : decode cX3_keep 43 = .ok (.iload_n 1, 1) := dk_27 (dk_at dksX3_keep_1 19 rfl rfl)
theorem dX3_keep_44 : decode cX3_keep 44 = .ok (.imul, 1) := dk_104 (dk_at dksX3_keep_1 20 rfl rfl)
theorem dX3_keep_45 : decode cX3_keep 45 = .ok (.invokestatic 230, 3) := dk_184 0 230 (dk_at dksX3_keep_1 21 rfl rfl)
theorem dX3_keep_48 : decode cX3_keep 48 = .ok (.iconst 1, 1) := dk_4 (dk_at dksX3_keep_2 0 rfl rfl)
theorem dX3_keep_49 : decode cX3_keep 49 = .ok (.ireturn, 1) := dk_172 (dk_at dksX3_keep_2 1 rfl rfl)
abbrev cX3_again : ByteArray := prog_9_method_105_code
def yX3_again : MethodName := ⟨RX3, "again", "(I)Z"⟩
def dkwX3_again_3 : List UInt8 := [181, 0, 163, 4, 172]
abbrev dktX3_again_3 : List UInt8 := dkwX3_again_3 ++ []
def dkwX3_again_2 : List UInt8 := [180, 0, 9, 28, 42, 180, 0, 85, 16, 33, 27, 104, 28, 96, 46, 79, 132, 2, 1, 167, 255, 230, 42, 3]
abbrev dktX3_again_2 : List UInt8 := dkwX3_again_2 ++ dktX3_again_3
def dkwX3_again_1 : List UInt8 := [180, 0, 92, 27, 46, 42, 180, 0, 166, 159, 0, 5, 3, 172, 3, 61, 28, 16, 33, 162, 0, 26, 42]
abbrev dktX3_again_1 : List UInt8 := dkwX3_again_1 ++ dktX3_again_2
def dkwX3_again_0 : List UInt8 := [42, 3, 181, 0, 95, 27, 3, 4, 184, 0, 104, 153, 0, 25, 42, 180, 0, 88, 27, 51, 153, 0, 16, 42]
abbrev dktX3_again_0 : List UInt8 := dkwX3_again_0 ++ dktX3_again_1
theorem dksX3_again_0 : cX3_again.data.toList.drop 0 = dktX3_again_0 := by decide +kernel
theorem dksX3_again_1 : cX3_again.data.toList.drop 24 = dktX3_again_1 := dk_seg dksX3_again_0 24 rfl rfl
theorem dksX3_again_2 : cX3_again.data.toList.drop 47 = dktX3_again_2 := dk_seg dksX3_again_1 23 rfl rfl
theorem dksX3_again_3 : cX3_again.data.toList.drop 71 = dktX3_again_3 := dk_seg dksX3_again_2 24 rfl rfl
theorem dX3_again_0 : decode cX3_again 0 = .ok (.aload_n 0, 1) := dk_42 (dk_at dksX3_again_0 0 rfl rfl)
theorem dX3_again_1 : decode cX3_again 1 = .ok (.iconst 0, 1) := dk_3 (dk_at dksX3_again_0 1 rfl rfl)
theorem dX3_again_2 : decode cX3_again 2 = .ok (.putfield 95, 3) := dk_181 0 95 (dk_at dksX3_again_0 2 rfl rfl)
theorem dX3_again_5 : decode cX3_again 5 = .ok (.iload_n 1, 1) := dk_27 (dk_at dksX3_again_0 5 rfl rfl)
theorem dX3_again_6 : decode cX3_again 6 = .ok (.iconst 0, 1) := dk_3 (dk_at dksX3_again_0 6 rfl rfl)
theorem dX3_again_7 : decode cX3_again 7 = .ok (.iconst 1, 1) := dk_4 (dk_at dksX3_again_0 7 rfl rfl)
theorem dX3_again_8 : decode cX3_again 8 = .ok (.invokestatic 104, 3) := dk_184 0 104 (dk_at dksX3_again_0 8 rfl rfl)
theorem dX3_again_11 : decode cX3_again 11 = .ok (.ifCond .eq 25, 3) := dk_153 0 25 (dk_at dksX3_again_0 11 rfl rfl)
theorem dX3_again_14 : decode cX3_again 14 = .ok (.aload_n 0, 1) := dk_42 (dk_at dksX3_again_0 14 rfl rfl)
theorem dX3_again_15 : decode cX3_again 15 = .ok (.getfield 88, 3) := dk_180 0 88 (dk_at dksX3_again_0 15 rfl rfl)
theorem dX3_again_18 : decode cX3_again 18 = .ok (.iload_n 1, 1) := dk_27 (dk_at dksX3_again_0 18 rfl rfl)
theorem dX3_again_19 : decode cX3_again 19 = .ok (.baload, 1) := dk_51 (dk_at dksX3_again_0 19 rfl rfl)
theorem dX3_again_20 : decode cX3_again 20 = .ok (.ifCond .eq 16, 3) := dk_153 0 16 (dk_at dksX3_again_0 20 rfl rfl)
theorem dX3_again_23 : decode cX3_again 23 = .ok (.aload_n 0, 1) := dk_42 (dk_at dksX3_again_0 23 rfl rfl)
theorem dX3_again_24 : decode cX3_again 24 = .ok (.getfield 92, 3) := dk_180 0 92 (dk_at dksX3_again_1 0 rfl rfl)
theorem dX3_again_27 : decode cX3_again 27 = .ok (.iload_n 1, 1) := dk_27 (dk_at dksX3_again_1 3 rfl rfl)
theorem dX3_again_28 : decode cX3_again 28 = .ok (.iaload, 1) := dk_46 (dk_at dksX3_again_1 4 rfl rfl)
theorem dX3_again_29 : decode cX3_again 29 = .ok (.aload_n 0, 1) := dk_42 (dk_at dksX3_again_1 5 rfl rfl)
theorem dX3_again_30 : decode cX3_again 30 = .ok (.getfield 166, 3) := dk_180 0 166 (dk_at dksX3_again_1 6 rfl rfl)
theorem dX3_again_33 : decode cX3_again 33 = .ok (.if_icmp .eq 5, 3) := dk_159 0 5 (dk_at dksX3_again_1 9 rfl rfl)
theorem dX3_again_36 : decode cX3_again 36 = .ok (.iconst 0, 1) := dk_3 (dk_at dksX3_again_1 12 rfl rfl)
theorem dX3_again_37 : decode cX3_again 37 = .ok (.ireturn, 1) := dk_172 (dk_at dksX3_again_1 13 rfl rfl)
theorem dX3_again_38 : decode cX3_again 38 = .ok (.iconst 0, 1) := dk_3 (dk_at dksX3_again_1 14 rfl rfl)
theorem dX3_again_39 : decode cX3_again 39 = .ok (.istore_n 2, 1) := dk_61 (dk_at dksX3_again_1 15 rfl rfl)
theorem dX3_again_40 : decode cX3_again 40 = .ok (.iload_n 2, 1) := dk_28 (dk_at dksX3_again_1 16 rfl rfl)
theorem dX3_again_41 : decode cX3_again 41 = .ok (.bipush 33, 2) := dk_16 33 (dk_at dksX3_again_1 17 rfl rfl)
theorem dX3_again_43 : decode cX3_again 43 = .ok (.if_icmp .ge 26, 3) := dk_162 0 26 (dk_at dksX3_again_1 19 rfl rfl)
theorem dX3_again_46 : decode cX3_again 46 = .ok (.aload_n 0, 1) := dk_42 (dk_at dksX3_again_1 22 rfl rfl)
theorem dX3_again_47 : decode cX3_again 47 = .ok (.getfield 9, 3) := dk_180 0 9 (dk_at dksX3_again_2 0 rfl rfl)
theorem dX3_again_50 : decode cX3_again 50 = .ok (.iload_n 2, 1) := dk_28 (dk_at dksX3_again_2 3 rfl rfl)
theorem dX3_again_51 : decode cX3_again 51 = .ok (.aload_n 0, 1) := dk_42 (dk_at dksX3_again_2 4 rfl rfl)
theorem dX3_again_52 : decode cX3_again 52 = .ok (.getfield 85, 3) := dk_180 0 85 (dk_at dksX3_again_2 5 rfl rfl)
theorem dX3_again_55 : decode cX3_again 55 = .ok (.bipush 33, 2) := dk_16 33 (dk_at dksX3_again_2 8 rfl rfl)
theorem dX3_again_57 : decode cX3_again 57 = .ok (.iload_n 1, 1) := dk_27 (dk_at dksX3_again_2 10 rfl rfl)
theorem dX3_again_58 : decode cX3_again 58 = .ok (.imul, 1) := dk_104 (dk_at dksX3_again_2 11 rfl rfl)
theorem dX3_again_59 : decode cX3_again 59 = .ok (.iload_n 2, 1) := dk_28 (dk_at dksX3_again_2 12 rfl rfl)
theorem dX3_again_60 : decode cX3_again 60 = .ok (.iadd, 1) := dk_96 (dk_at dksX3_again_2 13 rfl rfl)
theorem dX3_again_61 : decode cX3_again 61 = .ok (.iaload, 1) := dk_46 (dk_at dksX3_again_2 14 rfl rfl)
theorem dX3_again_62 : decode cX3_again 62 = .ok (.iastore, 1) := dk_79 (dk_at dksX3_again_2 15 rfl rfl)
theorem dX3_again_63 : decode cX3_again 63 = .ok (.iinc 2 1, 3) := dk_132 2 1 (dk_at dksX3_again_2 16 rfl rfl)
theorem dX3_again_66 : decode cX3_again 66 = .ok (.goto (-26), 3) := dk_167 255 230 (dk_at dksX3_again_2 19 rfl rfl)
theorem dX3_again_69 : decode cX3_again 69 = .ok (.aload_n 0, 1) := dk_42 (dk_at dksX3_again_2 22 rfl rfl)
theorem dX3_again_70 : decode cX3_again 70 = .ok (.iconst 0, 1) := dk_3 (dk_at dksX3_again_2 23 rfl rfl)
theorem dX3_again_71 : decode cX3_again 71 = .ok (.putfield 163, 3) := dk_181 0 163 (dk_at dksX3_again_3 0 rfl rfl)
theorem dX3_again_74 : decode cX3_again 74 = .ok (.iconst 1, 1) := dk_4 (dk_at dksX3_again_3 3 rfl rfl)
theorem dX3_again_75 : decode cX3_again 75 = .ok (.ireturn, 1) := dk_172 (dk_at dksX3_again_3 4 rfl rfl)
abbrev cX3_count : ByteArray := prog_9_method_107_code
def yX3_count : MethodName := ⟨RX3, "count", "(I)I"⟩
def dkwX3_count_6 : List UInt8 := [172, 2, 172]
abbrev dktX3_count_6 : List UInt8 := dkwX3_count_6 ++ []
def dkwX3_count_5 : List UInt8 := [42, 180, 1, 52, 172, 42, 180, 0, 163, 172, 42, 180, 0, 98, 172, 42, 180, 0, 112, 172, 42, 182, 1, 98]
abbrev dktX3_count_5 : List UInt8 := dkwX3_count_5 ++ dktX3_count_6
def dkwX3_count_4 : List UInt8 := [182, 0, 202, 172, 42, 42, 180, 0, 9, 16, 12, 182, 0, 227, 172, 42, 42, 180, 0, 9, 182, 1, 44, 172]
abbrev dktX3_count_4 : List UInt8 := dkwX3_count_4 ++ dktX3_count_5
def dkwX3_count_3 : List UInt8 := [180, 0, 9, 16, 32, 46, 172, 42, 42, 180, 0, 9, 3, 182, 0, 227, 172, 42, 42, 180, 0, 9]
abbrev dktX3_count_3 : List UInt8 := dkwX3_count_3 ++ dktX3_count_4
def dkwX3_count_2 : List UInt8 := [42, 180, 0, 101, 172, 42, 180, 0, 9, 16, 30, 46, 172, 42, 180, 0, 9, 16, 31, 46, 172, 42]
abbrev dktX3_count_2 : List UInt8 := dkwX3_count_2 ++ dktX3_count_3
def dkwX3_count_1 : List UInt8 := [170, 0, 0, 0, 0, 159, 0, 0, 0, 0, 0, 0, 0, 12, 0, 0, 0, 66, 0, 0, 0, 71, 0, 0, 0, 79, 0, 0, 0, 87, 0, 0, 0, 95, 0, 0, 0, 105, 0, 0, 0, 114, 0, 0, 0, 125, 0, 0, 0, 134, 0, 0, 0, 139, 0, 0, 0, 144, 0, 0, 0, 149, 0, 0, 0, 154]
abbrev dktX3_count_1 : List UInt8 := dkwX3_count_1 ++ dktX3_count_2
def dkwX3_count_0 : List UInt8 := [42, 3, 181, 0, 95, 27]
abbrev dktX3_count_0 : List UInt8 := dkwX3_count_0 ++ dktX3_count_1
theorem dksX3_count_0 : cX3_count.data.toList.drop 0 = dktX3_count_0 := by decide +kernel
theorem dksX3_count_1 : cX3_count.data.toList.drop 6 = dktX3_count_1 := dk_seg dksX3_count_0 6 rfl rfl
theorem dksX3_count_2 : cX3_count.data.toList.drop 72 = dktX3_count_2 := dk_seg dksX3_count_1 66 rfl rfl
theorem dksX3_count_3 : cX3_count.data.toList.drop 94 = dktX3_count_3 := dk_seg dksX3_count_2 22 rfl rfl
theorem dksX3_count_4 : cX3_count.data.toList.drop 116 = dktX3_count_4 := dk_seg dksX3_count_3 22 rfl rfl
theorem dksX3_count_5 : cX3_count.data.toList.drop 140 = dktX3_count_5 := dk_seg dksX3_count_4 24 rfl rfl
theorem dksX3_count_6 : cX3_count.data.toList.drop 164 = dktX3_count_6 := dk_seg dksX3_count_5 24 rfl rfl
theorem dX3_count_0 : decode cX3_count 0 = .ok (.aload_n 0, 1) := dk_42 (dk_at dksX3_count_0 0 rfl rfl)
theorem dX3_count_1 : decode cX3_count 1 = .ok (.iconst 0, 1) := dk_3 (dk_at dksX3_count_0 1 rfl rfl)
theorem dX3_count_2 : decode cX3_count 2 = .ok (.putfield 95, 3) := dk_181 0 95 (dk_at dksX3_count_0 2 rfl rfl)
theorem dX3_count_5 : decode cX3_count 5 = .ok (.iload_n 1, 1) := dk_27 (dk_at dksX3_count_0 5 rfl rfl)
theorem dX3_count_6 : decode cX3_count 6 = .ok (.tableswitch 159 0 12 #[66, 71, 79, 87, 95, 105, 114, 125, 134, 139, 144, 149, 154], 66) := by decide +kernel
theorem dX3_count_72 : decode cX3_count 72 = .ok (.aload_n 0, 1) := dk_42 (dk_at dksX3_count_2 0 rfl rfl)
theorem dX3_count_73 : decode cX3_count 73 = .ok (.getfield 101, 3) := dk_180 0 101 (dk_at dksX3_count_2 1 rfl rfl)
theorem dX3_count_76 : decode cX3_count 76 = .ok (.ireturn, 1) := dk_172 (dk_at dksX3_count_2 4 rfl rfl)
theorem dX3_count_77 : decode cX3_count 77 = .ok (.aload_n 0, 1) := dk_42 (dk_at dksX3_count_2 5 rfl rfl)
theorem dX3_count_78 : decode cX3_count 78 = .ok (.getfield 9, 3) := dk_180 0 9 (dk_at dksX3_count_2 6 rfl rfl)
theorem dX3_count_81 : decode cX3_count 81 = .ok (.bipush 30, 2) := dk_16 30 (dk_at dksX3_count_2 9 rfl rfl)
theorem dX3_count_83 : decode cX3_count 83 = .ok (.iaload, 1) := dk_46 (dk_at dksX3_count_2 11 rfl rfl)
theorem dX3_count_84 : decode cX3_count 84 = .ok (.ireturn, 1) := dk_172 (dk_at dksX3_count_2 12 rfl rfl)
theorem dX3_count_85 : decode cX3_count 85 = .ok (.aload_n 0, 1) := dk_42 (dk_at dksX3_count_2 13 rfl rfl)
theorem dX3_count_86 : decode cX3_count 86 = .ok (.getfield 9, 3) := dk_180 0 9 (dk_at dksX3_count_2 14 rfl rfl)
theorem dX3_count_89 : decode cX3_count 89 = .ok (.bipush 31, 2) := dk_16 31 (dk_at dksX3_count_2 17 rfl rfl)
theorem dX3_count_91 : decode cX3_count 91 = .ok (.iaload, 1) := dk_46 (dk_at dksX3_count_2 19 rfl rfl)
theorem dX3_count_92 : decode cX3_count 92 = .ok (.ireturn, 1) := dk_172 (dk_at dksX3_count_2 20 rfl rfl)
theorem dX3_count_93 : decode cX3_count 93 = .ok (.aload_n 0, 1) := dk_42 (dk_at dksX3_count_2 21 rfl rfl)
theorem dX3_count_94 : decode cX3_count 94 = .ok (.getfield 9, 3) := dk_180 0 9 (dk_at dksX3_count_3 0 rfl rfl)
theorem dX3_count_97 : decode cX3_count 97 = .ok (.bipush 32, 2) := dk_16 32 (dk_at dksX3_count_3 3 rfl rfl)
theorem dX3_count_99 : decode cX3_count 99 = .ok (.iaload, 1) := dk_46 (dk_at dksX3_count_3 5 rfl rfl)
theorem dX3_count_100 : decode cX3_count 100 = .ok (.ireturn, 1) := dk_172 (dk_at dksX3_count_3 6 rfl rfl)
theorem dX3_count_101 : decode cX3_count 101 = .ok (.aload_n 0, 1) := dk_42 (dk_at dksX3_count_3 7 rfl rfl)
theorem dX3_count_102 : decode cX3_count 102 = .ok (.aload_n 0, 1) := dk_42 (dk_at dksX3_count_3 8 rfl rfl)
theorem dX3_count_103 : decode cX3_count 103 = .ok (.getfield 9, 3) := dk_180 0 9 (dk_at dksX3_count_3 9 rfl rfl)
theorem dX3_count_106 : decode cX3_count 106 = .ok (.iconst 0, 1) := dk_3 (dk_at dksX3_count_3 12 rfl rfl)
theorem dX3_count_107 : decode cX3_count 107 = .ok (.invokevirtual 227, 3) := dk_182 0 227 (dk_at dksX3_count_3 13 rfl rfl)
theorem dX3_count_110 : decode cX3_count 110 = .ok (.ireturn, 1) := dk_172 (dk_at dksX3_count_3 16 rfl rfl)
theorem dX3_count_111 : decode cX3_count 111 = .ok (.aload_n 0, 1) := dk_42 (dk_at dksX3_count_3 17 rfl rfl)
theorem dX3_count_112 : decode cX3_count 112 = .ok (.aload_n 0, 1) := dk_42 (dk_at dksX3_count_3 18 rfl rfl)
theorem dX3_count_113 : decode cX3_count 113 = .ok (.getfield 9, 3) := dk_180 0 9 (dk_at dksX3_count_3 19 rfl rfl)
theorem dX3_count_116 : decode cX3_count 116 = .ok (.invokevirtual 202, 3) := dk_182 0 202 (dk_at dksX3_count_4 0 rfl rfl)
theorem dX3_count_119 : decode cX3_count 119 = .ok (.ireturn, 1) := dk_172 (dk_at dksX3_count_4 3 rfl rfl)
theorem dX3_count_120 : decode cX3_count 120 = .ok (.aload_n 0, 1) := dk_42 (dk_at dksX3_count_4 4 rfl rfl)
theorem dX3_count_121 : decode cX3_count 121 = .ok (.aload_n 0, 1) := dk_42 (dk_at dksX3_count_4 5 rfl rfl)
theorem dX3_count_122 : decode cX3_count 122 = .ok (.getfield 9, 3) := dk_180 0 9 (dk_at dksX3_count_4 6 rfl rfl)
theorem dX3_count_125 : decode cX3_count 125 = .ok (.bipush 12, 2) := dk_16 12 (dk_at dksX3_count_4 9 rfl rfl)
theorem dX3_count_127 : decode cX3_count 127 = .ok (.invokevirtual 227, 3) := dk_182 0 227 (dk_at dksX3_count_4 11 rfl rfl)
theorem dX3_count_130 : decode cX3_count 130 = .ok (.ireturn, 1) := dk_172 (dk_at dksX3_count_4 14 rfl rfl)
theorem dX3_count_131 : decode cX3_count 131 = .ok (.aload_n 0, 1) := dk_42 (dk_at dksX3_count_4 15 rfl rfl)
theorem dX3_count_132 : decode cX3_count 132 = .ok (.aload_n 0, 1) := dk_42 (dk_at dksX3_count_4 16 rfl rfl)
theorem dX3_count_133 : decode cX3_count 133 = .ok (.getfield 9, 3) := dk_180 0 9 (dk_at dksX3_count_4 17 rfl rfl)
theorem dX3_count_136 : decode cX3_count 136 = .ok (.invokevirtual 300, 3) := dk_182 1 44 (dk_at dksX3_count_4 20 rfl rfl)
theorem dX3_count_139 : decode cX3_count 139 = .ok (.ireturn, 1) := dk_172 (dk_at dksX3_count_4 23 rfl rfl)
theorem dX3_count_140 : decode cX3_count 140 = .ok (.aload_n 0, 1) := dk_42 (dk_at dksX3_count_5 0 rfl rfl)
theorem dX3_count_141 : decode cX3_count 141 = .ok (.getfield 308, 3) := dk_180 1 52 (dk_at dksX3_count_5 1 rfl rfl)
theorem dX3_count_144 : decode cX3_count 144 = .ok (.ireturn, 1) := dk_172 (dk_at dksX3_count_5 4 rfl rfl)
theorem dX3_count_145 : decode cX3_count 145 = .ok (.aload_n 0, 1) := dk_42 (dk_at dksX3_count_5 5 rfl rfl)
theorem dX3_count_146 : decode cX3_count 146 = .ok (.getfield 163, 3) := dk_180 0 163 (dk_at dksX3_count_5 6 rfl rfl)
theorem dX3_count_149 : decode cX3_count 149 = .ok (.ireturn, 1) := dk_172 (dk_at dksX3_count_5 9 rfl rfl)
theorem dX3_count_150 : decode cX3_count 150 = .ok (.aload_n 0, 1) := dk_42 (dk_at dksX3_count_5 10 rfl rfl)
theorem dX3_count_151 : decode cX3_count 151 = .ok (.getfield 98, 3) := dk_180 0 98 (dk_at dksX3_count_5 11 rfl rfl)
theorem dX3_count_154 : decode cX3_count 154 = .ok (.ireturn, 1) := dk_172 (dk_at dksX3_count_5 14 rfl rfl)
theorem dX3_count_155 : decode cX3_count 155 = .ok (.aload_n 0, 1) := dk_42 (dk_at dksX3_count_5 15 rfl rfl)
theorem dX3_count_156 : decode cX3_count 156 = .ok (.getfield 112, 3) := dk_180 0 112 (dk_at dksX3_count_5 16 rfl rfl)
theorem dX3_count_159 : decode cX3_count 159 = .ok (.ireturn, 1) := dk_172 (dk_at dksX3_count_5 19 rfl rfl)
theorem dX3_count_160 : decode cX3_count 160 = .ok (.aload_n 0, 1) := dk_42 (dk_at dksX3_count_5 20 rfl rfl)
theorem dX3_count_161 : decode cX3_count 161 = .ok (.invokevirtual 354, 3) := dk_182 1 98 (dk_at dksX3_count_5 21 rfl rfl)
theorem dX3_count_164 : decode cX3_count 164 = .ok (.ireturn, 1) := dk_172 (dk_at dksX3_count_6 0 rfl rfl)
theorem dX3_count_165 : decode cX3_count 165 = .ok (.iconst (-1), 1) := dk_2 (dk_at dksX3_count_6 1 rfl rfl)
theorem dX3_count_166 : decode cX3_count 166 = .ok (.ireturn, 1) := dk_172 (dk_at dksX3_count_6 2 rfl rfl)
abbrev cX3_fullOnes : ByteArray := prog_9_method_106_code
def yX3_fullOnes : MethodName := ⟨RX3, "fullOnes", "()I"⟩
def dkwX3_fullOnes_1 : List UInt8 := [46, 160, 0, 9, 4, 28, 120, 167, 0, 4, 3, 128, 60, 132, 2, 1, 167, 255, 220, 27, 172]
abbrev dktX3_fullOnes_1 : List UInt8 := dkwX3_fullOnes_1 ++ []
def dkwX3_fullOnes_0 : List UInt8 := [3, 60, 3, 61, 28, 42, 180, 0, 101, 162, 0, 34, 27, 42, 180, 0, 9, 28, 46, 42, 180, 0, 13, 28]
abbrev dktX3_fullOnes_0 : List UInt8 := dkwX3_fullOnes_0 ++ dktX3_fullOnes_1
theorem dksX3_fullOnes_0 : cX3_fullOnes.data.toList.drop 0 = dktX3_fullOnes_0 := by decide +kernel
theorem dksX3_fullOnes_1 : cX3_fullOnes.data.toList.drop 24 = dktX3_fullOnes_1 := dk_seg dksX3_fullOnes_0 24 rfl rfl
theorem dX3_fullOnes_0 : decode cX3_fullOnes 0 = .ok (.iconst 0, 1) := dk_3 (dk_at dksX3_fullOnes_0 0 rfl rfl)
theorem dX3_fullOnes_1 : decode cX3_fullOnes 1 = .ok (.istore_n 1, 1) := dk_60 (dk_at dksX3_fullOnes_0 1 rfl rfl)
theorem dX3_fullOnes_2 : decode cX3_fullOnes 2 = .ok (.iconst 0, 1) := dk_3 (dk_at dksX3_fullOnes_0 2 rfl rfl)
theorem dX3_fullOnes_3 : decode cX3_fullOnes 3 = .ok (.istore_n 2, 1) := dk_61 (dk_at dksX3_fullOnes_0 3 rfl rfl)
theorem dX3_fullOnes_4 : decode cX3_fullOnes 4 = .ok (.iload_n 2, 1) := dk_28 (dk_at dksX3_fullOnes_0 4 rfl rfl)
theorem dX3_fullOnes_5 : decode cX3_fullOnes 5 = .ok (.aload_n 0, 1) := dk_42 (dk_at dksX3_fullOnes_0 5 rfl rfl)
theorem dX3_fullOnes_6 : decode cX3_fullOnes 6 = .ok (.getfield 101, 3) := dk_180 0 101 (dk_at dksX3_fullOnes_0 6 rfl rfl)
theorem dX3_fullOnes_9 : decode cX3_fullOnes 9 = .ok (.if_icmp .ge 34, 3) := dk_162 0 34 (dk_at dksX3_fullOnes_0 9 rfl rfl)
theorem dX3_fullOnes_12 : decode cX3_fullOnes 12 = .ok (.iload_n 1, 1) := dk_27 (dk_at dksX3_fullOnes_0 12 rfl rfl)
theorem dX3_fullOnes_13 : decode cX3_fullOnes 13 = .ok (.aload_n 0, 1) := dk_42 (dk_at dksX3_fullOnes_0 13 rfl rfl)
theorem dX3_fullOnes_14 : decode cX3_fullOnes 14 = .ok (.getfield 9, 3) := dk_180 0 9 (dk_at dksX3_fullOnes_0 14 rfl rfl)
theorem dX3_fullOnes_17 : decode cX3_fullOnes 17 = .ok (.iload_n 2, 1) := dk_28 (dk_at dksX3_fullOnes_0 17 rfl rfl)
theorem dX3_fullOnes_18 : decode cX3_fullOnes 18 = .ok (.iaload, 1) := dk_46 (dk_at dksX3_fullOnes_0 18 rfl rfl)
theorem dX3_fullOnes_19 : decode cX3_fullOnes 19 = .ok (.aload_n 0, 1) := dk_42 (dk_at dksX3_fullOnes_0 19 rfl rfl)
theorem dX3_fullOnes_20 : decode cX3_fullOnes 20 = .ok (.getfield 13, 3) := dk_180 0 13 (dk_at dksX3_fullOnes_0 20 rfl rfl)
theorem dX3_fullOnes_23 : decode cX3_fullOnes 23 = .ok (.iload_n 2, 1) := dk_28 (dk_at dksX3_fullOnes_0 23 rfl rfl)
theorem dX3_fullOnes_24 : decode cX3_fullOnes 24 = .ok (.iaload, 1) := dk_46 (dk_at dksX3_fullOnes_1 0 rfl rfl)
theorem dX3_fullOnes_25 : decode cX3_fullOnes 25 = .ok (.if_icmp .ne 9, 3) := dk_160 0 9 (dk_at dksX3_fullOnes_1 1 rfl rfl)
theorem dX3_fullOnes_28 : decode cX3_fullOnes 28 = .ok (.iconst 1, 1) := dk_4 (dk_at dksX3_fullOnes_1 4 rfl rfl)
theorem dX3_fullOnes_29 : decode cX3_fullOnes 29 = .ok (.iload_n 2, 1) := dk_28 (dk_at dksX3_fullOnes_1 5 rfl rfl)
theorem dX3_fullOnes_30 : decode cX3_fullOnes 30 = .ok (.ishl, 1) := dk_120 (dk_at dksX3_fullOnes_1 6 rfl rfl)
theorem dX3_fullOnes_31 : decode cX3_fullOnes 31 = .ok (.goto 4, 3) := dk_167 0 4 (dk_at dksX3_fullOnes_1 7 rfl rfl)
theorem dX3_fullOnes_34 : decode cX3_fullOnes 34 = .ok (.iconst 0, 1) := dk_3 (dk_at dksX3_fullOnes_1 10 rfl rfl)
theorem dX3_fullOnes_35 : decode cX3_fullOnes 35 = .ok (.ior, 1) := dk_128 (dk_at dksX3_fullOnes_1 11 rfl rfl)
theorem dX3_fullOnes_36 : decode cX3_fullOnes 36 = .ok (.istore_n 1, 1) := dk_60 (dk_at dksX3_fullOnes_1 12 rfl rfl)
theorem dX3_fullOnes_37 : decode cX3_fullOnes 37 = .ok (.iinc 2 1, 3) := dk_132 2 1 (dk_at dksX3_fullOnes_1 13 rfl rfl)
theorem dX3_fullOnes_40 : decode cX3_fullOnes 40 = .ok (.goto (-36), 3) := dk_167 255 220 (dk_at dksX3_fullOnes_1 16 rfl rfl)
theorem dX3_fullOnes_43 : decode cX3_fullOnes 43 = .ok (.iload_n 1, 1) := dk_27 (dk_at dksX3_fullOnes_1 19 rfl rfl)
theorem dX3_fullOnes_44 : decode cX3_fullOnes 44 = .ok (.ireturn, 1) := dk_172 (dk_at dksX3_fullOnes_1 20 rfl rfl)
abbrev cX3_row : ByteArray := prog_9_method_108_code
def yX3_row : MethodName := ⟨RX3, "row", "(I)J"⟩
def dkwX3_row_1 : List UInt8 := [47, 167, 0, 8, 42, 182, 0, 220, 133, 173]
abbrev dktX3_row_1 : List UInt8 := dkwX3_row_1 ++ []
def dkwX3_row_0 : List UInt8 := [42, 3, 181, 0, 95, 27, 3, 42, 180, 0, 98, 4, 100, 184, 0, 104, 153, 0, 12, 42, 180, 0, 26, 27]
abbrev dktX3_row_0 : List UInt8 := dkwX3_row_0 ++ dktX3_row_1
theorem dksX3_row_0 : cX3_row.data.toList.drop 0 = dktX3_row_0 := by decide +kernel
theorem dksX3_row_1 : cX3_row.data.toList.drop 24 = dktX3_row_1 := dk_seg dksX3_row_0 24 rfl rfl
theorem dX3_row_0 : decode cX3_row 0 = .ok (.aload_n 0, 1) := dk_42 (dk_at dksX3_row_0 0 rfl rfl)
theorem dX3_row_1 : decode cX3_row 1 = .ok (.iconst 0, 1) := dk_3 (dk_at dksX3_row_0 1 rfl rfl)
theorem dX3_row_2 : decode cX3_row 2 = .ok (.putfield 95, 3) := dk_181 0 95 (dk_at dksX3_row_0 2 rfl rfl)
theorem dX3_row_5 : decode cX3_row 5 = .ok (.iload_n 1, 1) := dk_27 (dk_at dksX3_row_0 5 rfl rfl)
theorem dX3_row_6 : decode cX3_row 6 = .ok (.iconst 0, 1) := dk_3 (dk_at dksX3_row_0 6 rfl rfl)
theorem dX3_row_7 : decode cX3_row 7 = .ok (.aload_n 0, 1) := dk_42 (dk_at dksX3_row_0 7 rfl rfl)
theorem dX3_row_8 : decode cX3_row 8 = .ok (.getfield 98, 3) := dk_180 0 98 (dk_at dksX3_row_0 8 rfl rfl)
theorem dX3_row_11 : decode cX3_row 11 = .ok (.iconst 1, 1) := dk_4 (dk_at dksX3_row_0 11 rfl rfl)
theorem dX3_row_12 : decode cX3_row 12 = .ok (.isub, 1) := dk_100 (dk_at dksX3_row_0 12 rfl rfl)
theorem dX3_row_13 : decode cX3_row 13 = .ok (.invokestatic 104, 3) := dk_184 0 104 (dk_at dksX3_row_0 13 rfl rfl)
theorem dX3_row_16 : decode cX3_row 16 = .ok (.ifCond .eq 12, 3) := dk_153 0 12 (dk_at dksX3_row_0 16 rfl rfl)
theorem dX3_row_19 : decode cX3_row 19 = .ok (.aload_n 0, 1) := dk_42 (dk_at dksX3_row_0 19 rfl rfl)
theorem dX3_row_20 : decode cX3_row 20 = .ok (.getfield 26, 3) := dk_180 0 26 (dk_at dksX3_row_0 20 rfl rfl)
theorem dX3_row_23 : decode cX3_row 23 = .ok (.iload_n 1, 1) := dk_27 (dk_at dksX3_row_0 23 rfl rfl)
theorem dX3_row_24 : decode cX3_row 24 = .ok (.laload, 1) := dk_47 (dk_at dksX3_row_1 0 rfl rfl)
theorem dX3_row_25 : decode cX3_row 25 = .ok (.goto 8, 3) := dk_167 0 8 (dk_at dksX3_row_1 1 rfl rfl)
theorem dX3_row_28 : decode cX3_row 28 = .ok (.aload_n 0, 1) := dk_42 (dk_at dksX3_row_1 4 rfl rfl)
theorem dX3_row_29 : decode cX3_row 29 = .ok (.invokevirtual 220, 3) := dk_182 0 220 (dk_at dksX3_row_1 5 rfl rfl)
theorem dX3_row_32 : decode cX3_row 32 = .ok (.i2l, 1) := dk_133 (dk_at dksX3_row_1 8 rfl rfl)
theorem dX3_row_33 : decode cX3_row 33 = .ok (.lreturn, 1) := dk_173 (dk_at dksX3_row_1 9 rfl rfl)
theorem q99 : (Jvm.Cond.initialized "PullThePlugModel") ∈ lw_all := lw_g (lw_at lw_m1 3 rfl) rfl
theorem q1088 : (Jvm.Cond.instantiable "PullThePlugModel" (43 : Nat)) ∈ lw_all := lw_g (lw_at lw_m5 32 rfl) rfl
theorem q1090 : (Jvm.Cond.instanceMethod ({ cls := "PullThePlugModel", name := "<init>", desc := "()V" } : Jvm.MethodName)) ∈ lw_all := lw_g (lw_at lw_m5 34 rfl) rfl
theorem q1091 : (Jvm.Cond.code ({ cls := "PullThePlugModel", name := "<init>", desc := "()V" } : Jvm.MethodName) prog_9_method_1_code (1 : Nat) (Option.none : Option Jvm.ClassFile.FieldType)) ∈ lw_all := lw_g (lw_at lw_m5 35 rfl) rfl
theorem q1092 : (Jvm.Cond.methodLink "PullThePlugModel" (3 : Nat) ({ cls := "java/lang/Object", name := "<init>", desc := "()V" } : Jvm.MethodName)) ∈ lw_all := lw_g (lw_at lw_m5 36 rfl) rfl
theorem q1093 : (Jvm.Cond.fieldLink "PullThePlugModel" (9 : Nat) "PullThePlugModel" "now" "[I") ∈ lw_all := lw_g (lw_at lw_m5 37 rfl) rfl
theorem q1094 : (Jvm.Cond.fieldLink "PullThePlugModel" (101 : Nat) "PullThePlugModel" "lakes" "I") ∈ lw_all := lw_g (lw_at lw_m5 38 rfl) rfl
theorem q1095 : (Jvm.Cond.fieldLink "PullThePlugModel" (13 : Nat) "PullThePlugModel" "brim" "[I") ∈ lw_all := lw_g (lw_at lw_m5 39 rfl) rfl
theorem q1096 : (Jvm.Cond.fieldLink "PullThePlugModel" (16 : Nat) "PullThePlugModel" "leak" "[I") ∈ lw_all := lw_g (lw_at lw_m5 40 rfl) rfl
theorem q1097 : (Jvm.Cond.fieldLink "PullThePlugModel" (19 : Nat) "PullThePlugModel" "down" "[I") ∈ lw_all := lw_g (lw_at lw_m5 41 rfl) rfl
theorem q1098 : (Jvm.Cond.fieldLink "PullThePlugModel" (22 : Nat) "PullThePlugModel" "text" "[B") ∈ lw_all := lw_g (lw_at lw_m5 42 rfl) rfl
theorem q1099 : (Jvm.Cond.fieldLink "PullThePlugModel" (112 : Nat) "PullThePlugModel" "typed" "I") ∈ lw_all := lw_g (lw_at lw_m5 43 rfl) rfl
theorem q1100 : (Jvm.Cond.fieldLink "PullThePlugModel" (26 : Nat) "PullThePlugModel" "row" "[J") ∈ lw_all := lw_g (lw_at lw_m5 44 rfl) rfl
theorem q1101 : (Jvm.Cond.fieldLink "PullThePlugModel" (98 : Nat) "PullThePlugModel" "rowMany" "I") ∈ lw_all := lw_g (lw_at lw_m5 45 rfl) rfl
theorem q1102 : (Jvm.Cond.fieldLink "PullThePlugModel" (95 : Nat) "PullThePlugModel" "thrown" "I") ∈ lw_all := lw_g (lw_at lw_m5 46 rfl) rfl
theorem q1103 : (Jvm.Cond.fieldLink "PullThePlugModel" (115 : Nat) "PullThePlugModel" "read" "[B") ∈ lw_all := lw_g (lw_at lw_m5 47 rfl) rfl
theorem q1104 : (Jvm.Cond.fieldLink "PullThePlugModel" (118 : Nat) "PullThePlugModel" "length" "I") ∈ lw_all := lw_g (lw_at lw_m5 48 rfl) rfl
theorem q1105 : (Jvm.Cond.fieldLink "PullThePlugModel" (121 : Nat) "PullThePlugModel" "top" "I") ∈ lw_all := lw_g (lw_at lw_m5 49 rfl) rfl
theorem q1106 : (Jvm.Cond.fieldLink "PullThePlugModel" (124 : Nat) "PullThePlugModel" "at" "I") ∈ lw_all := lw_g (lw_at lw_m5 50 rfl) rfl
theorem q1107 : (Jvm.Cond.fieldLink "PullThePlugModel" (127 : Nat) "PullThePlugModel" "wrong" "I") ∈ lw_all := lw_g (lw_at lw_m5 51 rfl) rfl
theorem q1108 : (Jvm.Cond.fieldLink "PullThePlugModel" (30 : Nat) "PullThePlugModel" "comes" "[I") ∈ lw_all := lw_g (lw_at lw_m5 52 rfl) rfl
theorem q1109 : (Jvm.Cond.fieldLink "PullThePlugModel" (33 : Nat) "PullThePlugModel" "rule" "[B") ∈ lw_all := lw_g (lw_at lw_m5 53 rfl) rfl
theorem q1110 : (Jvm.Cond.fieldLink "PullThePlugModel" (36 : Nat) "PullThePlugModel" "otherRule" "[B") ∈ lw_all := lw_g (lw_at lw_m5 54 rfl) rfl
theorem q1111 : (Jvm.Cond.fieldLink "PullThePlugModel" (199 : Nat) "PullThePlugModel" "ruleSize" "I") ∈ lw_all := lw_g (lw_at lw_m5 55 rfl) rfl
theorem q1112 : (Jvm.Cond.fieldLink "PullThePlugModel" (192 : Nat) "PullThePlugModel" "isAsked" "Z") ∈ lw_all := lw_g (lw_at lw_m5 56 rfl) rfl
theorem q1113 : (Jvm.Cond.fieldLink "PullThePlugModel" (39 : Nat) "PullThePlugModel" "asked" "[I") ∈ lw_all := lw_g (lw_at lw_m5 57 rfl) rfl
theorem q1114 : (Jvm.Cond.fieldLink "PullThePlugModel" (42 : Nat) "PullThePlugModel" "undos" "[I") ∈ lw_all := lw_g (lw_at lw_m5 58 rfl) rfl
theorem q1115 : (Jvm.Cond.fieldLink "PullThePlugModel" (163 : Nat) "PullThePlugModel" "undoMany" "I") ∈ lw_all := lw_g (lw_at lw_m5 59 rfl) rfl
theorem q1116 : (Jvm.Cond.fieldLink "PullThePlugModel" (45 : Nat) "PullThePlugModel" "aside" "[I") ∈ lw_all := lw_g (lw_at lw_m5 60 rfl) rfl
theorem q1117 : (Jvm.Cond.fieldLink "PullThePlugModel" (48 : Nat) "PullThePlugModel" "then" "[I") ∈ lw_all := lw_g (lw_at lw_m5 61 rfl) rfl
theorem q1118 : (Jvm.Cond.fieldLink "PullThePlugModel" (51 : Nat) "PullThePlugModel" "run" "[I") ∈ lw_all := lw_g (lw_at lw_m5 62 rfl) rfl
theorem q1119 : (Jvm.Cond.fieldLink "PullThePlugModel" (54 : Nat) "PullThePlugModel" "gets" "[I") ∈ lw_all := lw_g (lw_at lw_m5 63 rfl) rfl
theorem q1120 : (Jvm.Cond.fieldLink "PullThePlugModel" (57 : Nat) "PullThePlugModel" "leakOf" "I") ∈ lw_all := lw_g (lw_at lw_m5 64 rfl) rfl
theorem q1121 : (Jvm.Cond.fieldLink "PullThePlugModel" (234 : Nat) "PullThePlugModel" "leakMore" "I") ∈ lw_all := lw_g (lw_at lw_m5 65 rfl) rfl
theorem q1122 : (Jvm.Cond.fieldLink "PullThePlugModel" (61 : Nat) "PullThePlugModel" "acts" "[I") ∈ lw_all := lw_g (lw_at lw_m5 66 rfl) rfl
theorem q1123 : (Jvm.Cond.fieldLink "PullThePlugModel" (64 : Nat) "PullThePlugModel" "ringOf" "[I") ∈ lw_all := lw_g (lw_at lw_m5 67 rfl) rfl
theorem q1124 : (Jvm.Cond.fieldLink "PullThePlugModel" (67 : Nat) "PullThePlugModel" "ringOn" "[I") ∈ lw_all := lw_g (lw_at lw_m5 68 rfl) rfl
theorem q1125 : (Jvm.Cond.fieldLink "PullThePlugModel" (70 : Nat) "PullThePlugModel" "ringBy" "[I") ∈ lw_all := lw_g (lw_at lw_m5 69 rfl) rfl
theorem q1126 : (Jvm.Cond.fieldLink "PullThePlugModel" (308 : Nat) "PullThePlugModel" "ringMany" "I") ∈ lw_all := lw_g (lw_at lw_m5 70 rfl) rfl
theorem q1127 : (Jvm.Cond.fieldLink "PullThePlugModel" (73 : Nat) "PullThePlugModel" "many" "[I") ∈ lw_all := lw_g (lw_at lw_m5 71 rfl) rfl
theorem q1128 : (Jvm.Cond.fieldLink "PullThePlugModel" (76 : Nat) "PullThePlugModel" "heired" "[I") ∈ lw_all := lw_g (lw_at lw_m5 72 rfl) rfl
theorem q1129 : (Jvm.Cond.fieldLink "PullThePlugModel" (79 : Nat) "PullThePlugModel" "parts" "[J") ∈ lw_all := lw_g (lw_at lw_m5 73 rfl) rfl
theorem q1130 : (Jvm.Cond.fieldLink "PullThePlugModel" (82 : Nat) "PullThePlugModel" "nextParts" "[J") ∈ lw_all := lw_g (lw_at lw_m5 74 rfl) rfl
theorem q1131 : (Jvm.Cond.fieldLink "PullThePlugModel" (347 : Nat) "PullThePlugModel" "drawn" "I") ∈ lw_all := lw_g (lw_at lw_m5 75 rfl) rfl
theorem q1132 : (Jvm.Cond.fieldLink "PullThePlugModel" (166 : Nat) "PullThePlugModel" "came" "I") ∈ lw_all := lw_g (lw_at lw_m5 76 rfl) rfl
theorem q1133 : (Jvm.Cond.fieldLink "PullThePlugModel" (85 : Nat) "PullThePlugModel" "kept" "[I") ∈ lw_all := lw_g (lw_at lw_m5 77 rfl) rfl
theorem q1134 : (Jvm.Cond.fieldLink "PullThePlugModel" (88 : Nat) "PullThePlugModel" "isKept" "[Z") ∈ lw_all := lw_g (lw_at lw_m5 78 rfl) rfl
theorem q1135 : (Jvm.Cond.fieldLink "PullThePlugModel" (92 : Nat) "PullThePlugModel" "keptCame" "[I") ∈ lw_all := lw_g (lw_at lw_m5 79 rfl) rfl
theorem q1136 : (Jvm.Cond.laysFinal "PullThePlugModel" "PullThePlugModel" "now" "[I") ∈ lw_all := lw_g (lw_at lw_m5 80 rfl) rfl
theorem q1137 : (Jvm.Cond.soleField "PullThePlugModel" "now") ∈ lw_all := lw_g (lw_at lw_m5 81 rfl) rfl
theorem q1138 : (Jvm.Cond.lays "PullThePlugModel" "PullThePlugModel" "lakes" "I") ∈ lw_all := lw_g (lw_at lw_m5 82 rfl) rfl
theorem q1139 : (Jvm.Cond.soleField "PullThePlugModel" "lakes") ∈ lw_all := lw_g (lw_at lw_m5 83 rfl) rfl
theorem q1140 : (Jvm.Cond.laysFinal "PullThePlugModel" "PullThePlugModel" "brim" "[I") ∈ lw_all := lw_g (lw_at lw_m5 84 rfl) rfl
theorem q1141 : (Jvm.Cond.soleField "PullThePlugModel" "brim") ∈ lw_all := lw_g (lw_at lw_m5 85 rfl) rfl
theorem q1142 : (Jvm.Cond.laysFinal "PullThePlugModel" "PullThePlugModel" "leak" "[I") ∈ lw_all := lw_g (lw_at lw_m5 86 rfl) rfl
theorem q1143 : (Jvm.Cond.soleField "PullThePlugModel" "leak") ∈ lw_all := lw_g (lw_at lw_m5 87 rfl) rfl
theorem q1144 : (Jvm.Cond.laysFinal "PullThePlugModel" "PullThePlugModel" "down" "[I") ∈ lw_all := lw_g (lw_at lw_m5 88 rfl) rfl
theorem q1145 : (Jvm.Cond.soleField "PullThePlugModel" "down") ∈ lw_all := lw_g (lw_at lw_m5 89 rfl) rfl
theorem q1146 : (Jvm.Cond.laysFinal "PullThePlugModel" "PullThePlugModel" "text" "[B") ∈ lw_all := lw_g (lw_at lw_m5 90 rfl) rfl
theorem q1147 : (Jvm.Cond.soleField "PullThePlugModel" "text") ∈ lw_all := lw_g (lw_at lw_m5 91 rfl) rfl
theorem q1148 : (Jvm.Cond.lays "PullThePlugModel" "PullThePlugModel" "typed" "I") ∈ lw_all := lw_g (lw_at lw_m5 92 rfl) rfl
theorem q1149 : (Jvm.Cond.soleField "PullThePlugModel" "typed") ∈ lw_all := lw_g (lw_at lw_m5 93 rfl) rfl
theorem q1150 : (Jvm.Cond.laysFinal "PullThePlugModel" "PullThePlugModel" "row" "[J") ∈ lw_all := lw_g (lw_at lw_m5 94 rfl) rfl
theorem q1151 : (Jvm.Cond.soleField "PullThePlugModel" "row") ∈ lw_all := lw_g (lw_at lw_m5 95 rfl) rfl
theorem q1152 : (Jvm.Cond.lays "PullThePlugModel" "PullThePlugModel" "rowMany" "I") ∈ lw_all := lw_g (lw_at lw_m5 96 rfl) rfl
theorem q1153 : (Jvm.Cond.soleField "PullThePlugModel" "rowMany") ∈ lw_all := lw_g (lw_at lw_m5 97 rfl) rfl
theorem q1154 : (Jvm.Cond.lays "PullThePlugModel" "PullThePlugModel" "thrown" "I") ∈ lw_all := lw_g (lw_at lw_m5 98 rfl) rfl
theorem q1155 : (Jvm.Cond.soleField "PullThePlugModel" "thrown") ∈ lw_all := lw_g (lw_at lw_m5 99 rfl) rfl
theorem q1156 : (Jvm.Cond.lays "PullThePlugModel" "PullThePlugModel" "read" "[B") ∈ lw_all := lw_g (lw_at lw_m5 100 rfl) rfl
theorem q1157 : (Jvm.Cond.soleField "PullThePlugModel" "read") ∈ lw_all := lw_g (lw_at lw_m5 101 rfl) rfl
theorem q1158 : (Jvm.Cond.lays "PullThePlugModel" "PullThePlugModel" "length" "I") ∈ lw_all := lw_g (lw_at lw_m5 102 rfl) rfl
theorem q1159 : (Jvm.Cond.soleField "PullThePlugModel" "length") ∈ lw_all := lw_g (lw_at lw_m5 103 rfl) rfl
theorem q1160 : (Jvm.Cond.lays "PullThePlugModel" "PullThePlugModel" "top" "I") ∈ lw_all := lw_g (lw_at lw_m5 104 rfl) rfl
theorem q1161 : (Jvm.Cond.soleField "PullThePlugModel" "top") ∈ lw_all := lw_g (lw_at lw_m5 105 rfl) rfl
theorem q1162 : (Jvm.Cond.lays "PullThePlugModel" "PullThePlugModel" "at" "I") ∈ lw_all := lw_g (lw_at lw_m5 106 rfl) rfl
theorem q1163 : (Jvm.Cond.soleField "PullThePlugModel" "at") ∈ lw_all := lw_g (lw_at lw_m5 107 rfl) rfl
theorem q1164 : (Jvm.Cond.lays "PullThePlugModel" "PullThePlugModel" "wrong" "I") ∈ lw_all := lw_g (lw_at lw_m5 108 rfl) rfl
theorem q1165 : (Jvm.Cond.soleField "PullThePlugModel" "wrong") ∈ lw_all := lw_g (lw_at lw_m5 109 rfl) rfl
theorem q1166 : (Jvm.Cond.laysFinal "PullThePlugModel" "PullThePlugModel" "comes" "[I") ∈ lw_all := lw_g (lw_at lw_m5 110 rfl) rfl
theorem q1167 : (Jvm.Cond.soleField "PullThePlugModel" "comes") ∈ lw_all := lw_g (lw_at lw_m5 111 rfl) rfl
theorem q1168 : (Jvm.Cond.lays "PullThePlugModel" "PullThePlugModel" "rule" "[B") ∈ lw_all := lw_g (lw_at lw_m5 112 rfl) rfl
theorem q1169 : (Jvm.Cond.soleField "PullThePlugModel" "rule") ∈ lw_all := lw_g (lw_at lw_m5 113 rfl) rfl
theorem q1170 : (Jvm.Cond.lays "PullThePlugModel" "PullThePlugModel" "otherRule" "[B") ∈ lw_all := lw_g (lw_at lw_m5 114 rfl) rfl
theorem q1171 : (Jvm.Cond.soleField "PullThePlugModel" "otherRule") ∈ lw_all := lw_g (lw_at lw_m5 115 rfl) rfl
theorem q1172 : (Jvm.Cond.lays "PullThePlugModel" "PullThePlugModel" "ruleSize" "I") ∈ lw_all := lw_g (lw_at lw_m5 116 rfl) rfl
theorem q1173 : (Jvm.Cond.soleField "PullThePlugModel" "ruleSize") ∈ lw_all := lw_g (lw_at lw_m5 117 rfl) rfl
theorem q1174 : (Jvm.Cond.lays "PullThePlugModel" "PullThePlugModel" "isAsked" "Z") ∈ lw_all := lw_g (lw_at lw_m5 118 rfl) rfl
theorem q1175 : (Jvm.Cond.soleField "PullThePlugModel" "isAsked") ∈ lw_all := lw_g (lw_at lw_m5 119 rfl) rfl
theorem q1176 : (Jvm.Cond.laysFinal "PullThePlugModel" "PullThePlugModel" "asked" "[I") ∈ lw_all := lw_g (lw_at lw_m5 120 rfl) rfl
theorem q1177 : (Jvm.Cond.soleField "PullThePlugModel" "asked") ∈ lw_all := lw_g (lw_at lw_m5 121 rfl) rfl
theorem q1178 : (Jvm.Cond.laysFinal "PullThePlugModel" "PullThePlugModel" "undos" "[I") ∈ lw_all := lw_g (lw_at lw_m5 122 rfl) rfl
theorem q1179 : (Jvm.Cond.soleField "PullThePlugModel" "undos") ∈ lw_all := lw_g (lw_at lw_m5 123 rfl) rfl
theorem q1180 : (Jvm.Cond.lays "PullThePlugModel" "PullThePlugModel" "undoMany" "I") ∈ lw_all := lw_g (lw_at lw_m5 124 rfl) rfl
theorem q1181 : (Jvm.Cond.soleField "PullThePlugModel" "undoMany") ∈ lw_all := lw_g (lw_at lw_m5 125 rfl) rfl
theorem q1182 : (Jvm.Cond.laysFinal "PullThePlugModel" "PullThePlugModel" "aside" "[I") ∈ lw_all := lw_g (lw_at lw_m5 126 rfl) rfl
theorem q1183 : (Jvm.Cond.soleField "PullThePlugModel" "aside") ∈ lw_all := lw_g (lw_at lw_m5 127 rfl) rfl
theorem q1184 : (Jvm.Cond.laysFinal "PullThePlugModel" "PullThePlugModel" "then" "[I") ∈ lw_all := lw_g (lw_at lw_m5 128 rfl) rfl
theorem q1185 : (Jvm.Cond.soleField "PullThePlugModel" "then") ∈ lw_all := lw_g (lw_at lw_m5 129 rfl) rfl
theorem q1186 : (Jvm.Cond.laysFinal "PullThePlugModel" "PullThePlugModel" "run" "[I") ∈ lw_all := lw_g (lw_at lw_m5 130 rfl) rfl
theorem q1187 : (Jvm.Cond.soleField "PullThePlugModel" "run") ∈ lw_all := lw_g (lw_at lw_m5 131 rfl) rfl
theorem q1188 : (Jvm.Cond.laysFinal "PullThePlugModel" "PullThePlugModel" "gets" "[I") ∈ lw_all := lw_g (lw_at lw_m5 132 rfl) rfl
theorem q1189 : (Jvm.Cond.soleField "PullThePlugModel" "gets") ∈ lw_all := lw_g (lw_at lw_m5 133 rfl) rfl
theorem q1190 : (Jvm.Cond.lays "PullThePlugModel" "PullThePlugModel" "leakOf" "I") ∈ lw_all := lw_g (lw_at lw_m5 134 rfl) rfl
theorem q1191 : (Jvm.Cond.soleField "PullThePlugModel" "leakOf") ∈ lw_all := lw_g (lw_at lw_m5 135 rfl) rfl
theorem q1192 : (Jvm.Cond.lays "PullThePlugModel" "PullThePlugModel" "leakMore" "I") ∈ lw_all := lw_g (lw_at lw_m5 136 rfl) rfl
theorem q1193 : (Jvm.Cond.soleField "PullThePlugModel" "leakMore") ∈ lw_all := lw_g (lw_at lw_m5 137 rfl) rfl
theorem q1194 : (Jvm.Cond.laysFinal "PullThePlugModel" "PullThePlugModel" "acts" "[I") ∈ lw_all := lw_g (lw_at lw_m5 138 rfl) rfl
theorem q1195 : (Jvm.Cond.soleField "PullThePlugModel" "acts") ∈ lw_all := lw_g (lw_at lw_m5 139 rfl) rfl
theorem q1196 : (Jvm.Cond.laysFinal "PullThePlugModel" "PullThePlugModel" "ringOf" "[I") ∈ lw_all := lw_g (lw_at lw_m5 140 rfl) rfl
theorem q1197 : (Jvm.Cond.soleField "PullThePlugModel" "ringOf") ∈ lw_all := lw_g (lw_at lw_m5 141 rfl) rfl
theorem q1198 : (Jvm.Cond.laysFinal "PullThePlugModel" "PullThePlugModel" "ringOn" "[I") ∈ lw_all := lw_g (lw_at lw_m5 142 rfl) rfl
theorem q1199 : (Jvm.Cond.soleField "PullThePlugModel" "ringOn") ∈ lw_all := lw_g (lw_at lw_m5 143 rfl) rfl
theorem q1200 : (Jvm.Cond.laysFinal "PullThePlugModel" "PullThePlugModel" "ringBy" "[I") ∈ lw_all := lw_g (lw_at lw_m5 144 rfl) rfl
theorem q1201 : (Jvm.Cond.soleField "PullThePlugModel" "ringBy") ∈ lw_all := lw_g (lw_at lw_m5 145 rfl) rfl
theorem q1202 : (Jvm.Cond.lays "PullThePlugModel" "PullThePlugModel" "ringMany" "I") ∈ lw_all := lw_g (lw_at lw_m5 146 rfl) rfl
theorem q1203 : (Jvm.Cond.soleField "PullThePlugModel" "ringMany") ∈ lw_all := lw_g (lw_at lw_m5 147 rfl) rfl
theorem q1204 : (Jvm.Cond.laysFinal "PullThePlugModel" "PullThePlugModel" "many" "[I") ∈ lw_all := lw_g (lw_at lw_m5 148 rfl) rfl
theorem q1205 : (Jvm.Cond.soleField "PullThePlugModel" "many") ∈ lw_all := lw_g (lw_at lw_m5 149 rfl) rfl
theorem q1206 : (Jvm.Cond.laysFinal "PullThePlugModel" "PullThePlugModel" "heired" "[I") ∈ lw_all := lw_g (lw_at lw_m5 150 rfl) rfl
theorem q1207 : (Jvm.Cond.soleField "PullThePlugModel" "heired") ∈ lw_all := lw_g (lw_at lw_m5 151 rfl) rfl
theorem q1208 : (Jvm.Cond.laysFinal "PullThePlugModel" "PullThePlugModel" "parts" "[J") ∈ lw_all := lw_g (lw_at lw_m5 152 rfl) rfl
theorem q1209 : (Jvm.Cond.soleField "PullThePlugModel" "parts") ∈ lw_all := lw_g (lw_at lw_m5 153 rfl) rfl
theorem q1210 : (Jvm.Cond.laysFinal "PullThePlugModel" "PullThePlugModel" "nextParts" "[J") ∈ lw_all := lw_g (lw_at lw_m5 154 rfl) rfl
theorem q1211 : (Jvm.Cond.soleField "PullThePlugModel" "nextParts") ∈ lw_all := lw_g (lw_at lw_m5 155 rfl) rfl
theorem q1212 : (Jvm.Cond.lays "PullThePlugModel" "PullThePlugModel" "drawn" "I") ∈ lw_all := lw_g (lw_at lw_m5 156 rfl) rfl
theorem q1213 : (Jvm.Cond.soleField "PullThePlugModel" "drawn") ∈ lw_all := lw_g (lw_at lw_m5 157 rfl) rfl
theorem q1214 : (Jvm.Cond.lays "PullThePlugModel" "PullThePlugModel" "came" "I") ∈ lw_all := lw_g (lw_at lw_m5 158 rfl) rfl
theorem q1215 : (Jvm.Cond.soleField "PullThePlugModel" "came") ∈ lw_all := lw_g (lw_at lw_m5 159 rfl) rfl
theorem q1216 : (Jvm.Cond.laysFinal "PullThePlugModel" "PullThePlugModel" "kept" "[I") ∈ lw_all := lw_g (lw_at lw_m5 160 rfl) rfl
theorem q1217 : (Jvm.Cond.soleField "PullThePlugModel" "kept") ∈ lw_all := lw_g (lw_at lw_m5 161 rfl) rfl
theorem q1218 : (Jvm.Cond.laysFinal "PullThePlugModel" "PullThePlugModel" "isKept" "[Z") ∈ lw_all := lw_g (lw_at lw_m5 162 rfl) rfl
theorem q1219 : (Jvm.Cond.soleField "PullThePlugModel" "isKept") ∈ lw_all := lw_g (lw_at lw_m5 163 rfl) rfl
theorem q1220 : (Jvm.Cond.laysFinal "PullThePlugModel" "PullThePlugModel" "keptCame" "[I") ∈ lw_all := lw_g (lw_at lw_m5 164 rfl) rfl
theorem q1221 : (Jvm.Cond.soleField "PullThePlugModel" "keptCame") ∈ lw_all := lw_g (lw_at lw_m5 165 rfl) rfl
theorem q1222 : (Jvm.Cond.superclass "PullThePlugModel" "java/lang/Object") ∈ lw_all := lw_g (lw_at lw_m5 166 rfl) rfl
theorem q1224 : (Jvm.Cond.instanceMethod ({ cls := "PullThePlugModel", name := "thrown", desc := "()I" } : Jvm.MethodName)) ∈ lw_all := lw_g (lw_at lw_m5 168 rfl) rfl
theorem q1225 : (Jvm.Cond.selects "PullThePlugModel" ({ cls := "PullThePlugModel", name := "thrown", desc := "()I" } : Jvm.MethodName) ({ cls := "PullThePlugModel", name := "thrown", desc := "()I" } : Jvm.MethodName)) ∈ lw_all := lw_g (lw_at lw_m5 169 rfl) rfl
theorem q1226 : (Jvm.Cond.code ({ cls := "PullThePlugModel", name := "thrown", desc := "()I" } : Jvm.MethodName) prog_9_method_2_code (1 : Nat) (Option.some Jvm.ClassFile.FieldType.int)) ∈ lw_all := lw_g (lw_at lw_m5 170 rfl) rfl
theorem q1228 : (Jvm.Cond.instanceMethod ({ cls := "PullThePlugModel", name := "sign", desc := "(I)I" } : Jvm.MethodName)) ∈ lw_all := lw_g (lw_at lw_m5 172 rfl) rfl
theorem q1229 : (Jvm.Cond.selects "PullThePlugModel" ({ cls := "PullThePlugModel", name := "sign", desc := "(I)I" } : Jvm.MethodName) ({ cls := "PullThePlugModel", name := "sign", desc := "(I)I" } : Jvm.MethodName)) ∈ lw_all := lw_g (lw_at lw_m5 173 rfl) rfl
theorem q1230 : (Jvm.Cond.code ({ cls := "PullThePlugModel", name := "sign", desc := "(I)I" } : Jvm.MethodName) prog_9_method_11_code (3 : Nat) (Option.some Jvm.ClassFile.FieldType.int)) ∈ lw_all := lw_g (lw_at lw_m5 174 rfl) rfl
theorem q1232 : (Jvm.Cond.instanceMethod ({ cls := "PullThePlugModel", name := "end", desc := "(I)Z" } : Jvm.MethodName)) ∈ lw_all := lw_g (lw_at lw_m5 176 rfl) rfl
theorem q1233 : (Jvm.Cond.selects "PullThePlugModel" ({ cls := "PullThePlugModel", name := "end", desc := "(I)Z" } : Jvm.MethodName) ({ cls := "PullThePlugModel", name := "end", desc := "(I)Z" } : Jvm.MethodName)) ∈ lw_all := lw_g (lw_at lw_m5 177 rfl) rfl
theorem q1234 : (Jvm.Cond.code ({ cls := "PullThePlugModel", name := "end", desc := "(I)Z" } : Jvm.MethodName) prog_9_method_12_code (2 : Nat) (Option.some Jvm.ClassFile.FieldType.boolean)) ∈ lw_all := lw_g (lw_at lw_m5 178 rfl) rfl
theorem q1235 : (Jvm.Cond.methodLink "PullThePlugModel" (104 : Nat) ({ cls := "PullThePlugModel", name := "in", desc := "(III)Z" } : Jvm.MethodName)) ∈ lw_all := lw_g (lw_at lw_m5 179 rfl) rfl
theorem q1236 : (Jvm.Cond.static ({ cls := "PullThePlugModel", name := "in", desc := "(III)Z" } : Jvm.MethodName)) ∈ lw_all := lw_g (lw_at lw_m5 180 rfl) rfl
theorem q1237 : (Jvm.Cond.code ({ cls := "PullThePlugModel", name := "in", desc := "(III)Z" } : Jvm.MethodName) prog_9_method_3_code (3 : Nat) (Option.some Jvm.ClassFile.FieldType.boolean)) ∈ lw_all := lw_g (lw_at lw_m5 181 rfl) rfl
theorem q1239 : (Jvm.Cond.instanceMethod ({ cls := "PullThePlugModel", name := "lakes", desc := "()I" } : Jvm.MethodName)) ∈ lw_all := lw_g (lw_at lw_m5 183 rfl) rfl
theorem q1240 : (Jvm.Cond.selects "PullThePlugModel" ({ cls := "PullThePlugModel", name := "lakes", desc := "()I" } : Jvm.MethodName) ({ cls := "PullThePlugModel", name := "lakes", desc := "()I" } : Jvm.MethodName)) ∈ lw_all := lw_g (lw_at lw_m5 184 rfl) rfl
theorem q1241 : (Jvm.Cond.code ({ cls := "PullThePlugModel", name := "lakes", desc := "()I" } : Jvm.MethodName) prog_9_method_24_code (4 : Nat) (Option.some Jvm.ClassFile.FieldType.int)) ∈ lw_all := lw_g (lw_at lw_m5 185 rfl) rfl
theorem q1242 : (Jvm.Cond.methodLink "PullThePlugModel" (154 : Nat) ({ cls := "PullThePlugModel", name := "beginText", desc := "(I)V" } : Jvm.MethodName)) ∈ lw_all := lw_g (lw_at lw_m5 186 rfl) rfl
theorem q1243 : (Jvm.Cond.privateMethod ({ cls := "PullThePlugModel", name := "beginText", desc := "(I)V" } : Jvm.MethodName)) ∈ lw_tbl := lw_at lw_m5 187 rfl
theorem q1244 : (Jvm.Cond.instanceMethod ({ cls := "PullThePlugModel", name := "beginText", desc := "(I)V" } : Jvm.MethodName)) ∈ lw_all := lw_g (lw_at lw_m5 188 rfl) rfl
theorem q1245 : (Jvm.Cond.code ({ cls := "PullThePlugModel", name := "beginText", desc := "(I)V" } : Jvm.MethodName) prog_9_method_14_code (2 : Nat) (Option.none : Option Jvm.ClassFile.FieldType)) ∈ lw_all := lw_g (lw_at lw_m5 189 rfl) rfl
theorem q1246 : (Jvm.Cond.methodLink "PullThePlugModel" (130 : Nat) ({ cls := "PullThePlugModel", name := "begin", desc := "([BII)V" } : Jvm.MethodName)) ∈ lw_all := lw_g (lw_at lw_m5 190 rfl) rfl
theorem q1247 : (Jvm.Cond.privateMethod ({ cls := "PullThePlugModel", name := "begin", desc := "([BII)V" } : Jvm.MethodName)) ∈ lw_tbl := lw_at lw_m5 191 rfl
theorem q1248 : (Jvm.Cond.instanceMethod ({ cls := "PullThePlugModel", name := "begin", desc := "([BII)V" } : Jvm.MethodName)) ∈ lw_all := lw_g (lw_at lw_m5 192 rfl) rfl
theorem q1249 : (Jvm.Cond.code ({ cls := "PullThePlugModel", name := "begin", desc := "([BII)V" } : Jvm.MethodName) prog_9_method_13_code (4 : Nat) (Option.none : Option Jvm.ClassFile.FieldType)) ∈ lw_all := lw_g (lw_at lw_m5 193 rfl) rfl
theorem q1250 : (Jvm.Cond.methodLink "PullThePlugModel" (134 : Nat) ({ cls := "PullThePlugModel", name := "fine", desc := "()Z" } : Jvm.MethodName)) ∈ lw_all := lw_g (lw_at lw_m5 194 rfl) rfl
theorem q1251 : (Jvm.Cond.privateMethod ({ cls := "PullThePlugModel", name := "fine", desc := "()Z" } : Jvm.MethodName)) ∈ lw_tbl := lw_at lw_m5 195 rfl
theorem q1252 : (Jvm.Cond.instanceMethod ({ cls := "PullThePlugModel", name := "fine", desc := "()Z" } : Jvm.MethodName)) ∈ lw_all := lw_g (lw_at lw_m5 196 rfl) rfl
theorem q1253 : (Jvm.Cond.code ({ cls := "PullThePlugModel", name := "fine", desc := "()Z" } : Jvm.MethodName) prog_9_method_16_code (1 : Nat) (Option.some Jvm.ClassFile.FieldType.boolean)) ∈ lw_all := lw_g (lw_at lw_m5 197 rfl) rfl
theorem q1254 : (Jvm.Cond.methodLink "PullThePlugModel" (146 : Nat) ({ cls := "PullThePlugModel", name := "fault", desc := "(I)V" } : Jvm.MethodName)) ∈ lw_all := lw_g (lw_at lw_m5 198 rfl) rfl
theorem q1255 : (Jvm.Cond.privateMethod ({ cls := "PullThePlugModel", name := "fault", desc := "(I)V" } : Jvm.MethodName)) ∈ lw_tbl := lw_at lw_m5 199 rfl
theorem q1256 : (Jvm.Cond.instanceMethod ({ cls := "PullThePlugModel", name := "fault", desc := "(I)V" } : Jvm.MethodName)) ∈ lw_all := lw_g (lw_at lw_m5 200 rfl) rfl
theorem q1257 : (Jvm.Cond.code ({ cls := "PullThePlugModel", name := "fault", desc := "(I)V" } : Jvm.MethodName) prog_9_method_17_code (2 : Nat) (Option.none : Option Jvm.ClassFile.FieldType)) ∈ lw_all := lw_g (lw_at lw_m5 201 rfl) rfl
theorem q1258 : (Jvm.Cond.methodLink "PullThePlugModel" (157 : Nat) ({ cls := "PullThePlugModel", name := "readLake", desc := "(I)V" } : Jvm.MethodName)) ∈ lw_all := lw_g (lw_at lw_m5 202 rfl) rfl
theorem q1259 : (Jvm.Cond.privateMethod ({ cls := "PullThePlugModel", name := "readLake", desc := "(I)V" } : Jvm.MethodName)) ∈ lw_tbl := lw_at lw_m5 203 rfl
theorem q1260 : (Jvm.Cond.instanceMethod ({ cls := "PullThePlugModel", name := "readLake", desc := "(I)V" } : Jvm.MethodName)) ∈ lw_all := lw_g (lw_at lw_m5 204 rfl) rfl
theorem q1261 : (Jvm.Cond.code ({ cls := "PullThePlugModel", name := "readLake", desc := "(I)V" } : Jvm.MethodName) prog_9_method_23_code (4 : Nat) (Option.none : Option Jvm.ClassFile.FieldType)) ∈ lw_all := lw_g (lw_at lw_m5 205 rfl) rfl
theorem q1262 : (Jvm.Cond.methodLink "PullThePlugModel" (150 : Nat) ({ cls := "PullThePlugModel", name := "oneOf", desc := "(CI)I" } : Jvm.MethodName)) ∈ lw_all := lw_g (lw_at lw_m5 206 rfl) rfl
theorem q1263 : (Jvm.Cond.privateMethod ({ cls := "PullThePlugModel", name := "oneOf", desc := "(CI)I" } : Jvm.MethodName)) ∈ lw_tbl := lw_at lw_m5 207 rfl
theorem q1264 : (Jvm.Cond.instanceMethod ({ cls := "PullThePlugModel", name := "oneOf", desc := "(CI)I" } : Jvm.MethodName)) ∈ lw_all := lw_g (lw_at lw_m5 208 rfl) rfl
theorem q1265 : (Jvm.Cond.code ({ cls := "PullThePlugModel", name := "oneOf", desc := "(CI)I" } : Jvm.MethodName) prog_9_method_20_code (3 : Nat) (Option.some Jvm.ClassFile.FieldType.int)) ∈ lw_all := lw_g (lw_at lw_m5 209 rfl) rfl
theorem q1266 : (Jvm.Cond.methodLink "PullThePlugModel" (138 : Nat) ({ cls := "PullThePlugModel", name := "here", desc := "()I" } : Jvm.MethodName)) ∈ lw_all := lw_g (lw_at lw_m5 210 rfl) rfl
theorem q1267 : (Jvm.Cond.privateMethod ({ cls := "PullThePlugModel", name := "here", desc := "()I" } : Jvm.MethodName)) ∈ lw_tbl := lw_at lw_m5 211 rfl
theorem q1268 : (Jvm.Cond.instanceMethod ({ cls := "PullThePlugModel", name := "here", desc := "()I" } : Jvm.MethodName)) ∈ lw_all := lw_g (lw_at lw_m5 212 rfl) rfl
theorem q1269 : (Jvm.Cond.code ({ cls := "PullThePlugModel", name := "here", desc := "()I" } : Jvm.MethodName) prog_9_method_15_code (1 : Nat) (Option.some Jvm.ClassFile.FieldType.int)) ∈ lw_all := lw_g (lw_at lw_m5 213 rfl) rfl
theorem q1270 : (Jvm.Cond.methodLink "PullThePlugModel" (142 : Nat) ({ cls := "PullThePlugModel", name := "passes", desc := "(C)Z" } : Jvm.MethodName)) ∈ lw_all := lw_g (lw_at lw_m5 214 rfl) rfl
theorem q1271 : (Jvm.Cond.privateMethod ({ cls := "PullThePlugModel", name := "passes", desc := "(C)Z" } : Jvm.MethodName)) ∈ lw_tbl := lw_at lw_m5 215 rfl
theorem q1272 : (Jvm.Cond.instanceMethod ({ cls := "PullThePlugModel", name := "passes", desc := "(C)Z" } : Jvm.MethodName)) ∈ lw_all := lw_g (lw_at lw_m5 216 rfl) rfl
theorem q1273 : (Jvm.Cond.code ({ cls := "PullThePlugModel", name := "passes", desc := "(C)Z" } : Jvm.MethodName) prog_9_method_18_code (2 : Nat) (Option.some Jvm.ClassFile.FieldType.boolean)) ∈ lw_all := lw_g (lw_at lw_m5 217 rfl) rfl
theorem q1274 : (Jvm.Cond.methodLink "PullThePlugModel" (160 : Nat) ({ cls := "PullThePlugModel", name := "wasRight", desc := "()Z" } : Jvm.MethodName)) ∈ lw_all := lw_g (lw_at lw_m5 218 rfl) rfl
theorem q1275 : (Jvm.Cond.privateMethod ({ cls := "PullThePlugModel", name := "wasRight", desc := "()Z" } : Jvm.MethodName)) ∈ lw_tbl := lw_at lw_m5 219 rfl
theorem q1276 : (Jvm.Cond.instanceMethod ({ cls := "PullThePlugModel", name := "wasRight", desc := "()Z" } : Jvm.MethodName)) ∈ lw_all := lw_g (lw_at lw_m5 220 rfl) rfl
theorem q1277 : (Jvm.Cond.code ({ cls := "PullThePlugModel", name := "wasRight", desc := "()Z" } : Jvm.MethodName) prog_9_method_22_code (1 : Nat) (Option.some Jvm.ClassFile.FieldType.boolean)) ∈ lw_all := lw_g (lw_at lw_m5 221 rfl) rfl
theorem q1279 : (Jvm.Cond.instanceMethod ({ cls := "PullThePlugModel", name := "rule", desc := "()I" } : Jvm.MethodName)) ∈ lw_all := lw_g (lw_at lw_m5 223 rfl) rfl
theorem q1280 : (Jvm.Cond.selects "PullThePlugModel" ({ cls := "PullThePlugModel", name := "rule", desc := "()I" } : Jvm.MethodName) ({ cls := "PullThePlugModel", name := "rule", desc := "()I" } : Jvm.MethodName)) ∈ lw_all := lw_g (lw_at lw_m5 224 rfl) rfl
theorem q1281 : (Jvm.Cond.code ({ cls := "PullThePlugModel", name := "rule", desc := "()I" } : Jvm.MethodName) prog_9_method_31_code (3 : Nat) (Option.some Jvm.ClassFile.FieldType.int)) ∈ lw_all := lw_g (lw_at lw_m5 225 rfl) rfl
theorem q1282 : (Jvm.Cond.methodLink "PullThePlugModel" (196 : Nat) ({ cls := "PullThePlugModel", name := "readRule", desc := "()Z" } : Jvm.MethodName)) ∈ lw_all := lw_g (lw_at lw_m5 226 rfl) rfl
theorem q1283 : (Jvm.Cond.privateMethod ({ cls := "PullThePlugModel", name := "readRule", desc := "()Z" } : Jvm.MethodName)) ∈ lw_tbl := lw_at lw_m5 227 rfl
theorem q1284 : (Jvm.Cond.instanceMethod ({ cls := "PullThePlugModel", name := "readRule", desc := "()Z" } : Jvm.MethodName)) ∈ lw_all := lw_g (lw_at lw_m5 228 rfl) rfl
theorem q1285 : (Jvm.Cond.code ({ cls := "PullThePlugModel", name := "readRule", desc := "()Z" } : Jvm.MethodName) prog_9_method_30_code (1 : Nat) (Option.some Jvm.ClassFile.FieldType.boolean)) ∈ lw_all := lw_g (lw_at lw_m5 229 rfl) rfl
theorem q1286 : (Jvm.Cond.methodLink "PullThePlugModel" (179 : Nat) ({ cls := "PullThePlugModel", name := "held", desc := "(I)I" } : Jvm.MethodName)) ∈ lw_all := lw_g (lw_at lw_m5 230 rfl) rfl
theorem q1287 : (Jvm.Cond.privateMethod ({ cls := "PullThePlugModel", name := "held", desc := "(I)I" } : Jvm.MethodName)) ∈ lw_tbl := lw_at lw_m5 231 rfl
theorem q1288 : (Jvm.Cond.instanceMethod ({ cls := "PullThePlugModel", name := "held", desc := "(I)I" } : Jvm.MethodName)) ∈ lw_all := lw_g (lw_at lw_m5 232 rfl) rfl
theorem q1289 : (Jvm.Cond.code ({ cls := "PullThePlugModel", name := "held", desc := "(I)I" } : Jvm.MethodName) prog_9_method_25_code (3 : Nat) (Option.some Jvm.ClassFile.FieldType.int)) ∈ lw_all := lw_g (lw_at lw_m5 233 rfl) rfl
theorem q1290 : (Jvm.Cond.methodLink "PullThePlugModel" (169 : Nat) ({ cls := "PullThePlugModel", name := "sum", desc := "(I)I" } : Jvm.MethodName)) ∈ lw_all := lw_g (lw_at lw_m5 234 rfl) rfl
theorem q1291 : (Jvm.Cond.privateMethod ({ cls := "PullThePlugModel", name := "sum", desc := "(I)I" } : Jvm.MethodName)) ∈ lw_tbl := lw_at lw_m5 235 rfl
theorem q1292 : (Jvm.Cond.instanceMethod ({ cls := "PullThePlugModel", name := "sum", desc := "(I)I" } : Jvm.MethodName)) ∈ lw_all := lw_g (lw_at lw_m5 236 rfl) rfl
theorem q1293 : (Jvm.Cond.code ({ cls := "PullThePlugModel", name := "sum", desc := "(I)I" } : Jvm.MethodName) prog_9_method_26_code (5 : Nat) (Option.some Jvm.ClassFile.FieldType.int)) ∈ lw_all := lw_g (lw_at lw_m5 237 rfl) rfl
theorem q1294 : (Jvm.Cond.methodLink "PullThePlugModel" (173 : Nat) ({ cls := "PullThePlugModel", name := "product", desc := "(I)I" } : Jvm.MethodName)) ∈ lw_all := lw_g (lw_at lw_m5 238 rfl) rfl
theorem q1295 : (Jvm.Cond.privateMethod ({ cls := "PullThePlugModel", name := "product", desc := "(I)I" } : Jvm.MethodName)) ∈ lw_tbl := lw_at lw_m5 239 rfl
theorem q1296 : (Jvm.Cond.instanceMethod ({ cls := "PullThePlugModel", name := "product", desc := "(I)I" } : Jvm.MethodName)) ∈ lw_all := lw_g (lw_at lw_m6 0 rfl) rfl
theorem q1297 : (Jvm.Cond.code ({ cls := "PullThePlugModel", name := "product", desc := "(I)I" } : Jvm.MethodName) prog_9_method_27_code (5 : Nat) (Option.some Jvm.ClassFile.FieldType.int)) ∈ lw_all := lw_g (lw_at lw_m6 1 rfl) rfl
theorem q1298 : (Jvm.Cond.methodLink "PullThePlugModel" (176 : Nat) ({ cls := "PullThePlugModel", name := "thing", desc := "(I)I" } : Jvm.MethodName)) ∈ lw_all := lw_g (lw_at lw_m6 2 rfl) rfl
theorem q1299 : (Jvm.Cond.privateMethod ({ cls := "PullThePlugModel", name := "thing", desc := "(I)I" } : Jvm.MethodName)) ∈ lw_tbl := lw_at lw_m6 3 rfl
theorem q1300 : (Jvm.Cond.instanceMethod ({ cls := "PullThePlugModel", name := "thing", desc := "(I)I" } : Jvm.MethodName)) ∈ lw_all := lw_g (lw_at lw_m6 4 rfl) rfl
theorem q1301 : (Jvm.Cond.code ({ cls := "PullThePlugModel", name := "thing", desc := "(I)I" } : Jvm.MethodName) prog_9_method_29_code (4 : Nat) (Option.some Jvm.ClassFile.FieldType.int)) ∈ lw_all := lw_g (lw_at lw_m6 5 rfl) rfl
theorem q1302 : (Jvm.Cond.methodLink "PullThePlugModel" (182 : Nat) ({ cls := "PullThePlugModel", name := "need", desc := "(C)V" } : Jvm.MethodName)) ∈ lw_all := lw_g (lw_at lw_m6 6 rfl) rfl
theorem q1303 : (Jvm.Cond.privateMethod ({ cls := "PullThePlugModel", name := "need", desc := "(C)V" } : Jvm.MethodName)) ∈ lw_tbl := lw_at lw_m6 7 rfl
theorem q1304 : (Jvm.Cond.instanceMethod ({ cls := "PullThePlugModel", name := "need", desc := "(C)V" } : Jvm.MethodName)) ∈ lw_all := lw_g (lw_at lw_m6 8 rfl) rfl
theorem q1305 : (Jvm.Cond.code ({ cls := "PullThePlugModel", name := "need", desc := "(C)V" } : Jvm.MethodName) prog_9_method_19_code (2 : Nat) (Option.none : Option Jvm.ClassFile.FieldType)) ∈ lw_all := lw_g (lw_at lw_m6 9 rfl) rfl
theorem q1306 : (Jvm.Cond.methodLink "PullThePlugModel" (186 : Nat) ({ cls := "PullThePlugModel", name := "number", desc := "(I)I" } : Jvm.MethodName)) ∈ lw_all := lw_g (lw_at lw_m6 10 rfl) rfl
theorem q1307 : (Jvm.Cond.privateMethod ({ cls := "PullThePlugModel", name := "number", desc := "(I)I" } : Jvm.MethodName)) ∈ lw_tbl := lw_at lw_m6 11 rfl
theorem q1308 : (Jvm.Cond.instanceMethod ({ cls := "PullThePlugModel", name := "number", desc := "(I)I" } : Jvm.MethodName)) ∈ lw_all := lw_g (lw_at lw_m6 12 rfl) rfl
theorem q1309 : (Jvm.Cond.code ({ cls := "PullThePlugModel", name := "number", desc := "(I)I" } : Jvm.MethodName) prog_9_method_21_code (4 : Nat) (Option.some Jvm.ClassFile.FieldType.int)) ∈ lw_all := lw_g (lw_at lw_m6 13 rfl) rfl
theorem q1310 : (Jvm.Cond.methodLink "PullThePlugModel" (189 : Nat) ({ cls := "PullThePlugModel", name := "letterOf", desc := "(I)I" } : Jvm.MethodName)) ∈ lw_all := lw_g (lw_at lw_m6 14 rfl) rfl
theorem q1311 : (Jvm.Cond.static ({ cls := "PullThePlugModel", name := "letterOf", desc := "(I)I" } : Jvm.MethodName)) ∈ lw_all := lw_g (lw_at lw_m6 15 rfl) rfl
theorem q1312 : (Jvm.Cond.code ({ cls := "PullThePlugModel", name := "letterOf", desc := "(I)I" } : Jvm.MethodName) prog_9_method_28_code (1 : Nat) (Option.some Jvm.ClassFile.FieldType.int)) ∈ lw_all := lw_g (lw_at lw_m6 16 rfl) rfl
theorem q1314 : (Jvm.Cond.instanceMethod ({ cls := "PullThePlugModel", name := "lake", desc := "(II)I" } : Jvm.MethodName)) ∈ lw_all := lw_g (lw_at lw_m6 18 rfl) rfl
theorem q1315 : (Jvm.Cond.selects "PullThePlugModel" ({ cls := "PullThePlugModel", name := "lake", desc := "(II)I" } : Jvm.MethodName) ({ cls := "PullThePlugModel", name := "lake", desc := "(II)I" } : Jvm.MethodName)) ∈ lw_all := lw_g (lw_at lw_m6 19 rfl) rfl
theorem q1316 : (Jvm.Cond.code ({ cls := "PullThePlugModel", name := "lake", desc := "(II)I" } : Jvm.MethodName) prog_9_method_34_code (3 : Nat) (Option.some Jvm.ClassFile.FieldType.int)) ∈ lw_all := lw_g (lw_at lw_m6 20 rfl) rfl
theorem q1317 : (Jvm.Cond.methodLink "PullThePlugModel" (108 : Nat) ({ cls := "PullThePlugModel", name := "isLake", desc := "(I)Z" } : Jvm.MethodName)) ∈ lw_all := lw_g (lw_at lw_m6 21 rfl) rfl
theorem q1318 : (Jvm.Cond.privateMethod ({ cls := "PullThePlugModel", name := "isLake", desc := "(I)Z" } : Jvm.MethodName)) ∈ lw_tbl := lw_at lw_m6 22 rfl
theorem q1319 : (Jvm.Cond.instanceMethod ({ cls := "PullThePlugModel", name := "isLake", desc := "(I)Z" } : Jvm.MethodName)) ∈ lw_all := lw_g (lw_at lw_m6 23 rfl) rfl
theorem q1320 : (Jvm.Cond.code ({ cls := "PullThePlugModel", name := "isLake", desc := "(I)Z" } : Jvm.MethodName) prog_9_method_7_code (2 : Nat) (Option.some Jvm.ClassFile.FieldType.boolean)) ∈ lw_all := lw_g (lw_at lw_m6 24 rfl) rfl
theorem q1321 : (Jvm.Cond.methodLink "PullThePlugModel" (220 : Nat) ({ cls := "PullThePlugModel", name := "lost", desc := "()I" } : Jvm.MethodName)) ∈ lw_all := lw_g (lw_at lw_m6 25 rfl) rfl
theorem q1322 : (Jvm.Cond.privateMethod ({ cls := "PullThePlugModel", name := "lost", desc := "()I" } : Jvm.MethodName)) ∈ lw_tbl := lw_at lw_m6 26 rfl
theorem q1323 : (Jvm.Cond.instanceMethod ({ cls := "PullThePlugModel", name := "lost", desc := "()I" } : Jvm.MethodName)) ∈ lw_all := lw_g (lw_at lw_m6 27 rfl) rfl
theorem q1324 : (Jvm.Cond.code ({ cls := "PullThePlugModel", name := "lost", desc := "()I" } : Jvm.MethodName) prog_9_method_5_code (1 : Nat) (Option.some Jvm.ClassFile.FieldType.int)) ∈ lw_all := lw_g (lw_at lw_m6 28 rfl) rfl
theorem q1325 : (Jvm.Cond.methodLink "PullThePlugModel" (223 : Nat) ({ cls := "PullThePlugModel", name := "runOf", desc := "([II)I" } : Jvm.MethodName)) ∈ lw_all := lw_g (lw_at lw_m6 29 rfl) rfl
theorem q1326 : (Jvm.Cond.privateMethod ({ cls := "PullThePlugModel", name := "runOf", desc := "([II)I" } : Jvm.MethodName)) ∈ lw_tbl := lw_at lw_m6 30 rfl
theorem q1327 : (Jvm.Cond.instanceMethod ({ cls := "PullThePlugModel", name := "runOf", desc := "([II)I" } : Jvm.MethodName)) ∈ lw_all := lw_g (lw_at lw_m6 31 rfl) rfl
theorem q1328 : (Jvm.Cond.code ({ cls := "PullThePlugModel", name := "runOf", desc := "([II)I" } : Jvm.MethodName) prog_9_method_33_code (4 : Nat) (Option.some Jvm.ClassFile.FieldType.int)) ∈ lw_all := lw_g (lw_at lw_m6 32 rfl) rfl
theorem q1329 : (Jvm.Cond.methodLink "PullThePlugModel" (202 : Nat) ({ cls := "PullThePlugModel", name := "outOnes", desc := "([I)I" } : Jvm.MethodName)) ∈ lw_all := lw_g (lw_at lw_m6 33 rfl) rfl
theorem q1330 : (Jvm.Cond.privateMethod ({ cls := "PullThePlugModel", name := "outOnes", desc := "([I)I" } : Jvm.MethodName)) ∈ lw_tbl := lw_at lw_m6 34 rfl
theorem q1331 : (Jvm.Cond.instanceMethod ({ cls := "PullThePlugModel", name := "outOnes", desc := "([I)I" } : Jvm.MethodName)) ∈ lw_all := lw_g (lw_at lw_m6 35 rfl) rfl
theorem q1332 : (Jvm.Cond.code ({ cls := "PullThePlugModel", name := "outOnes", desc := "([I)I" } : Jvm.MethodName) prog_9_method_32_code (4 : Nat) (Option.some Jvm.ClassFile.FieldType.int)) ∈ lw_all := lw_g (lw_at lw_m6 36 rfl) rfl
theorem q1333 : (Jvm.Cond.methodLink "PullThePlugModel" (206 : Nat) ({ cls := "java/lang/Integer", name := "bitCount", desc := "(I)I" } : Jvm.MethodName)) ∈ lw_all := lw_g (lw_at lw_m6 37 rfl) rfl
theorem q1334 : (Jvm.Cond.methodLink "PullThePlugModel" (211 : Nat) ({ cls := "java/lang/Math", name := "min", desc := "(II)I" } : Jvm.MethodName)) ∈ lw_all := lw_g (lw_at lw_m6 38 rfl) rfl
theorem q1335 : (Jvm.Cond.methodLink "PullThePlugModel" (217 : Nat) ({ cls := "java/lang/Math", name := "max", desc := "(II)I" } : Jvm.MethodName)) ∈ lw_all := lw_g (lw_at lw_m6 39 rfl) rfl
theorem q1337 : (Jvm.Cond.instanceMethod ({ cls := "PullThePlugModel", name := "sheet", desc := "(IIII)I" } : Jvm.MethodName)) ∈ lw_all := lw_g (lw_at lw_m6 41 rfl) rfl
theorem q1338 : (Jvm.Cond.selects "PullThePlugModel" ({ cls := "PullThePlugModel", name := "sheet", desc := "(IIII)I" } : Jvm.MethodName) ({ cls := "PullThePlugModel", name := "sheet", desc := "(IIII)I" } : Jvm.MethodName)) ∈ lw_all := lw_g (lw_at lw_m6 42 rfl) rfl
theorem q1339 : (Jvm.Cond.code ({ cls := "PullThePlugModel", name := "sheet", desc := "(IIII)I" } : Jvm.MethodName) prog_9_method_36_code (8 : Nat) (Option.some Jvm.ClassFile.FieldType.int)) ∈ lw_all := lw_g (lw_at lw_m6 43 rfl) rfl
theorem q1340 : (Jvm.Cond.methodLink "PullThePlugModel" (227 : Nat) ({ cls := "PullThePlugModel", name := "sumOf", desc := "([II)I" } : Jvm.MethodName)) ∈ lw_all := lw_g (lw_at lw_m6 44 rfl) rfl
theorem q1341 : (Jvm.Cond.privateMethod ({ cls := "PullThePlugModel", name := "sumOf", desc := "([II)I" } : Jvm.MethodName)) ∈ lw_tbl := lw_at lw_m6 45 rfl
theorem q1342 : (Jvm.Cond.instanceMethod ({ cls := "PullThePlugModel", name := "sumOf", desc := "([II)I" } : Jvm.MethodName)) ∈ lw_all := lw_g (lw_at lw_m6 46 rfl) rfl
theorem q1343 : (Jvm.Cond.code ({ cls := "PullThePlugModel", name := "sumOf", desc := "([II)I" } : Jvm.MethodName) prog_9_method_35_code (5 : Nat) (Option.some Jvm.ClassFile.FieldType.int)) ∈ lw_all := lw_g (lw_at lw_m6 47 rfl) rfl
theorem q1345 : (Jvm.Cond.instanceMethod ({ cls := "PullThePlugModel", name := "days", desc := "(I)I" } : Jvm.MethodName)) ∈ lw_all := lw_g (lw_at lw_m6 49 rfl) rfl
theorem q1346 : (Jvm.Cond.selects "PullThePlugModel" ({ cls := "PullThePlugModel", name := "days", desc := "(I)I" } : Jvm.MethodName) ({ cls := "PullThePlugModel", name := "days", desc := "(I)I" } : Jvm.MethodName)) ∈ lw_all := lw_g (lw_at lw_m6 50 rfl) rfl
theorem q1347 : (Jvm.Cond.code ({ cls := "PullThePlugModel", name := "days", desc := "(I)I" } : Jvm.MethodName) prog_9_method_41_code (4 : Nat) (Option.some Jvm.ClassFile.FieldType.int)) ∈ lw_all := lw_g (lw_at lw_m6 51 rfl) rfl
theorem q1348 : (Jvm.Cond.methodLink "PullThePlugModel" (241 : Nat) ({ cls := "PullThePlugModel", name := "remember", desc := "([I)V" } : Jvm.MethodName)) ∈ lw_all := lw_g (lw_at lw_m6 52 rfl) rfl
theorem q1349 : (Jvm.Cond.privateMethod ({ cls := "PullThePlugModel", name := "remember", desc := "([I)V" } : Jvm.MethodName)) ∈ lw_tbl := lw_at lw_m6 53 rfl
theorem q1350 : (Jvm.Cond.instanceMethod ({ cls := "PullThePlugModel", name := "remember", desc := "([I)V" } : Jvm.MethodName)) ∈ lw_all := lw_g (lw_at lw_m6 54 rfl) rfl
theorem q1351 : (Jvm.Cond.code ({ cls := "PullThePlugModel", name := "remember", desc := "([I)V" } : Jvm.MethodName) prog_9_method_38_code (3 : Nat) (Option.none : Option Jvm.ClassFile.FieldType)) ∈ lw_all := lw_g (lw_at lw_m6 55 rfl) rfl
theorem q1352 : (Jvm.Cond.methodLink "PullThePlugModel" (230 : Nat) ({ cls := "PullThePlugModel", name := "lay", desc := "([I[II)V" } : Jvm.MethodName)) ∈ lw_all := lw_g (lw_at lw_m6 56 rfl) rfl
theorem q1353 : (Jvm.Cond.static ({ cls := "PullThePlugModel", name := "lay", desc := "([I[II)V" } : Jvm.MethodName)) ∈ lw_all := lw_g (lw_at lw_m6 57 rfl) rfl
theorem q1354 : (Jvm.Cond.code ({ cls := "PullThePlugModel", name := "lay", desc := "([I[II)V" } : Jvm.MethodName) prog_9_method_37_code (4 : Nat) (Option.none : Option Jvm.ClassFile.FieldType)) ∈ lw_all := lw_g (lw_at lw_m6 58 rfl) rfl
theorem q1355 : (Jvm.Cond.methodLink "PullThePlugModel" (244 : Nat) ({ cls := "PullThePlugModel", name := "goDays", desc := "([II)V" } : Jvm.MethodName)) ∈ lw_all := lw_g (lw_at lw_m6 59 rfl) rfl
theorem q1356 : (Jvm.Cond.privateMethod ({ cls := "PullThePlugModel", name := "goDays", desc := "([II)V" } : Jvm.MethodName)) ∈ lw_tbl := lw_at lw_m6 60 rfl
theorem q1357 : (Jvm.Cond.instanceMethod ({ cls := "PullThePlugModel", name := "goDays", desc := "([II)V" } : Jvm.MethodName)) ∈ lw_all := lw_g (lw_at lw_m6 61 rfl) rfl
theorem q1358 : (Jvm.Cond.code ({ cls := "PullThePlugModel", name := "goDays", desc := "([II)V" } : Jvm.MethodName) prog_9_method_40_code (4 : Nat) (Option.none : Option Jvm.ClassFile.FieldType)) ∈ lw_all := lw_g (lw_at lw_m6 62 rfl) rfl
theorem q1359 : (Jvm.Cond.methodLink "PullThePlugModel" (237 : Nat) ({ cls := "PullThePlugModel", name := "goDay", desc := "([I)V" } : Jvm.MethodName)) ∈ lw_all := lw_g (lw_at lw_m6 63 rfl) rfl
theorem q1360 : (Jvm.Cond.privateMethod ({ cls := "PullThePlugModel", name := "goDay", desc := "([I)V" } : Jvm.MethodName)) ∈ lw_tbl := lw_at lw_m6 64 rfl
theorem q1361 : (Jvm.Cond.instanceMethod ({ cls := "PullThePlugModel", name := "goDay", desc := "([I)V" } : Jvm.MethodName)) ∈ lw_all := lw_g (lw_at lw_m6 65 rfl) rfl
theorem q1362 : (Jvm.Cond.code ({ cls := "PullThePlugModel", name := "goDay", desc := "([I)V" } : Jvm.MethodName) prog_9_method_39_code (5 : Nat) (Option.none : Option Jvm.ClassFile.FieldType)) ∈ lw_all := lw_g (lw_at lw_m6 66 rfl) rfl
theorem q1363 : (Jvm.Cond.methodLink "PullThePlugModel" (248 : Nat) ({ cls := "PullThePlugModel", name := "tell", desc := "(J)V" } : Jvm.MethodName)) ∈ lw_all := lw_g (lw_at lw_m6 67 rfl) rfl
theorem q1364 : (Jvm.Cond.privateMethod ({ cls := "PullThePlugModel", name := "tell", desc := "(J)V" } : Jvm.MethodName)) ∈ lw_tbl := lw_at lw_m6 68 rfl
theorem q1365 : (Jvm.Cond.instanceMethod ({ cls := "PullThePlugModel", name := "tell", desc := "(J)V" } : Jvm.MethodName)) ∈ lw_all := lw_g (lw_at lw_m6 69 rfl) rfl
theorem q1366 : (Jvm.Cond.code ({ cls := "PullThePlugModel", name := "tell", desc := "(J)V" } : Jvm.MethodName) prog_9_method_6_code (3 : Nat) (Option.none : Option Jvm.ClassFile.FieldType)) ∈ lw_all := lw_g (lw_at lw_m6 70 rfl) rfl
theorem q1368 : (Jvm.Cond.instanceMethod ({ cls := "PullThePlugModel", name := "pulls", desc := "(I)I" } : Jvm.MethodName)) ∈ lw_all := lw_g (lw_at lw_m6 72 rfl) rfl
theorem q1369 : (Jvm.Cond.selects "PullThePlugModel" ({ cls := "PullThePlugModel", name := "pulls", desc := "(I)I" } : Jvm.MethodName) ({ cls := "PullThePlugModel", name := "pulls", desc := "(I)I" } : Jvm.MethodName)) ∈ lw_all := lw_g (lw_at lw_m6 73 rfl) rfl
theorem q1370 : (Jvm.Cond.code ({ cls := "PullThePlugModel", name := "pulls", desc := "(I)I" } : Jvm.MethodName) prog_9_method_44_code (2 : Nat) (Option.some Jvm.ClassFile.FieldType.int)) ∈ lw_all := lw_g (lw_at lw_m6 74 rfl) rfl
theorem q1371 : (Jvm.Cond.methodLink "PullThePlugModel" (255 : Nat) ({ cls := "PullThePlugModel", name := "touches", desc := "(II)I" } : Jvm.MethodName)) ∈ lw_all := lw_g (lw_at lw_m6 75 rfl) rfl
theorem q1372 : (Jvm.Cond.privateMethod ({ cls := "PullThePlugModel", name := "touches", desc := "(II)I" } : Jvm.MethodName)) ∈ lw_tbl := lw_at lw_m6 76 rfl
theorem q1373 : (Jvm.Cond.instanceMethod ({ cls := "PullThePlugModel", name := "touches", desc := "(II)I" } : Jvm.MethodName)) ∈ lw_all := lw_g (lw_at lw_m6 77 rfl) rfl
theorem q1374 : (Jvm.Cond.code ({ cls := "PullThePlugModel", name := "touches", desc := "(II)I" } : Jvm.MethodName) prog_9_method_43_code (4 : Nat) (Option.some Jvm.ClassFile.FieldType.int)) ∈ lw_all := lw_g (lw_at lw_m6 78 rfl) rfl
theorem q1375 : (Jvm.Cond.methodLink "PullThePlugModel" (252 : Nat) ({ cls := "PullThePlugModel", name := "refusesPlug", desc := "(II)I" } : Jvm.MethodName)) ∈ lw_all := lw_g (lw_at lw_m6 79 rfl) rfl
theorem q1376 : (Jvm.Cond.privateMethod ({ cls := "PullThePlugModel", name := "refusesPlug", desc := "(II)I" } : Jvm.MethodName)) ∈ lw_tbl := lw_at lw_m6 80 rfl
theorem q1377 : (Jvm.Cond.instanceMethod ({ cls := "PullThePlugModel", name := "refusesPlug", desc := "(II)I" } : Jvm.MethodName)) ∈ lw_all := lw_g (lw_at lw_m6 81 rfl) rfl
theorem q1378 : (Jvm.Cond.code ({ cls := "PullThePlugModel", name := "refusesPlug", desc := "(II)I" } : Jvm.MethodName) prog_9_method_42_code (3 : Nat) (Option.some Jvm.ClassFile.FieldType.int)) ∈ lw_all := lw_g (lw_at lw_m6 82 rfl) rfl
theorem q1380 : (Jvm.Cond.instanceMethod ({ cls := "PullThePlugModel", name := "stops", desc := "(I)I" } : Jvm.MethodName)) ∈ lw_all := lw_g (lw_at lw_m6 84 rfl) rfl
theorem q1381 : (Jvm.Cond.selects "PullThePlugModel" ({ cls := "PullThePlugModel", name := "stops", desc := "(I)I" } : Jvm.MethodName) ({ cls := "PullThePlugModel", name := "stops", desc := "(I)I" } : Jvm.MethodName)) ∈ lw_all := lw_g (lw_at lw_m6 85 rfl) rfl
theorem q1382 : (Jvm.Cond.code ({ cls := "PullThePlugModel", name := "stops", desc := "(I)I" } : Jvm.MethodName) prog_9_method_45_code (2 : Nat) (Option.some Jvm.ClassFile.FieldType.int)) ∈ lw_all := lw_g (lw_at lw_m6 86 rfl) rfl
theorem q1384 : (Jvm.Cond.instanceMethod ({ cls := "PullThePlugModel", name := "combs", desc := "(I)I" } : Jvm.MethodName)) ∈ lw_all := lw_g (lw_at lw_m6 88 rfl) rfl
theorem q1385 : (Jvm.Cond.selects "PullThePlugModel" ({ cls := "PullThePlugModel", name := "combs", desc := "(I)I" } : Jvm.MethodName) ({ cls := "PullThePlugModel", name := "combs", desc := "(I)I" } : Jvm.MethodName)) ∈ lw_all := lw_g (lw_at lw_m6 89 rfl) rfl
theorem q1386 : (Jvm.Cond.code ({ cls := "PullThePlugModel", name := "combs", desc := "(I)I" } : Jvm.MethodName) prog_9_method_47_code (4 : Nat) (Option.some Jvm.ClassFile.FieldType.int)) ∈ lw_all := lw_g (lw_at lw_m6 90 rfl) rfl
theorem q1387 : (Jvm.Cond.methodLink "PullThePlugModel" (258 : Nat) ({ cls := "PullThePlugModel", name := "refusesComb", desc := "(I)I" } : Jvm.MethodName)) ∈ lw_all := lw_g (lw_at lw_m6 91 rfl) rfl
theorem q1388 : (Jvm.Cond.privateMethod ({ cls := "PullThePlugModel", name := "refusesComb", desc := "(I)I" } : Jvm.MethodName)) ∈ lw_tbl := lw_at lw_m6 92 rfl
theorem q1389 : (Jvm.Cond.instanceMethod ({ cls := "PullThePlugModel", name := "refusesComb", desc := "(I)I" } : Jvm.MethodName)) ∈ lw_all := lw_g (lw_at lw_m6 93 rfl) rfl
theorem q1390 : (Jvm.Cond.code ({ cls := "PullThePlugModel", name := "refusesComb", desc := "(I)I" } : Jvm.MethodName) prog_9_method_46_code (2 : Nat) (Option.some Jvm.ClassFile.FieldType.int)) ∈ lw_all := lw_g (lw_at lw_m6 94 rfl) rfl
theorem q1392 : (Jvm.Cond.instanceMethod ({ cls := "PullThePlugModel", name := "taps", desc := "(II)I" } : Jvm.MethodName)) ∈ lw_all := lw_g (lw_at lw_m6 96 rfl) rfl
theorem q1393 : (Jvm.Cond.selects "PullThePlugModel" ({ cls := "PullThePlugModel", name := "taps", desc := "(II)I" } : Jvm.MethodName) ({ cls := "PullThePlugModel", name := "taps", desc := "(II)I" } : Jvm.MethodName)) ∈ lw_all := lw_g (lw_at lw_m6 97 rfl) rfl
theorem q1394 : (Jvm.Cond.code ({ cls := "PullThePlugModel", name := "taps", desc := "(II)I" } : Jvm.MethodName) prog_9_method_50_code (3 : Nat) (Option.some Jvm.ClassFile.FieldType.int)) ∈ lw_all := lw_g (lw_at lw_m6 98 rfl) rfl
theorem q1395 : (Jvm.Cond.methodLink "PullThePlugModel" (265 : Nat) ({ cls := "PullThePlugModel", name := "becomes", desc := "(IIII)I" } : Jvm.MethodName)) ∈ lw_all := lw_g (lw_at lw_m6 99 rfl) rfl
theorem q1396 : (Jvm.Cond.privateMethod ({ cls := "PullThePlugModel", name := "becomes", desc := "(IIII)I" } : Jvm.MethodName)) ∈ lw_tbl := lw_at lw_m6 100 rfl
theorem q1397 : (Jvm.Cond.instanceMethod ({ cls := "PullThePlugModel", name := "becomes", desc := "(IIII)I" } : Jvm.MethodName)) ∈ lw_all := lw_g (lw_at lw_m6 101 rfl) rfl
theorem q1398 : (Jvm.Cond.code ({ cls := "PullThePlugModel", name := "becomes", desc := "(IIII)I" } : Jvm.MethodName) prog_9_method_49_code (7 : Nat) (Option.some Jvm.ClassFile.FieldType.int)) ∈ lw_all := lw_g (lw_at lw_m6 102 rfl) rfl
theorem q1399 : (Jvm.Cond.methodLink "PullThePlugModel" (261 : Nat) ({ cls := "PullThePlugModel", name := "refusesCell", desc := "(IIII)I" } : Jvm.MethodName)) ∈ lw_all := lw_g (lw_at lw_m6 103 rfl) rfl
theorem q1400 : (Jvm.Cond.privateMethod ({ cls := "PullThePlugModel", name := "refusesCell", desc := "(IIII)I" } : Jvm.MethodName)) ∈ lw_tbl := lw_at lw_m6 104 rfl
theorem q1401 : (Jvm.Cond.instanceMethod ({ cls := "PullThePlugModel", name := "refusesCell", desc := "(IIII)I" } : Jvm.MethodName)) ∈ lw_all := lw_g (lw_at lw_m6 105 rfl) rfl
theorem q1402 : (Jvm.Cond.code ({ cls := "PullThePlugModel", name := "refusesCell", desc := "(IIII)I" } : Jvm.MethodName) prog_9_method_48_code (5 : Nat) (Option.some Jvm.ClassFile.FieldType.int)) ∈ lw_all := lw_g (lw_at lw_m6 106 rfl) rfl
theorem q1404 : (Jvm.Cond.instanceMethod ({ cls := "PullThePlugModel", name := "gives", desc := "(II)I" } : Jvm.MethodName)) ∈ lw_all := lw_g (lw_at lw_m6 108 rfl) rfl
theorem q1405 : (Jvm.Cond.selects "PullThePlugModel" ({ cls := "PullThePlugModel", name := "gives", desc := "(II)I" } : Jvm.MethodName) ({ cls := "PullThePlugModel", name := "gives", desc := "(II)I" } : Jvm.MethodName)) ∈ lw_all := lw_g (lw_at lw_m6 109 rfl) rfl
theorem q1406 : (Jvm.Cond.code ({ cls := "PullThePlugModel", name := "gives", desc := "(II)I" } : Jvm.MethodName) prog_9_method_51_code (3 : Nat) (Option.some Jvm.ClassFile.FieldType.int)) ∈ lw_all := lw_g (lw_at lw_m6 110 rfl) rfl
theorem q1408 : (Jvm.Cond.instanceMethod ({ cls := "PullThePlugModel", name := "year", desc := "()I" } : Jvm.MethodName)) ∈ lw_all := lw_g (lw_at lw_m6 112 rfl) rfl
theorem q1409 : (Jvm.Cond.selects "PullThePlugModel" ({ cls := "PullThePlugModel", name := "year", desc := "()I" } : Jvm.MethodName) ({ cls := "PullThePlugModel", name := "year", desc := "()I" } : Jvm.MethodName)) ∈ lw_all := lw_g (lw_at lw_m6 113 rfl) rfl
theorem q1410 : (Jvm.Cond.code ({ cls := "PullThePlugModel", name := "year", desc := "()I" } : Jvm.MethodName) prog_9_method_52_code (3 : Nat) (Option.some Jvm.ClassFile.FieldType.int)) ∈ lw_all := lw_g (lw_at lw_m6 114 rfl) rfl
theorem q1411 : (Jvm.Cond.methodLink "PullThePlugModel" (268 : Nat) ({ cls := "PullThePlugModel", name := "readAct", desc := "(I)V" } : Jvm.MethodName)) ∈ lw_all := lw_g (lw_at lw_m6 115 rfl) rfl
theorem q1412 : (Jvm.Cond.privateMethod ({ cls := "PullThePlugModel", name := "readAct", desc := "(I)V" } : Jvm.MethodName)) ∈ lw_tbl := lw_at lw_m6 116 rfl
theorem q1413 : (Jvm.Cond.instanceMethod ({ cls := "PullThePlugModel", name := "readAct", desc := "(I)V" } : Jvm.MethodName)) ∈ lw_all := lw_g (lw_at lw_m6 117 rfl) rfl
theorem q1414 : (Jvm.Cond.code ({ cls := "PullThePlugModel", name := "readAct", desc := "(I)V" } : Jvm.MethodName) prog_9_method_53_code (3 : Nat) (Option.none : Option Jvm.ClassFile.FieldType)) ∈ lw_all := lw_g (lw_at lw_m6 118 rfl) rfl
theorem q1415 : (Jvm.Cond.methodLink "PullThePlugModel" (271 : Nat) ({ cls := "PullThePlugModel", name := "act", desc := "(III)Z" } : Jvm.MethodName)) ∈ lw_all := lw_g (lw_at lw_m6 119 rfl) rfl
theorem q1416 : (Jvm.Cond.privateMethod ({ cls := "PullThePlugModel", name := "act", desc := "(III)Z" } : Jvm.MethodName)) ∈ lw_tbl := lw_at lw_m6 120 rfl
theorem q1417 : (Jvm.Cond.instanceMethod ({ cls := "PullThePlugModel", name := "act", desc := "(III)Z" } : Jvm.MethodName)) ∈ lw_all := lw_g (lw_at lw_m6 121 rfl) rfl
theorem q1418 : (Jvm.Cond.code ({ cls := "PullThePlugModel", name := "act", desc := "(III)Z" } : Jvm.MethodName) prog_9_method_54_code (5 : Nat) (Option.some Jvm.ClassFile.FieldType.boolean)) ∈ lw_all := lw_g (lw_at lw_m6 122 rfl) rfl
theorem q1420 : (Jvm.Cond.instanceMethod ({ cls := "PullThePlugModel", name := "undo", desc := "()I" } : Jvm.MethodName)) ∈ lw_all := lw_g (lw_at lw_m6 124 rfl) rfl
theorem q1421 : (Jvm.Cond.selects "PullThePlugModel" ({ cls := "PullThePlugModel", name := "undo", desc := "()I" } : Jvm.MethodName) ({ cls := "PullThePlugModel", name := "undo", desc := "()I" } : Jvm.MethodName)) ∈ lw_all := lw_g (lw_at lw_m6 125 rfl) rfl
theorem q1422 : (Jvm.Cond.code ({ cls := "PullThePlugModel", name := "undo", desc := "()I" } : Jvm.MethodName) prog_9_method_55_code (2 : Nat) (Option.some Jvm.ClassFile.FieldType.int)) ∈ lw_all := lw_g (lw_at lw_m6 126 rfl) rfl
theorem q1424 : (Jvm.Cond.instanceMethod ({ cls := "PullThePlugModel", name := "later", desc := "(II)I" } : Jvm.MethodName)) ∈ lw_all := lw_g (lw_at lw_m6 128 rfl) rfl
theorem q1425 : (Jvm.Cond.selects "PullThePlugModel" ({ cls := "PullThePlugModel", name := "later", desc := "(II)I" } : Jvm.MethodName) ({ cls := "PullThePlugModel", name := "later", desc := "(II)I" } : Jvm.MethodName)) ∈ lw_all := lw_g (lw_at lw_m6 129 rfl) rfl
theorem q1426 : (Jvm.Cond.code ({ cls := "PullThePlugModel", name := "later", desc := "(II)I" } : Jvm.MethodName) prog_9_method_57_code (4 : Nat) (Option.some Jvm.ClassFile.FieldType.int)) ∈ lw_all := lw_g (lw_at lw_m6 130 rfl) rfl
theorem q1427 : (Jvm.Cond.methodLink "PullThePlugModel" (274 : Nat) ({ cls := "PullThePlugModel", name := "goThen", desc := "(I)V" } : Jvm.MethodName)) ∈ lw_all := lw_g (lw_at lw_m6 131 rfl) rfl
theorem q1428 : (Jvm.Cond.privateMethod ({ cls := "PullThePlugModel", name := "goThen", desc := "(I)V" } : Jvm.MethodName)) ∈ lw_tbl := lw_at lw_m6 132 rfl
theorem q1429 : (Jvm.Cond.instanceMethod ({ cls := "PullThePlugModel", name := "goThen", desc := "(I)V" } : Jvm.MethodName)) ∈ lw_all := lw_g (lw_at lw_m6 133 rfl) rfl
theorem q1430 : (Jvm.Cond.code ({ cls := "PullThePlugModel", name := "goThen", desc := "(I)V" } : Jvm.MethodName) prog_9_method_56_code (2 : Nat) (Option.none : Option Jvm.ClassFile.FieldType)) ∈ lw_all := lw_g (lw_at lw_m6 134 rfl) rfl
theorem q1432 : (Jvm.Cond.instanceMethod ({ cls := "PullThePlugModel", name := "dries", desc := "(I)I" } : Jvm.MethodName)) ∈ lw_all := lw_g (lw_at lw_m6 136 rfl) rfl
theorem q1433 : (Jvm.Cond.selects "PullThePlugModel" ({ cls := "PullThePlugModel", name := "dries", desc := "(I)I" } : Jvm.MethodName) ({ cls := "PullThePlugModel", name := "dries", desc := "(I)I" } : Jvm.MethodName)) ∈ lw_all := lw_g (lw_at lw_m6 137 rfl) rfl
theorem q1434 : (Jvm.Cond.code ({ cls := "PullThePlugModel", name := "dries", desc := "(I)I" } : Jvm.MethodName) prog_9_method_58_code (3 : Nat) (Option.some Jvm.ClassFile.FieldType.int)) ∈ lw_all := lw_g (lw_at lw_m6 138 rfl) rfl
theorem q1436 : (Jvm.Cond.instanceMethod ({ cls := "PullThePlugModel", name := "brims", desc := "(I)I" } : Jvm.MethodName)) ∈ lw_all := lw_g (lw_at lw_m6 140 rfl) rfl
theorem q1437 : (Jvm.Cond.selects "PullThePlugModel" ({ cls := "PullThePlugModel", name := "brims", desc := "(I)I" } : Jvm.MethodName) ({ cls := "PullThePlugModel", name := "brims", desc := "(I)I" } : Jvm.MethodName)) ∈ lw_all := lw_g (lw_at lw_m6 141 rfl) rfl
theorem q1438 : (Jvm.Cond.code ({ cls := "PullThePlugModel", name := "brims", desc := "(I)I" } : Jvm.MethodName) prog_9_method_59_code (3 : Nat) (Option.some Jvm.ClassFile.FieldType.int)) ∈ lw_all := lw_g (lw_at lw_m6 142 rfl) rfl
theorem q1440 : (Jvm.Cond.instanceMethod ({ cls := "PullThePlugModel", name := "marks", desc := "(II)I" } : Jvm.MethodName)) ∈ lw_all := lw_g (lw_at lw_m6 144 rfl) rfl
theorem q1441 : (Jvm.Cond.selects "PullThePlugModel" ({ cls := "PullThePlugModel", name := "marks", desc := "(II)I" } : Jvm.MethodName) ({ cls := "PullThePlugModel", name := "marks", desc := "(II)I" } : Jvm.MethodName)) ∈ lw_all := lw_g (lw_at lw_m6 145 rfl) rfl
theorem q1442 : (Jvm.Cond.code ({ cls := "PullThePlugModel", name := "marks", desc := "(II)I" } : Jvm.MethodName) prog_9_method_60_code (8 : Nat) (Option.some Jvm.ClassFile.FieldType.int)) ∈ lw_all := lw_g (lw_at lw_m6 146 rfl) rfl
theorem q1444 : (Jvm.Cond.instanceMethod ({ cls := "PullThePlugModel", name := "realm", desc := "(I)I" } : Jvm.MethodName)) ∈ lw_all := lw_g (lw_at lw_m6 148 rfl) rfl
theorem q1445 : (Jvm.Cond.selects "PullThePlugModel" ({ cls := "PullThePlugModel", name := "realm", desc := "(I)I" } : Jvm.MethodName) ({ cls := "PullThePlugModel", name := "realm", desc := "(I)I" } : Jvm.MethodName)) ∈ lw_all := lw_g (lw_at lw_m6 149 rfl) rfl
theorem q1446 : (Jvm.Cond.code ({ cls := "PullThePlugModel", name := "realm", desc := "(I)I" } : Jvm.MethodName) prog_9_method_63_code (5 : Nat) (Option.some Jvm.ClassFile.FieldType.int)) ∈ lw_all := lw_g (lw_at lw_m6 150 rfl) rfl
theorem q1447 : (Jvm.Cond.methodLink "PullThePlugModel" (281 : Nat) ({ cls := "PullThePlugModel", name := "isKing", desc := "(I)Z" } : Jvm.MethodName)) ∈ lw_all := lw_g (lw_at lw_m6 151 rfl) rfl
theorem q1448 : (Jvm.Cond.static ({ cls := "PullThePlugModel", name := "isKing", desc := "(I)Z" } : Jvm.MethodName)) ∈ lw_all := lw_g (lw_at lw_m6 152 rfl) rfl
theorem q1449 : (Jvm.Cond.code ({ cls := "PullThePlugModel", name := "isKing", desc := "(I)Z" } : Jvm.MethodName) prog_9_method_9_code (1 : Nat) (Option.some Jvm.ClassFile.FieldType.boolean)) ∈ lw_all := lw_g (lw_at lw_m6 153 rfl) rfl
theorem q1450 : (Jvm.Cond.methodLink "PullThePlugModel" (284 : Nat) ({ cls := "PullThePlugModel", name := "ownOf", desc := "([II)I" } : Jvm.MethodName)) ∈ lw_all := lw_g (lw_at lw_m6 154 rfl) rfl
theorem q1451 : (Jvm.Cond.privateMethod ({ cls := "PullThePlugModel", name := "ownOf", desc := "([II)I" } : Jvm.MethodName)) ∈ lw_tbl := lw_at lw_m6 155 rfl
theorem q1452 : (Jvm.Cond.instanceMethod ({ cls := "PullThePlugModel", name := "ownOf", desc := "([II)I" } : Jvm.MethodName)) ∈ lw_all := lw_g (lw_at lw_m6 156 rfl) rfl
theorem q1453 : (Jvm.Cond.code ({ cls := "PullThePlugModel", name := "ownOf", desc := "([II)I" } : Jvm.MethodName) prog_9_method_61_code (5 : Nat) (Option.some Jvm.ClassFile.FieldType.int)) ∈ lw_all := lw_g (lw_at lw_m6 157 rfl) rfl
theorem q1454 : (Jvm.Cond.methodLink "PullThePlugModel" (277 : Nat) ({ cls := "PullThePlugModel", name := "has", desc := "(II)Z" } : Jvm.MethodName)) ∈ lw_all := lw_g (lw_at lw_m6 158 rfl) rfl
theorem q1455 : (Jvm.Cond.static ({ cls := "PullThePlugModel", name := "has", desc := "(II)Z" } : Jvm.MethodName)) ∈ lw_all := lw_g (lw_at lw_m6 159 rfl) rfl
theorem q1456 : (Jvm.Cond.code ({ cls := "PullThePlugModel", name := "has", desc := "(II)Z" } : Jvm.MethodName) prog_9_method_4_code (2 : Nat) (Option.some Jvm.ClassFile.FieldType.boolean)) ∈ lw_all := lw_g (lw_at lw_m6 160 rfl) rfl
theorem q1457 : (Jvm.Cond.methodLink "PullThePlugModel" (287 : Nat) ({ cls := "PullThePlugModel", name := "levelOf", desc := "([II)I" } : Jvm.MethodName)) ∈ lw_all := lw_g (lw_at lw_m6 161 rfl) rfl
theorem q1458 : (Jvm.Cond.privateMethod ({ cls := "PullThePlugModel", name := "levelOf", desc := "([II)I" } : Jvm.MethodName)) ∈ lw_tbl := lw_at lw_m6 162 rfl
theorem q1459 : (Jvm.Cond.instanceMethod ({ cls := "PullThePlugModel", name := "levelOf", desc := "([II)I" } : Jvm.MethodName)) ∈ lw_all := lw_g (lw_at lw_m6 163 rfl) rfl
theorem q1460 : (Jvm.Cond.code ({ cls := "PullThePlugModel", name := "levelOf", desc := "([II)I" } : Jvm.MethodName) prog_9_method_62_code (5 : Nat) (Option.some Jvm.ClassFile.FieldType.int)) ∈ lw_all := lw_g (lw_at lw_m6 164 rfl) rfl
theorem q1462 : (Jvm.Cond.instanceMethod ({ cls := "PullThePlugModel", name := "course", desc := "(I)I" } : Jvm.MethodName)) ∈ lw_all := lw_g (lw_at lw_m6 166 rfl) rfl
theorem q1463 : (Jvm.Cond.selects "PullThePlugModel" ({ cls := "PullThePlugModel", name := "course", desc := "(I)I" } : Jvm.MethodName) ({ cls := "PullThePlugModel", name := "course", desc := "(I)I" } : Jvm.MethodName)) ∈ lw_all := lw_g (lw_at lw_m6 167 rfl) rfl
theorem q1464 : (Jvm.Cond.code ({ cls := "PullThePlugModel", name := "course", desc := "(I)I" } : Jvm.MethodName) prog_9_method_64_code (3 : Nat) (Option.some Jvm.ClassFile.FieldType.int)) ∈ lw_all := lw_g (lw_at lw_m6 168 rfl) rfl
theorem q1466 : (Jvm.Cond.instanceMethod ({ cls := "PullThePlugModel", name := "basin", desc := "(I)I" } : Jvm.MethodName)) ∈ lw_all := lw_g (lw_at lw_m6 170 rfl) rfl
theorem q1467 : (Jvm.Cond.selects "PullThePlugModel" ({ cls := "PullThePlugModel", name := "basin", desc := "(I)I" } : Jvm.MethodName) ({ cls := "PullThePlugModel", name := "basin", desc := "(I)I" } : Jvm.MethodName)) ∈ lw_all := lw_g (lw_at lw_m6 171 rfl) rfl
theorem q1468 : (Jvm.Cond.code ({ cls := "PullThePlugModel", name := "basin", desc := "(I)I" } : Jvm.MethodName) prog_9_method_65_code (6 : Nat) (Option.some Jvm.ClassFile.FieldType.int)) ∈ lw_all := lw_g (lw_at lw_m6 172 rfl) rfl
theorem q1470 : (Jvm.Cond.instanceMethod ({ cls := "PullThePlugModel", name := "order", desc := "(I)I" } : Jvm.MethodName)) ∈ lw_all := lw_g (lw_at lw_m6 174 rfl) rfl
theorem q1471 : (Jvm.Cond.selects "PullThePlugModel" ({ cls := "PullThePlugModel", name := "order", desc := "(I)I" } : Jvm.MethodName) ({ cls := "PullThePlugModel", name := "order", desc := "(I)I" } : Jvm.MethodName)) ∈ lw_all := lw_g (lw_at lw_m6 175 rfl) rfl
theorem q1472 : (Jvm.Cond.code ({ cls := "PullThePlugModel", name := "order", desc := "(I)I" } : Jvm.MethodName) prog_9_method_66_code (5 : Nat) (Option.some Jvm.ClassFile.FieldType.int)) ∈ lw_all := lw_g (lw_at lw_m6 176 rfl) rfl
theorem q1474 : (Jvm.Cond.instanceMethod ({ cls := "PullThePlugModel", name := "meets", desc := "(II)I" } : Jvm.MethodName)) ∈ lw_all := lw_g (lw_at lw_m6 178 rfl) rfl
theorem q1475 : (Jvm.Cond.selects "PullThePlugModel" ({ cls := "PullThePlugModel", name := "meets", desc := "(II)I" } : Jvm.MethodName) ({ cls := "PullThePlugModel", name := "meets", desc := "(II)I" } : Jvm.MethodName)) ∈ lw_all := lw_g (lw_at lw_m6 179 rfl) rfl
theorem q1476 : (Jvm.Cond.code ({ cls := "PullThePlugModel", name := "meets", desc := "(II)I" } : Jvm.MethodName) prog_9_method_67_code (4 : Nat) (Option.some Jvm.ClassFile.FieldType.int)) ∈ lw_all := lw_g (lw_at lw_m6 180 rfl) rfl
theorem q1477 : (Jvm.Cond.methodLink "PullThePlugModel" (290 : Nat) ({ cls := "PullThePlugModel", name := "areTwo", desc := "(II)Z" } : Jvm.MethodName)) ∈ lw_all := lw_g (lw_at lw_m6 181 rfl) rfl
theorem q1478 : (Jvm.Cond.privateMethod ({ cls := "PullThePlugModel", name := "areTwo", desc := "(II)Z" } : Jvm.MethodName)) ∈ lw_tbl := lw_at lw_m6 182 rfl
theorem q1479 : (Jvm.Cond.instanceMethod ({ cls := "PullThePlugModel", name := "areTwo", desc := "(II)Z" } : Jvm.MethodName)) ∈ lw_all := lw_g (lw_at lw_m6 183 rfl) rfl
theorem q1480 : (Jvm.Cond.code ({ cls := "PullThePlugModel", name := "areTwo", desc := "(II)Z" } : Jvm.MethodName) prog_9_method_8_code (3 : Nat) (Option.some Jvm.ClassFile.FieldType.boolean)) ∈ lw_all := lw_g (lw_at lw_m6 184 rfl) rfl
theorem q1482 : (Jvm.Cond.instanceMethod ({ cls := "PullThePlugModel", name := "richest", desc := "(I)I" } : Jvm.MethodName)) ∈ lw_all := lw_g (lw_at lw_m6 186 rfl) rfl
theorem q1483 : (Jvm.Cond.selects "PullThePlugModel" ({ cls := "PullThePlugModel", name := "richest", desc := "(I)I" } : Jvm.MethodName) ({ cls := "PullThePlugModel", name := "richest", desc := "(I)I" } : Jvm.MethodName)) ∈ lw_all := lw_g (lw_at lw_m6 187 rfl) rfl
theorem q1484 : (Jvm.Cond.code ({ cls := "PullThePlugModel", name := "richest", desc := "(I)I" } : Jvm.MethodName) prog_9_method_68_code (4 : Nat) (Option.some Jvm.ClassFile.FieldType.int)) ∈ lw_all := lw_g (lw_at lw_m6 188 rfl) rfl
theorem q1486 : (Jvm.Cond.instanceMethod ({ cls := "PullThePlugModel", name := "swims", desc := "(III)I" } : Jvm.MethodName)) ∈ lw_all := lw_g (lw_at lw_m6 190 rfl) rfl
theorem q1487 : (Jvm.Cond.selects "PullThePlugModel" ({ cls := "PullThePlugModel", name := "swims", desc := "(III)I" } : Jvm.MethodName) ({ cls := "PullThePlugModel", name := "swims", desc := "(III)I" } : Jvm.MethodName)) ∈ lw_all := lw_g (lw_at lw_m6 191 rfl) rfl
theorem q1488 : (Jvm.Cond.code ({ cls := "PullThePlugModel", name := "swims", desc := "(III)I" } : Jvm.MethodName) prog_9_method_69_code (9 : Nat) (Option.some Jvm.ClassFile.FieldType.int)) ∈ lw_all := lw_g (lw_at lw_m6 192 rfl) rfl
theorem q1490 : (Jvm.Cond.instanceMethod ({ cls := "PullThePlugModel", name := "lets", desc := "(II)I" } : Jvm.MethodName)) ∈ lw_all := lw_g (lw_at lw_m6 194 rfl) rfl
theorem q1491 : (Jvm.Cond.selects "PullThePlugModel" ({ cls := "PullThePlugModel", name := "lets", desc := "(II)I" } : Jvm.MethodName) ({ cls := "PullThePlugModel", name := "lets", desc := "(II)I" } : Jvm.MethodName)) ∈ lw_all := lw_g (lw_at lw_m6 195 rfl) rfl
theorem q1492 : (Jvm.Cond.code ({ cls := "PullThePlugModel", name := "lets", desc := "(II)I" } : Jvm.MethodName) prog_9_method_73_code (3 : Nat) (Option.some Jvm.ClassFile.FieldType.int)) ∈ lw_all := lw_g (lw_at lw_m6 196 rfl) rfl
theorem q1493 : (Jvm.Cond.methodLink "PullThePlugModel" (303 : Nat) ({ cls := "PullThePlugModel", name := "fewest", desc := "(III)I" } : Jvm.MethodName)) ∈ lw_all := lw_g (lw_at lw_m6 197 rfl) rfl
theorem q1494 : (Jvm.Cond.privateMethod ({ cls := "PullThePlugModel", name := "fewest", desc := "(III)I" } : Jvm.MethodName)) ∈ lw_tbl := lw_at lw_m6 198 rfl
theorem q1495 : (Jvm.Cond.instanceMethod ({ cls := "PullThePlugModel", name := "fewest", desc := "(III)I" } : Jvm.MethodName)) ∈ lw_all := lw_g (lw_at lw_m6 199 rfl) rfl
theorem q1496 : (Jvm.Cond.code ({ cls := "PullThePlugModel", name := "fewest", desc := "(III)I" } : Jvm.MethodName) prog_9_method_72_code (6 : Nat) (Option.some Jvm.ClassFile.FieldType.int)) ∈ lw_all := lw_g (lw_at lw_m6 200 rfl) rfl
theorem q1497 : (Jvm.Cond.methodLink "PullThePlugModel" (293 : Nat) ({ cls := "PullThePlugModel", name := "all", desc := "()I" } : Jvm.MethodName)) ∈ lw_all := lw_g (lw_at lw_m6 201 rfl) rfl
theorem q1498 : (Jvm.Cond.privateMethod ({ cls := "PullThePlugModel", name := "all", desc := "()I" } : Jvm.MethodName)) ∈ lw_tbl := lw_at lw_m6 202 rfl
theorem q1499 : (Jvm.Cond.instanceMethod ({ cls := "PullThePlugModel", name := "all", desc := "()I" } : Jvm.MethodName)) ∈ lw_all := lw_g (lw_at lw_m6 203 rfl) rfl
theorem q1500 : (Jvm.Cond.code ({ cls := "PullThePlugModel", name := "all", desc := "()I" } : Jvm.MethodName) prog_9_method_10_code (1 : Nat) (Option.some Jvm.ClassFile.FieldType.int)) ∈ lw_all := lw_g (lw_at lw_m6 204 rfl) rfl
theorem q1501 : (Jvm.Cond.methodLink "PullThePlugModel" (296 : Nat) ({ cls := "PullThePlugModel", name := "goTouched", desc := "(II)V" } : Jvm.MethodName)) ∈ lw_all := lw_g (lw_at lw_m6 205 rfl) rfl
theorem q1502 : (Jvm.Cond.privateMethod ({ cls := "PullThePlugModel", name := "goTouched", desc := "(II)V" } : Jvm.MethodName)) ∈ lw_tbl := lw_at lw_m6 206 rfl
theorem q1503 : (Jvm.Cond.instanceMethod ({ cls := "PullThePlugModel", name := "goTouched", desc := "(II)V" } : Jvm.MethodName)) ∈ lw_all := lw_g (lw_at lw_m6 207 rfl) rfl
theorem q1504 : (Jvm.Cond.code ({ cls := "PullThePlugModel", name := "goTouched", desc := "(II)V" } : Jvm.MethodName) prog_9_method_71_code (4 : Nat) (Option.none : Option Jvm.ClassFile.FieldType)) ∈ lw_all := lw_g (lw_at lw_m6 208 rfl) rfl
theorem q1505 : (Jvm.Cond.methodLink "PullThePlugModel" (300 : Nat) ({ cls := "PullThePlugModel", name := "dryOnes", desc := "([I)I" } : Jvm.MethodName)) ∈ lw_all := lw_g (lw_at lw_m6 209 rfl) rfl
theorem q1506 : (Jvm.Cond.privateMethod ({ cls := "PullThePlugModel", name := "dryOnes", desc := "([I)I" } : Jvm.MethodName)) ∈ lw_tbl := lw_at lw_m6 210 rfl
theorem q1507 : (Jvm.Cond.instanceMethod ({ cls := "PullThePlugModel", name := "dryOnes", desc := "([I)I" } : Jvm.MethodName)) ∈ lw_all := lw_g (lw_at lw_m6 211 rfl) rfl
theorem q1508 : (Jvm.Cond.code ({ cls := "PullThePlugModel", name := "dryOnes", desc := "([I)I" } : Jvm.MethodName) prog_9_method_70_code (4 : Nat) (Option.some Jvm.ClassFile.FieldType.int)) ∈ lw_all := lw_g (lw_at lw_m6 212 rfl) rfl
theorem q1510 : (Jvm.Cond.instanceMethod ({ cls := "PullThePlugModel", name := "just", desc := "(II)I" } : Jvm.MethodName)) ∈ lw_all := lw_g (lw_at lw_m6 214 rfl) rfl
theorem q1511 : (Jvm.Cond.selects "PullThePlugModel" ({ cls := "PullThePlugModel", name := "just", desc := "(II)I" } : Jvm.MethodName) ({ cls := "PullThePlugModel", name := "just", desc := "(II)I" } : Jvm.MethodName)) ∈ lw_all := lw_g (lw_at lw_m6 215 rfl) rfl
theorem q1512 : (Jvm.Cond.code ({ cls := "PullThePlugModel", name := "just", desc := "(II)I" } : Jvm.MethodName) prog_9_method_74_code (3 : Nat) (Option.some Jvm.ClassFile.FieldType.int)) ∈ lw_all := lw_g (lw_at lw_m6 216 rfl) rfl
theorem q1514 : (Jvm.Cond.instanceMethod ({ cls := "PullThePlugModel", name := "fills", desc := "(II)I" } : Jvm.MethodName)) ∈ lw_all := lw_g (lw_at lw_m6 218 rfl) rfl
theorem q1515 : (Jvm.Cond.selects "PullThePlugModel" ({ cls := "PullThePlugModel", name := "fills", desc := "(II)I" } : Jvm.MethodName) ({ cls := "PullThePlugModel", name := "fills", desc := "(II)I" } : Jvm.MethodName)) ∈ lw_all := lw_g (lw_at lw_m6 219 rfl) rfl
theorem q1516 : (Jvm.Cond.code ({ cls := "PullThePlugModel", name := "fills", desc := "(II)I" } : Jvm.MethodName) prog_9_method_75_code (6 : Nat) (Option.some Jvm.ClassFile.FieldType.int)) ∈ lw_all := lw_g (lw_at lw_m6 220 rfl) rfl
theorem q1518 : (Jvm.Cond.instanceMethod ({ cls := "PullThePlugModel", name := "needs", desc := "(III)I" } : Jvm.MethodName)) ∈ lw_all := lw_g (lw_at lw_m6 222 rfl) rfl
theorem q1519 : (Jvm.Cond.selects "PullThePlugModel" ({ cls := "PullThePlugModel", name := "needs", desc := "(III)I" } : Jvm.MethodName) ({ cls := "PullThePlugModel", name := "needs", desc := "(III)I" } : Jvm.MethodName)) ∈ lw_all := lw_g (lw_at lw_m6 223 rfl) rfl
theorem q1520 : (Jvm.Cond.code ({ cls := "PullThePlugModel", name := "needs", desc := "(III)I" } : Jvm.MethodName) prog_9_method_76_code (5 : Nat) (Option.some Jvm.ClassFile.FieldType.int)) ∈ lw_all := lw_g (lw_at lw_m6 224 rfl) rfl
theorem q1522 : (Jvm.Cond.instanceMethod ({ cls := "PullThePlugModel", name := "crosses", desc := "(I)I" } : Jvm.MethodName)) ∈ lw_all := lw_g (lw_at lw_m6 226 rfl) rfl
theorem q1523 : (Jvm.Cond.selects "PullThePlugModel" ({ cls := "PullThePlugModel", name := "crosses", desc := "(I)I" } : Jvm.MethodName) ({ cls := "PullThePlugModel", name := "crosses", desc := "(I)I" } : Jvm.MethodName)) ∈ lw_all := lw_g (lw_at lw_m6 227 rfl) rfl
theorem q1524 : (Jvm.Cond.code ({ cls := "PullThePlugModel", name := "crosses", desc := "(I)I" } : Jvm.MethodName) prog_9_method_77_code (5 : Nat) (Option.some Jvm.ClassFile.FieldType.int)) ∈ lw_all := lw_g (lw_at lw_m6 228 rfl) rfl
theorem q1525 : (Jvm.Cond.constant "PullThePlugModel" (307 : Nat) (1000000 : Int32)) ∈ lw_all := lw_g (lw_at lw_m6 229 rfl) rfl
theorem q1527 : (Jvm.Cond.instanceMethod ({ cls := "PullThePlugModel", name := "ring", desc := "(III)I" } : Jvm.MethodName)) ∈ lw_all := lw_g (lw_at lw_m6 231 rfl) rfl
theorem q1528 : (Jvm.Cond.selects "PullThePlugModel" ({ cls := "PullThePlugModel", name := "ring", desc := "(III)I" } : Jvm.MethodName) ({ cls := "PullThePlugModel", name := "ring", desc := "(III)I" } : Jvm.MethodName)) ∈ lw_all := lw_g (lw_at lw_m6 232 rfl) rfl
theorem q1529 : (Jvm.Cond.code ({ cls := "PullThePlugModel", name := "ring", desc := "(III)I" } : Jvm.MethodName) prog_9_method_78_code (4 : Nat) (Option.some Jvm.ClassFile.FieldType.int)) ∈ lw_all := lw_g (lw_at lw_m6 233 rfl) rfl
theorem q1531 : (Jvm.Cond.instanceMethod ({ cls := "PullThePlugModel", name := "washes", desc := "()I" } : Jvm.MethodName)) ∈ lw_all := lw_g (lw_at lw_m6 235 rfl) rfl
theorem q1532 : (Jvm.Cond.selects "PullThePlugModel" ({ cls := "PullThePlugModel", name := "washes", desc := "()I" } : Jvm.MethodName) ({ cls := "PullThePlugModel", name := "washes", desc := "()I" } : Jvm.MethodName)) ∈ lw_all := lw_g (lw_at lw_m6 236 rfl) rfl
theorem q1533 : (Jvm.Cond.code ({ cls := "PullThePlugModel", name := "washes", desc := "()I" } : Jvm.MethodName) prog_9_method_79_code (2 : Nat) (Option.some Jvm.ClassFile.FieldType.int)) ∈ lw_all := lw_g (lw_at lw_m6 237 rfl) rfl
theorem q1535 : (Jvm.Cond.instanceMethod ({ cls := "PullThePlugModel", name := "leaks", desc := "()I" } : Jvm.MethodName)) ∈ lw_all := lw_g (lw_at lw_m6 239 rfl) rfl
theorem q1536 : (Jvm.Cond.selects "PullThePlugModel" ({ cls := "PullThePlugModel", name := "leaks", desc := "()I" } : Jvm.MethodName) ({ cls := "PullThePlugModel", name := "leaks", desc := "()I" } : Jvm.MethodName)) ∈ lw_all := lw_g (lw_at lw_m7 0 rfl) rfl
theorem q1537 : (Jvm.Cond.code ({ cls := "PullThePlugModel", name := "leaks", desc := "()I" } : Jvm.MethodName) prog_9_method_81_code (4 : Nat) (Option.some Jvm.ClassFile.FieldType.int)) ∈ lw_all := lw_g (lw_at lw_m7 1 rfl) rfl
theorem q1538 : (Jvm.Cond.methodLink "PullThePlugModel" (311 : Nat) ({ cls := "PullThePlugModel", name := "isRight", desc := "(II)Z" } : Jvm.MethodName)) ∈ lw_all := lw_g (lw_at lw_m7 2 rfl) rfl
theorem q1539 : (Jvm.Cond.privateMethod ({ cls := "PullThePlugModel", name := "isRight", desc := "(II)Z" } : Jvm.MethodName)) ∈ lw_tbl := lw_at lw_m7 3 rfl
theorem q1540 : (Jvm.Cond.instanceMethod ({ cls := "PullThePlugModel", name := "isRight", desc := "(II)Z" } : Jvm.MethodName)) ∈ lw_all := lw_g (lw_at lw_m7 4 rfl) rfl
theorem q1541 : (Jvm.Cond.code ({ cls := "PullThePlugModel", name := "isRight", desc := "(II)Z" } : Jvm.MethodName) prog_9_method_80_code (6 : Nat) (Option.some Jvm.ClassFile.FieldType.boolean)) ∈ lw_all := lw_g (lw_at lw_m7 5 rfl) rfl
theorem q1543 : (Jvm.Cond.instanceMethod ({ cls := "PullThePlugModel", name := "reads", desc := "()I" } : Jvm.MethodName)) ∈ lw_all := lw_g (lw_at lw_m7 7 rfl) rfl
theorem q1544 : (Jvm.Cond.selects "PullThePlugModel" ({ cls := "PullThePlugModel", name := "reads", desc := "()I" } : Jvm.MethodName) ({ cls := "PullThePlugModel", name := "reads", desc := "()I" } : Jvm.MethodName)) ∈ lw_all := lw_g (lw_at lw_m7 8 rfl) rfl
theorem q1545 : (Jvm.Cond.code ({ cls := "PullThePlugModel", name := "reads", desc := "()I" } : Jvm.MethodName) prog_9_method_83_code (8 : Nat) (Option.some Jvm.ClassFile.FieldType.int)) ∈ lw_all := lw_g (lw_at lw_m7 9 rfl) rfl
theorem q1546 : (Jvm.Cond.methodLink "PullThePlugModel" (314 : Nat) ({ cls := "PullThePlugModel", name := "cellOf", desc := "(II)I" } : Jvm.MethodName)) ∈ lw_all := lw_g (lw_at lw_m7 10 rfl) rfl
theorem q1547 : (Jvm.Cond.static ({ cls := "PullThePlugModel", name := "cellOf", desc := "(II)I" } : Jvm.MethodName)) ∈ lw_all := lw_g (lw_at lw_m7 11 rfl) rfl
theorem q1548 : (Jvm.Cond.code ({ cls := "PullThePlugModel", name := "cellOf", desc := "(II)I" } : Jvm.MethodName) prog_9_method_82_code (2 : Nat) (Option.some Jvm.ClassFile.FieldType.int)) ∈ lw_all := lw_g (lw_at lw_m7 12 rfl) rfl
theorem q1550 : (Jvm.Cond.instanceMethod ({ cls := "PullThePlugModel", name := "threat", desc := "(I)I" } : Jvm.MethodName)) ∈ lw_all := lw_g (lw_at lw_m7 14 rfl) rfl
theorem q1551 : (Jvm.Cond.selects "PullThePlugModel" ({ cls := "PullThePlugModel", name := "threat", desc := "(I)I" } : Jvm.MethodName) ({ cls := "PullThePlugModel", name := "threat", desc := "(I)I" } : Jvm.MethodName)) ∈ lw_all := lw_g (lw_at lw_m7 15 rfl) rfl
theorem q1552 : (Jvm.Cond.code ({ cls := "PullThePlugModel", name := "threat", desc := "(I)I" } : Jvm.MethodName) prog_9_method_84_code (4 : Nat) (Option.some Jvm.ClassFile.FieldType.int)) ∈ lw_all := lw_g (lw_at lw_m7 16 rfl) rfl
theorem q1554 : (Jvm.Cond.instanceMethod ({ cls := "PullThePlugModel", name := "treaty", desc := "(I)I" } : Jvm.MethodName)) ∈ lw_all := lw_g (lw_at lw_m7 18 rfl) rfl
theorem q1555 : (Jvm.Cond.selects "PullThePlugModel" ({ cls := "PullThePlugModel", name := "treaty", desc := "(I)I" } : Jvm.MethodName) ({ cls := "PullThePlugModel", name := "treaty", desc := "(I)I" } : Jvm.MethodName)) ∈ lw_all := lw_g (lw_at lw_m7 19 rfl) rfl
theorem q1556 : (Jvm.Cond.code ({ cls := "PullThePlugModel", name := "treaty", desc := "(I)I" } : Jvm.MethodName) prog_9_method_86_code (8 : Nat) (Option.some Jvm.ClassFile.FieldType.int)) ∈ lw_all := lw_g (lw_at lw_m7 20 rfl) rfl
theorem q1557 : (Jvm.Cond.methodLink "PullThePlugModel" (317 : Nat) ({ cls := "PullThePlugModel", name := "levelOfKings", desc := "(I)I" } : Jvm.MethodName)) ∈ lw_all := lw_g (lw_at lw_m7 21 rfl) rfl
theorem q1558 : (Jvm.Cond.privateMethod ({ cls := "PullThePlugModel", name := "levelOfKings", desc := "(I)I" } : Jvm.MethodName)) ∈ lw_tbl := lw_at lw_m7 22 rfl
theorem q1559 : (Jvm.Cond.instanceMethod ({ cls := "PullThePlugModel", name := "levelOfKings", desc := "(I)I" } : Jvm.MethodName)) ∈ lw_all := lw_g (lw_at lw_m7 23 rfl) rfl
theorem q1560 : (Jvm.Cond.code ({ cls := "PullThePlugModel", name := "levelOfKings", desc := "(I)I" } : Jvm.MethodName) prog_9_method_85_code (4 : Nat) (Option.some Jvm.ClassFile.FieldType.int)) ∈ lw_all := lw_g (lw_at lw_m7 24 rfl) rfl
theorem q1562 : (Jvm.Cond.instanceMethod ({ cls := "PullThePlugModel", name := "wants", desc := "(I)I" } : Jvm.MethodName)) ∈ lw_all := lw_g (lw_at lw_m7 26 rfl) rfl
theorem q1563 : (Jvm.Cond.selects "PullThePlugModel" ({ cls := "PullThePlugModel", name := "wants", desc := "(I)I" } : Jvm.MethodName) ({ cls := "PullThePlugModel", name := "wants", desc := "(I)I" } : Jvm.MethodName)) ∈ lw_all := lw_g (lw_at lw_m7 27 rfl) rfl
theorem q1564 : (Jvm.Cond.code ({ cls := "PullThePlugModel", name := "wants", desc := "(I)I" } : Jvm.MethodName) prog_9_method_87_code (5 : Nat) (Option.some Jvm.ClassFile.FieldType.int)) ∈ lw_all := lw_g (lw_at lw_m7 28 rfl) rfl
theorem q1566 : (Jvm.Cond.instanceMethod ({ cls := "PullThePlugModel", name := "evens", desc := "()I" } : Jvm.MethodName)) ∈ lw_all := lw_g (lw_at lw_m7 30 rfl) rfl
theorem q1567 : (Jvm.Cond.selects "PullThePlugModel" ({ cls := "PullThePlugModel", name := "evens", desc := "()I" } : Jvm.MethodName) ({ cls := "PullThePlugModel", name := "evens", desc := "()I" } : Jvm.MethodName)) ∈ lw_all := lw_g (lw_at lw_m7 31 rfl) rfl
theorem q1568 : (Jvm.Cond.code ({ cls := "PullThePlugModel", name := "evens", desc := "()I" } : Jvm.MethodName) prog_9_method_88_code (4 : Nat) (Option.some Jvm.ClassFile.FieldType.int)) ∈ lw_all := lw_g (lw_at lw_m7 32 rfl) rfl
theorem q1569 : (Jvm.Cond.methodLink "PullThePlugModel" (320 : Nat) ({ cls := "java/lang/Math", name := "abs", desc := "(I)I" } : Jvm.MethodName)) ∈ lw_all := lw_g (lw_at lw_m7 33 rfl) rfl
theorem q1571 : (Jvm.Cond.instanceMethod ({ cls := "PullThePlugModel", name := "feared", desc := "()I" } : Jvm.MethodName)) ∈ lw_all := lw_g (lw_at lw_m7 35 rfl) rfl
theorem q1572 : (Jvm.Cond.selects "PullThePlugModel" ({ cls := "PullThePlugModel", name := "feared", desc := "()I" } : Jvm.MethodName) ({ cls := "PullThePlugModel", name := "feared", desc := "()I" } : Jvm.MethodName)) ∈ lw_all := lw_g (lw_at lw_m7 36 rfl) rfl
theorem q1573 : (Jvm.Cond.code ({ cls := "PullThePlugModel", name := "feared", desc := "()I" } : Jvm.MethodName) prog_9_method_89_code (3 : Nat) (Option.some Jvm.ClassFile.FieldType.int)) ∈ lw_all := lw_g (lw_at lw_m7 37 rfl) rfl
theorem q1575 : (Jvm.Cond.instanceMethod ({ cls := "PullThePlugModel", name := "heirs", desc := "()I" } : Jvm.MethodName)) ∈ lw_all := lw_g (lw_at lw_m7 39 rfl) rfl
theorem q1576 : (Jvm.Cond.selects "PullThePlugModel" ({ cls := "PullThePlugModel", name := "heirs", desc := "()I" } : Jvm.MethodName) ({ cls := "PullThePlugModel", name := "heirs", desc := "()I" } : Jvm.MethodName)) ∈ lw_all := lw_g (lw_at lw_m7 40 rfl) rfl
theorem q1577 : (Jvm.Cond.code ({ cls := "PullThePlugModel", name := "heirs", desc := "()I" } : Jvm.MethodName) prog_9_method_91_code (6 : Nat) (Option.some Jvm.ClassFile.FieldType.int)) ∈ lw_all := lw_g (lw_at lw_m7 41 rfl) rfl
theorem q1578 : (Jvm.Cond.methodLink "PullThePlugModel" (323 : Nat) ({ cls := "PullThePlugModel", name := "canHave", desc := "(III)Z" } : Jvm.MethodName)) ∈ lw_all := lw_g (lw_at lw_m7 42 rfl) rfl
theorem q1579 : (Jvm.Cond.privateMethod ({ cls := "PullThePlugModel", name := "canHave", desc := "(III)Z" } : Jvm.MethodName)) ∈ lw_tbl := lw_at lw_m7 43 rfl
theorem q1580 : (Jvm.Cond.instanceMethod ({ cls := "PullThePlugModel", name := "canHave", desc := "(III)Z" } : Jvm.MethodName)) ∈ lw_all := lw_g (lw_at lw_m7 44 rfl) rfl
theorem q1581 : (Jvm.Cond.code ({ cls := "PullThePlugModel", name := "canHave", desc := "(III)Z" } : Jvm.MethodName) prog_9_method_90_code (4 : Nat) (Option.some Jvm.ClassFile.FieldType.boolean)) ∈ lw_all := lw_g (lw_at lw_m7 45 rfl) rfl
theorem q1583 : (Jvm.Cond.instanceMethod ({ cls := "PullThePlugModel", name := "duck", desc := "(III)I" } : Jvm.MethodName)) ∈ lw_all := lw_g (lw_at lw_m7 47 rfl) rfl
theorem q1584 : (Jvm.Cond.selects "PullThePlugModel" ({ cls := "PullThePlugModel", name := "duck", desc := "(III)I" } : Jvm.MethodName) ({ cls := "PullThePlugModel", name := "duck", desc := "(III)I" } : Jvm.MethodName)) ∈ lw_all := lw_g (lw_at lw_m7 48 rfl) rfl
theorem q1585 : (Jvm.Cond.code ({ cls := "PullThePlugModel", name := "duck", desc := "(III)I" } : Jvm.MethodName) prog_9_method_95_code (8 : Nat) (Option.some Jvm.ClassFile.FieldType.int)) ∈ lw_all := lw_g (lw_at lw_m7 49 rfl) rfl
theorem q1586 : (Jvm.Cond.methodLink "PullThePlugModel" (335 : Nat) ({ cls := "PullThePlugModel", name := "goDuck", desc := "()V" } : Jvm.MethodName)) ∈ lw_all := lw_g (lw_at lw_m7 50 rfl) rfl
theorem q1587 : (Jvm.Cond.privateMethod ({ cls := "PullThePlugModel", name := "goDuck", desc := "()V" } : Jvm.MethodName)) ∈ lw_tbl := lw_at lw_m7 51 rfl
theorem q1588 : (Jvm.Cond.instanceMethod ({ cls := "PullThePlugModel", name := "goDuck", desc := "()V" } : Jvm.MethodName)) ∈ lw_all := lw_g (lw_at lw_m7 52 rfl) rfl
theorem q1589 : (Jvm.Cond.code ({ cls := "PullThePlugModel", name := "goDuck", desc := "()V" } : Jvm.MethodName) prog_9_method_94_code (4 : Nat) (Option.none : Option Jvm.ClassFile.FieldType)) ∈ lw_all := lw_g (lw_at lw_m7 53 rfl) rfl
theorem q1590 : (Jvm.Cond.methodLink "PullThePlugModel" (330 : Nat) ({ cls := "PullThePlugModel", name := "areBeside", desc := "(II)Z" } : Jvm.MethodName)) ∈ lw_all := lw_g (lw_at lw_m7 54 rfl) rfl
theorem q1591 : (Jvm.Cond.privateMethod ({ cls := "PullThePlugModel", name := "areBeside", desc := "(II)Z" } : Jvm.MethodName)) ∈ lw_tbl := lw_at lw_m7 55 rfl
theorem q1592 : (Jvm.Cond.instanceMethod ({ cls := "PullThePlugModel", name := "areBeside", desc := "(II)Z" } : Jvm.MethodName)) ∈ lw_all := lw_g (lw_at lw_m7 56 rfl) rfl
theorem q1593 : (Jvm.Cond.code ({ cls := "PullThePlugModel", name := "areBeside", desc := "(II)Z" } : Jvm.MethodName) prog_9_method_93_code (3 : Nat) (Option.some Jvm.ClassFile.FieldType.boolean)) ∈ lw_all := lw_g (lw_at lw_m7 57 rfl) rfl
theorem q1594 : (Jvm.Cond.constantLong "PullThePlugModel" (333 : Nat) (60 : Int64)) ∈ lw_all := lw_g (lw_at lw_m7 58 rfl) rfl
theorem q1595 : (Jvm.Cond.methodLink "PullThePlugModel" (326 : Nat) ({ cls := "PullThePlugModel", name := "common", desc := "(JJ)J" } : Jvm.MethodName)) ∈ lw_all := lw_g (lw_at lw_m7 59 rfl) rfl
theorem q1596 : (Jvm.Cond.static ({ cls := "PullThePlugModel", name := "common", desc := "(JJ)J" } : Jvm.MethodName)) ∈ lw_all := lw_g (lw_at lw_m7 60 rfl) rfl
theorem q1597 : (Jvm.Cond.code ({ cls := "PullThePlugModel", name := "common", desc := "(JJ)J" } : Jvm.MethodName) prog_9_method_92_code (4 : Nat) (Option.some Jvm.ClassFile.FieldType.long)) ∈ lw_all := lw_g (lw_at lw_m7 61 rfl) rfl
theorem q1599 : (Jvm.Cond.instanceMethod ({ cls := "PullThePlugModel", name := "spoon", desc := "(III)I" } : Jvm.MethodName)) ∈ lw_all := lw_g (lw_at lw_m7 63 rfl) rfl
theorem q1600 : (Jvm.Cond.selects "PullThePlugModel" ({ cls := "PullThePlugModel", name := "spoon", desc := "(III)I" } : Jvm.MethodName) ({ cls := "PullThePlugModel", name := "spoon", desc := "(III)I" } : Jvm.MethodName)) ∈ lw_all := lw_g (lw_at lw_m7 64 rfl) rfl
theorem q1601 : (Jvm.Cond.code ({ cls := "PullThePlugModel", name := "spoon", desc := "(III)I" } : Jvm.MethodName) prog_9_method_96_code (7 : Nat) (Option.some Jvm.ClassFile.FieldType.int)) ∈ lw_all := lw_g (lw_at lw_m7 65 rfl) rfl
theorem q1603 : (Jvm.Cond.instanceMethod ({ cls := "PullThePlugModel", name := "rests", desc := "(I)I" } : Jvm.MethodName)) ∈ lw_all := lw_g (lw_at lw_m7 67 rfl) rfl
theorem q1604 : (Jvm.Cond.selects "PullThePlugModel" ({ cls := "PullThePlugModel", name := "rests", desc := "(I)I" } : Jvm.MethodName) ({ cls := "PullThePlugModel", name := "rests", desc := "(I)I" } : Jvm.MethodName)) ∈ lw_all := lw_g (lw_at lw_m7 68 rfl) rfl
theorem q1605 : (Jvm.Cond.code ({ cls := "PullThePlugModel", name := "rests", desc := "(I)I" } : Jvm.MethodName) prog_9_method_99_code (5 : Nat) (Option.some Jvm.ClassFile.FieldType.int)) ∈ lw_all := lw_g (lw_at lw_m7 69 rfl) rfl
theorem q1606 : (Jvm.Cond.methodLink "PullThePlugModel" (341 : Nat) ({ cls := "PullThePlugModel", name := "isBest", desc := "(III)Z" } : Jvm.MethodName)) ∈ lw_all := lw_g (lw_at lw_m7 70 rfl) rfl
theorem q1607 : (Jvm.Cond.static ({ cls := "PullThePlugModel", name := "isBest", desc := "(III)Z" } : Jvm.MethodName)) ∈ lw_all := lw_g (lw_at lw_m7 71 rfl) rfl
theorem q1608 : (Jvm.Cond.code ({ cls := "PullThePlugModel", name := "isBest", desc := "(III)Z" } : Jvm.MethodName) prog_9_method_98_code (4 : Nat) (Option.some Jvm.ClassFile.FieldType.boolean)) ∈ lw_all := lw_g (lw_at lw_m7 72 rfl) rfl
theorem q1609 : (Jvm.Cond.methodLink "PullThePlugModel" (338 : Nat) ({ cls := "PullThePlugModel", name := "getsBy", desc := "(III)I" } : Jvm.MethodName)) ∈ lw_all := lw_g (lw_at lw_m7 73 rfl) rfl
theorem q1610 : (Jvm.Cond.static ({ cls := "PullThePlugModel", name := "getsBy", desc := "(III)I" } : Jvm.MethodName)) ∈ lw_all := lw_g (lw_at lw_m7 74 rfl) rfl
theorem q1611 : (Jvm.Cond.code ({ cls := "PullThePlugModel", name := "getsBy", desc := "(III)I" } : Jvm.MethodName) prog_9_method_97_code (3 : Nat) (Option.some Jvm.ClassFile.FieldType.int)) ∈ lw_all := lw_g (lw_at lw_m7 75 rfl) rfl
theorem q1613 : (Jvm.Cond.instanceMethod ({ cls := "PullThePlugModel", name := "law", desc := "()I" } : Jvm.MethodName)) ∈ lw_all := lw_g (lw_at lw_m7 77 rfl) rfl
theorem q1614 : (Jvm.Cond.selects "PullThePlugModel" ({ cls := "PullThePlugModel", name := "law", desc := "()I" } : Jvm.MethodName) ({ cls := "PullThePlugModel", name := "law", desc := "()I" } : Jvm.MethodName)) ∈ lw_all := lw_g (lw_at lw_m7 78 rfl) rfl
theorem q1615 : (Jvm.Cond.code ({ cls := "PullThePlugModel", name := "law", desc := "()I" } : Jvm.MethodName) prog_9_method_101_code (6 : Nat) (Option.some Jvm.ClassFile.FieldType.int)) ∈ lw_all := lw_g (lw_at lw_m7 79 rfl) rfl
theorem q1616 : (Jvm.Cond.methodLink "PullThePlugModel" (344 : Nat) ({ cls := "PullThePlugModel", name := "levelIn12", desc := "()I" } : Jvm.MethodName)) ∈ lw_all := lw_g (lw_at lw_m7 80 rfl) rfl
theorem q1617 : (Jvm.Cond.privateMethod ({ cls := "PullThePlugModel", name := "levelIn12", desc := "()I" } : Jvm.MethodName)) ∈ lw_tbl := lw_at lw_m7 81 rfl
theorem q1618 : (Jvm.Cond.instanceMethod ({ cls := "PullThePlugModel", name := "levelIn12", desc := "()I" } : Jvm.MethodName)) ∈ lw_all := lw_g (lw_at lw_m7 82 rfl) rfl
theorem q1619 : (Jvm.Cond.code ({ cls := "PullThePlugModel", name := "levelIn12", desc := "()I" } : Jvm.MethodName) prog_9_method_100_code (1 : Nat) (Option.some Jvm.ClassFile.FieldType.int)) ∈ lw_all := lw_g (lw_at lw_m7 83 rfl) rfl
theorem q1621 : (Jvm.Cond.instanceMethod ({ cls := "PullThePlugModel", name := "years", desc := "(II)I" } : Jvm.MethodName)) ∈ lw_all := lw_g (lw_at lw_m7 85 rfl) rfl
theorem q1622 : (Jvm.Cond.selects "PullThePlugModel" ({ cls := "PullThePlugModel", name := "years", desc := "(II)I" } : Jvm.MethodName) ({ cls := "PullThePlugModel", name := "years", desc := "(II)I" } : Jvm.MethodName)) ∈ lw_all := lw_g (lw_at lw_m7 86 rfl) rfl
theorem q1623 : (Jvm.Cond.code ({ cls := "PullThePlugModel", name := "years", desc := "(II)I" } : Jvm.MethodName) prog_9_method_103_code (6 : Nat) (Option.some Jvm.ClassFile.FieldType.int)) ∈ lw_all := lw_g (lw_at lw_m7 87 rfl) rfl
theorem q1624 : (Jvm.Cond.methodLink "PullThePlugModel" (351 : Nat) ({ cls := "PullThePlugModel", name := "draw", desc := "(I)I" } : Jvm.MethodName)) ∈ lw_all := lw_g (lw_at lw_m7 88 rfl) rfl
theorem q1625 : (Jvm.Cond.privateMethod ({ cls := "PullThePlugModel", name := "draw", desc := "(I)I" } : Jvm.MethodName)) ∈ lw_tbl := lw_at lw_m7 89 rfl
theorem q1626 : (Jvm.Cond.instanceMethod ({ cls := "PullThePlugModel", name := "draw", desc := "(I)I" } : Jvm.MethodName)) ∈ lw_all := lw_g (lw_at lw_m7 90 rfl) rfl
theorem q1627 : (Jvm.Cond.code ({ cls := "PullThePlugModel", name := "draw", desc := "(I)I" } : Jvm.MethodName) prog_9_method_102_code (2 : Nat) (Option.some Jvm.ClassFile.FieldType.int)) ∈ lw_all := lw_g (lw_at lw_m7 91 rfl) rfl
theorem q1628 : (Jvm.Cond.constant "PullThePlugModel" (350 : Nat) (1103515245 : Int32)) ∈ lw_all := lw_g (lw_at lw_m7 92 rfl) rfl
theorem q1630 : (Jvm.Cond.instanceMethod ({ cls := "PullThePlugModel", name := "keep", desc := "(I)Z" } : Jvm.MethodName)) ∈ lw_all := lw_g (lw_at lw_m7 94 rfl) rfl
theorem q1631 : (Jvm.Cond.selects "PullThePlugModel" ({ cls := "PullThePlugModel", name := "keep", desc := "(I)Z" } : Jvm.MethodName) ({ cls := "PullThePlugModel", name := "keep", desc := "(I)Z" } : Jvm.MethodName)) ∈ lw_all := lw_g (lw_at lw_m7 95 rfl) rfl
theorem q1632 : (Jvm.Cond.code ({ cls := "PullThePlugModel", name := "keep", desc := "(I)Z" } : Jvm.MethodName) prog_9_method_104_code (2 : Nat) (Option.some Jvm.ClassFile.FieldType.boolean)) ∈ lw_all := lw_g (lw_at lw_m7 96 rfl) rfl
theorem q1634 : (Jvm.Cond.instanceMethod ({ cls := "PullThePlugModel", name := "again", desc := "(I)Z" } : Jvm.MethodName)) ∈ lw_all := lw_g (lw_at lw_m7 98 rfl) rfl
theorem q1635 : (Jvm.Cond.selects "PullThePlugModel" ({ cls := "PullThePlugModel", name := "again", desc := "(I)Z" } : Jvm.MethodName) ({ cls := "PullThePlugModel", name := "again", desc := "(I)Z" } : Jvm.MethodName)) ∈ lw_all := lw_g (lw_at lw_m7 99 rfl) rfl
theorem q1636 : (Jvm.Cond.code ({ cls := "PullThePlugModel", name := "again", desc := "(I)Z" } : Jvm.MethodName) prog_9_method_105_code (3 : Nat) (Option.some Jvm.ClassFile.FieldType.boolean)) ∈ lw_all := lw_g (lw_at lw_m7 100 rfl) rfl
theorem q1638 : (Jvm.Cond.instanceMethod ({ cls := "PullThePlugModel", name := "count", desc := "(I)I" } : Jvm.MethodName)) ∈ lw_all := lw_g (lw_at lw_m7 102 rfl) rfl
theorem q1639 : (Jvm.Cond.selects "PullThePlugModel" ({ cls := "PullThePlugModel", name := "count", desc := "(I)I" } : Jvm.MethodName) ({ cls := "PullThePlugModel", name := "count", desc := "(I)I" } : Jvm.MethodName)) ∈ lw_all := lw_g (lw_at lw_m7 103 rfl) rfl
theorem q1640 : (Jvm.Cond.code ({ cls := "PullThePlugModel", name := "count", desc := "(I)I" } : Jvm.MethodName) prog_9_method_107_code (2 : Nat) (Option.some Jvm.ClassFile.FieldType.int)) ∈ lw_all := lw_g (lw_at lw_m7 104 rfl) rfl
theorem q1641 : (Jvm.Cond.methodLink "PullThePlugModel" (354 : Nat) ({ cls := "PullThePlugModel", name := "fullOnes", desc := "()I" } : Jvm.MethodName)) ∈ lw_all := lw_g (lw_at lw_m7 105 rfl) rfl
theorem q1642 : (Jvm.Cond.privateMethod ({ cls := "PullThePlugModel", name := "fullOnes", desc := "()I" } : Jvm.MethodName)) ∈ lw_tbl := lw_at lw_m7 106 rfl
theorem q1643 : (Jvm.Cond.instanceMethod ({ cls := "PullThePlugModel", name := "fullOnes", desc := "()I" } : Jvm.MethodName)) ∈ lw_all := lw_g (lw_at lw_m7 107 rfl) rfl
theorem q1644 : (Jvm.Cond.code ({ cls := "PullThePlugModel", name := "fullOnes", desc := "()I" } : Jvm.MethodName) prog_9_method_106_code (3 : Nat) (Option.some Jvm.ClassFile.FieldType.int)) ∈ lw_all := lw_g (lw_at lw_m7 108 rfl) rfl
theorem q1646 : (Jvm.Cond.instanceMethod ({ cls := "PullThePlugModel", name := "row", desc := "(I)J" } : Jvm.MethodName)) ∈ lw_all := lw_g (lw_at lw_m7 110 rfl) rfl
theorem q1647 : (Jvm.Cond.selects "PullThePlugModel" ({ cls := "PullThePlugModel", name := "row", desc := "(I)J" } : Jvm.MethodName) ({ cls := "PullThePlugModel", name := "row", desc := "(I)J" } : Jvm.MethodName)) ∈ lw_all := lw_g (lw_at lw_m7 111 rfl) rfl
theorem q1648 : (Jvm.Cond.code ({ cls := "PullThePlugModel", name := "row", desc := "(I)J" } : Jvm.MethodName) prog_9_method_108_code (2 : Nat) (Option.some Jvm.ClassFile.FieldType.long)) ∈ lw_all := lw_g (lw_at lw_m7 112 rfl) rfl
theorem q1653 : (Jvm.Cond.castable "PullThePlugModel" "java/lang/Object") ∈ lw_tbl := lw_at lw_m7 117 rfl
theorem in_X3 : ∀ w ∈ wsX30, w ∈ lw_all := lw_in wsX30 [1136, 1138, 1140, 1142, 1144, 1146, 1148, 1150, 1152, 1154, 1156, 1158, 1160, 1162, 1164, 1166, 1168, 1170, 1172, 1174, 1176, 1178, 1180, 1182, 1184, 1186, 1188, 1190, 1192, 1194, 1196, 1198, 1200, 1202, 1204, 1206, 1208, 1210, 1212, 1214, 1216, 1218, 1220] (by decide +kernel) (by decide +kernel)
